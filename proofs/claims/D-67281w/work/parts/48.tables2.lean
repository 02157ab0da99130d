/-! PHASE 3. A function, a scope more -/
section FN
variable {σ : mmS} {d a : Nat} {x y z : Int32} {K : Int32 → mmS → Prop} {X : Nat → mmS → Prop}
theorem c_newFunction (hd : 3 ≤ d) (h : cT σ 336 337 345 256) (hn : fN σ 336 ≤ 50000) (hc : 9 ≤ mm_bc σ) (hs : 1000000 ≤ mm_bs σ) (k : ∀ u, FS σ x y z u → K (nI (fN σ 336)) u) :
    mm_ci (MC d) 3016 [.inr (.inr (3, a)), .inl x, .inl y, .inl z] σ K X := by
  obtain ⟨d, rfl, hd⟩ := mc_pos hd
  refine mc_ci (P := mt3016) (L := 5) rfl rfl ⟨by decide, Nat.le_of_ble_eq_true rfl⟩ fun Q hK hX => b3016_0 _ _ _ _ _ _ _ _ ?_
  have h0 := h
  obtain ⟨h1, h2, h3, h4, h5⟩ := h
  have e (k : Nat) (a1 : 337 ≤ k) (a2 : k ≤ 345) : mm_n σ k = mm_n σ 337 := h5 k a1 a2
  refine ⟨rfl, Or.inl (by omega), br_p (fun hq => ?_) (fun hq => ?_)⟩
  · rw [h1] at hq
    have hf : fN σ 336 = mm_n σ 337 := nI_inj (by omega) (by omega) hq
    rw [h1, nI_dbl]
    have st : ∀ m p {X : Nat → mmS → Prop} {V : mmS → Prop}, 337 ≤ m → m ≤ 345 → mm_kd m = 0 → Gs σ 337 m (2 * fN σ 336) p → (∀ w, Gs σ 337 (m + 1) (2 * fN σ 336) w → V w) →
        mm_cr (MC d) 10002 [.inr (.inr (m, mm_v p m)), .inl (nI (2 * fN σ 336))] p (fun k2 q2 w => mm_pa w m 90 k2 q2 V) X := fun m p X V m1 m2 mk G hV => by
      have hmul : (m - 337 + 1) * (2 * fN σ 336) ≤ 9 * (2 * fN σ 336) := Nat.mul_le_mul_right _ (by omega)
      exact c_grows (by omega) (by decide) m1 mk G (by rw [e m m1 m2]; omega) (by rw [e m m1 m2]; omega) (by omega) (by omega) (by omega) hV
    refine st 337 _ (by decide) (by decide) rfl Gs.nil fun p G => st 338 p (by decide) (by decide) rfl G fun p G => st 339 p (by decide) (by decide) rfl G fun p G => st 340 p (by decide) (by decide) rfl G fun p G => b3016_72 _ _ _ _ _ _ _ _ ?_
    refine st 341 p (by decide) (by decide) rfl G fun p G => st 342 p (by decide) (by decide) rfl G fun p G => st 343 p (by decide) (by decide) rfl G fun p G => st 344 p (by decide) (by decide) rfl G fun p G => st 345 p (by decide) (by decide) rfl G fun p G => ?_
    have g := TG.of h0 (by decide) hf (by decide) G
    have gn := (G.2.2.1 337 (by decide) (by decide)).2
    have g5 := G.2.2.2.2.1
    have g6 := G.2.2.2.2.2
    exact fn_end h0 (by omega) g (by omega) (by omega) (fun u hu => hK _ _ (k u hu))
  · have hlt : fN σ 336 < mm_n σ 337 := by
      rcases Nat.lt_or_ge (fN σ 336) (mm_n σ 337) with q | q
      · exact q
      · exact absurd (by rw [h1, show fN σ 336 = mm_n σ 337 by omega]; rfl) hq
    exact fn_end h0 (by omega) (TG.id h0 hlt) (Nat.le_refl _) (Nat.le_refl _) (fun u hu => hK _ _ (k u hu))
end FN
section SC
variable {σ : mmS} {d a : Nat} {x : Int32} {K : Int32 → mmS → Prop} {X : Nat → mmS → Prop}
def scL (σ : mmS) (x : Int32) : List (Nat × Int32) := [(326, mm_f σ 346), (327, x), (328, -1), (329, -1), (330, mm_f σ 347), (331, 0)]
/-- a scope more: it is the one here -/
def OS (σ : mmS) (x : Int32) (u : mmS) : Prop :=
  TS σ 324 326 331 512 (scL σ x) u ∧ mm_f u 346 = nI (fN σ 324) ∧ (∀ k, k ≠ 324 → k ≠ 346 → mm_f u k = mm_f σ k) ∧ mm_bs σ + 12 * mm_n σ 326 ≤ mm_bs u + 12 * mm_n u 326 ∧ 64 * mm_bc σ + mm_n σ 326 ≤ 64 * mm_bc u + mm_n u 326 ∧ (mm_n u 326 = mm_n σ 326 ∨ mm_n u 326 = 2 * fN σ 324)
theorem sc_end {τ : mmS} {w2 : Option mmV} {Q : mmQ} (h : cT σ 324 326 331 512) (hn : fN σ 324 ≤ 100000) (g : TG σ 324 326 331 τ) (hs : mm_bs σ + 12 * mm_n σ 326 ≤ mm_bs τ + 12 * mm_n τ 326) (hc : 64 * mm_bc σ + mm_n σ 326 ≤ 64 * mm_bc τ + mm_n τ 326)
    (k : ∀ u, OS σ x u → Q (.inl (some (.inl (nI (fN σ 324))))) u) :
    mm_W mt3017 (MC d) Q (91, [some (.inr (.inr (3, a))), some (.inl x), w2], []) τ := by
  obtain ⟨h1, h2, h3, h4, h5⟩ := h
  obtain ⟨g1, g2, g3, g4, g5, g6, g7, g8⟩ := g
  have hb : mm_n τ 326 < 2 ^ 31 := by omega
  have e (k : Nat) (a1 : 326 ≤ k) (a2 : k ≤ 331) : mm_n τ k = mm_n τ 326 := g4 k a1 a2
  have f1 : mm_f τ 324 = nI (fN σ 324) := by rw [g1]; exact h1
  refine b3017_91 _ _ _ _ _ _ ?_
  refine wr' f1 rfl g6 hb (wr' f1 (e 327 (by decide) (by decide)) g6 hb (wr' f1 (e 328 (by decide) (by decide)) g6 hb (wr' f1 (e 329 (by decide) (by decide)) g6 hb (wr' f1 (e 330 (by decide) (by decide)) g6 hb (wr' f1 (e 331 (by decide) (by decide)) g6 hb ?_)))))
  refine b3017_157 _ _ _ _ _ _ ?_
  have e46 : mm_f τ 346 = mm_f σ 346 := by rw [g1]
  have e47 : mm_f τ 347 = mm_f σ 347 := by rw [g1]
  have hw : mm_seta (mm_seta (mm_seta (mm_seta (mm_seta (mm_seta τ 326 (fN σ 324) (mm_f τ 346)) 327 (fN σ 324) x) 328 (fN σ 324) (-1)) 329 (fN σ 324) (-1)) 330 (fN σ 324) (mm_f τ 347)) 331 (fN σ 324) 0 = Rw (fN σ 324) (scL σ x) τ := by
    rw [e46, e47]; rfl
  obtain ⟨r1, r2, r3, r4, r5, r6, r7⟩ := Rw_same (fN σ 324) (scL σ x) τ
  have ri : ∀ k i, i ≠ fN σ 324 → mm_a (Rw (fN σ 324) (scL σ x) τ) k i = mm_a τ k i := fun k i c => Rw_i c
  have rv := Rw_v (n := fN σ 324) (L := scL σ x) (σ := τ) (show ([326, 327, 328, 329, 330, 331] : List Nat).Nodup by decide)
  have rk : ∀ k, ¬ (326 ≤ k ∧ k ≤ 331) → mm_a (Rw (fN σ 324) (scL σ x) τ) k = mm_a τ k := fun k c => Rw_k (fun x hx => by
    simp only [scL, List.mem_cons, List.not_mem_nil, or_false] at hx
    rcases hx with rfl | rfl | rfl | rfl | rfl | rfl <;> (show k ≠ _; omega))
  show Q (.inl (some (.inl (mm_f (mm_setf (mm_setf (mm_seta (mm_seta (mm_seta (mm_seta (mm_seta (mm_seta τ 326 (fN σ 324) (mm_f τ 346)) 327 (fN σ 324) x) 328 (fN σ 324) (-1)) 329 (fN σ 324) (-1)) 330 (fN σ 324) (mm_f τ 347)) 331 (fN σ 324) 0) 346 (mm_f τ 324)) 324 (mm_f τ 324 + 1)) 346)))) (mm_setf (mm_setf (mm_seta (mm_seta (mm_seta (mm_seta (mm_seta (mm_seta τ 326 (fN σ 324) (mm_f τ 346)) 327 (fN σ 324) x) 328 (fN σ 324) (-1)) 329 (fN σ 324) (-1)) 330 (fN σ 324) (mm_f τ 347)) 331 (fN σ 324) 0) 346 (mm_f τ 324)) 324 (mm_f τ 324 + 1))
  rw [hw, f_other (by decide), f_same, f1, nI_s1]
  generalize Rw (fN σ 324) (scL σ x) τ = ω at r1 r2 r3 r4 r5 r6 r7 ri rv rk
  have fv : fN (mm_setf (mm_setf ω 346 (nI (fN σ 324))) 324 (nI (fN σ 324 + 1))) 324 = fN σ 324 + 1 := by
    show (mm_f (mm_setf (mm_setf ω 346 (nI (fN σ 324))) 324 (nI (fN σ 324 + 1))) 324).toNatClampNeg = _
    rw [f_same, nI_clamp (by omega)]
  refine k _ ⟨⟨⟨by rw [fv, f_same], by rw [fv, n_setf, n_setf, r3]; exact g6, by rw [n_setf, n_setf, r3]; omega, by rw [n_setf, n_setf, r3]; omega, fun k k1 k2 => by rw [n_setf, n_setf, r3]; exact e k k1 k2⟩, fv, fun k k1 k2 i hi => by rw [a_setf, a_setf, ri k i (by omega)]; exact g3 k k1 k2 i hi, fun x hx => by rw [a_setf, a_setf]; exact rv x hx, fun k hk hk2 => ?_, ?_⟩, by rw [f_other (by decide), f_same], fun k hk hk2 => by rw [f_other hk, f_other hk2, r1, g1], ?_, ?_, by rw [n_setf, n_setf, r3]; exact g8⟩
  · obtain ⟨s1, s2, s3, s4⟩ := g5 k hk hk2
    exact ⟨by rw [a_setf, a_setf, rk k hk2]; exact s1, by rw [n_setf, n_setf, r3]; exact s2, by rw [v_setf, v_setf, r4]; exact s3, by rw [l_setf, l_setf, r5]; exact s4⟩
  · show mm_r ω = _
    rw [r2]; exact g2
  · rw [n_setf, n_setf, r3]
    show _ ≤ mm_bs ω + _
    rw [r7]; exact hs
  · rw [n_setf, n_setf, r3]
    show _ ≤ 64 * mm_bc ω + _
    rw [r6]; exact hc
theorem c_openScope (hd : 3 ≤ d) (h : cT σ 324 326 331 512) (hn : fN σ 324 ≤ 50000) (hc : 9 ≤ mm_bc σ) (hs : 1000000 ≤ mm_bs σ) (k : ∀ u, OS σ x u → K (nI (fN σ 324)) u) :
    mm_ci (MC d) 3017 [.inr (.inr (3, a)), .inl x] σ K X := by
  obtain ⟨d, rfl, hd⟩ := mc_pos hd
  refine mc_ci (P := mt3017) (L := 3) rfl rfl ⟨by decide, Nat.le_of_ble_eq_true rfl⟩ fun Q hK hX => b3017_0 _ _ _ _ _ _ ?_
  have h0 := h
  obtain ⟨h1, h2, h3, h4, h5⟩ := h
  have e (k : Nat) (a1 : 326 ≤ k) (a2 : k ≤ 331) : mm_n σ k = mm_n σ 326 := h5 k a1 a2
  refine ⟨rfl, Or.inl (by omega), br_p (fun hq => ?_) (fun hq => ?_)⟩
  · rw [h1] at hq
    have hf : fN σ 324 = mm_n σ 326 := nI_inj (by omega) (by omega) hq
    rw [h1, nI_dbl]
    have st : ∀ m p {X : Nat → mmS → Prop} {V : mmS → Prop}, 326 ≤ m → m ≤ 331 → mm_kd m = 0 → Gs σ 326 m (2 * fN σ 324) p → (∀ w, Gs σ 326 (m + 1) (2 * fN σ 324) w → V w) →
        mm_cr (MC d) 10002 [.inr (.inr (m, mm_v p m)), .inl (nI (2 * fN σ 324))] p (fun k2 q2 w => mm_pa w m 90 k2 q2 V) X := fun m p X V m1 m2 mk G hV => by
      have hmul : (m - 326 + 1) * (2 * fN σ 324) ≤ 9 * (2 * fN σ 324) := Nat.mul_le_mul_right _ (by omega)
      exact c_grows (by omega) (by decide) m1 mk G (by rw [e m m1 m2]; omega) (by rw [e m m1 m2]; omega) (by omega) (by omega) (by omega) hV
    refine st 326 _ (by decide) (by decide) rfl Gs.nil fun p G => st 327 p (by decide) (by decide) rfl G fun p G => st 328 p (by decide) (by decide) rfl G fun p G => st 329 p (by decide) (by decide) rfl G fun p G => b3017_67 _ _ _ _ _ _ ?_
    refine st 330 p (by decide) (by decide) rfl G fun p G => st 331 p (by decide) (by decide) rfl G fun p G => ?_
    have g := TG.of h0 (by decide) hf (by decide) G
    have gn := (G.2.2.1 326 (by decide) (by decide)).2
    have g5 := G.2.2.2.2.1
    have g6 := G.2.2.2.2.2
    exact sc_end h0 (by omega) g (by omega) (by omega) (fun u hu => hK _ _ (k u hu))
  · have hlt : fN σ 324 < mm_n σ 326 := by
      rcases Nat.lt_or_ge (fN σ 324) (mm_n σ 326) with q | q
      · exact q
      · exact absurd (by rw [h1, show fN σ 324 = mm_n σ 326 by omega]; rfl) hq
    exact sc_end h0 (by omega) (TG.id h0 hlt) (Nat.le_refl _) (Nat.le_refl _) (fun u hu => hK _ _ (k u hu))
end SC
