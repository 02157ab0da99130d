/-! PHASE 3. leftHand() one nest deeper; the frame of a function; names found -/
section LEFTD
variable {β : Type} {T : sT} {Sh : β → Nat → Int32 → mmS → Prop} {N : Int32 → mmS → Prop} {g : Nat} {w0 : cW} {m0 e0 : Nat} {θ : cTh} {l0 : Nat} {Z : Int32 → mmS → Prop} {b : Bool} {h : Nat} {w : cW} {A : cA} {m e : Nat} {r : sR β} {σ : mmS} {i : Nat}
variable {ν a d : Nat} {Q : mmQ}
/-- enter; leftHand; nest-- is behind it -/
def leftF (d a : Nat) (Q : mmQ) (C : Int32 → mmS → Prop) (σ : mmS) : Prop :=
  mm_V (MC d) Q 3043 [.inr (.inr (3, a))] σ (fun σ1 => mm_I (MC d) Q 3069 [.inr (.inr (3, a))] σ1 C)
def cLft (T : sT) (ν : Nat) : Prop := ∀ (d a g : Nat) (w : cW) (A : cA) (m e i : Nat) (σ : mmS) (Q : mmQ) (C : Int32 → mmS → Prop), w_nu w = ν → 50 * ν + 10 ≤ d → g ≤ GQ ν → 24 ≤ m → cG T w A m e σ i → (∀ n u, Rs T (shN T ν σ) nid g w m e (th σ) (i + 1) A ((s_lv T ν).2.2.2.1 (w_x w).1 i) σ n (dec u) → C n u) → leftF d a Q C σ
theorem bd_leftHand {K : Int32 → mmS → Prop} {X : Nat → mmS → Prop} (st : St T Sh N g w0 m0 e0 θ l0 Z b h w A m e r σ i) (ng : ¬ GD σ) (he : mm_f σ 311 = nI (t_e T)) (hd : 4 ≤ d) (k : K 0 σ) : mm_ci (MC d) 3069 [.inr (.inr (3, a))] σ K X := by
  obtain ⟨d, rfl, hd⟩ := mc_pos (c := 3) (by omega)
  refine mc_ci (P := mt3069) (L := 2) rfl rfl ⟨by decide, Nat.le_of_ble_eq_true rfl⟩ fun Q hK hX => b3069_0 _ _ _ _ _ ?_
  refine st.word (by omega) (fun _ => st.word (by omega) (fun _ => ?_) (fun _ nz => absurd (END_GD st.ci (fun _ => he) nz) ng)) (fun _ nz => absurd (END_GD st.ci (fun _ => he) nz) ng)
  obtain ⟨d, rfl, hd⟩ := mc_pos (c := 2) (by omega)
  refine mc_ci (P := mt3075) (L := 4) rfl rfl ⟨by decide, Nat.le_of_ble_eq_true rfl⟩ fun Q2 hK2 hX2 => b3075_0 _ _ _ _ _ _ _ (br_n ng (hK2 _ _ ?_))
  exact mc_ci (P := mt3084) (L := 6) rfl rfl ⟨by decide, Nat.le_of_ble_eq_true rfl⟩ fun Q2 hK2 hX2 => b3084_0 _ _ _ _ _ _ _ _ _ (b3084_5 _ _ _ _ _ _ _ _ _ (br_n ng (b3084_343 _ _ _ _ _ _ _ _ _ (br_y rfl (hK2 _ _ (hK _ _ k))))))
theorem lft_no : cLft T 0 := by
  intro d a g w A m e i σ Q C hw hd hg hm hG k
  have st : St T (shN T 0 σ) nid g w m e (th σ) (i + 1) (fun n u' => ∀ u, dec u = u' → C n u) false 0 w A m e (none : sR sN) σ i := Or.inl ⟨hG, tle.rfl', by have := GQ_le 0; omega, fun n u' rs u hu => k n u (by rw [hu]; exact rs)⟩
  refine st.enter (by omega) (fun _ => rfl) (fun u st hf hp he => ?_)
  have ng : ¬ GD u := fun z => by have := hp z; omega
  refine bd_leftHand st ng (he ng) (by omega) ?_
  have st2 := st.same (u := mm_setf u 312 (mm_f u 312 - 1)) (h' := 0) (m' := m) (e' := e) (i' := i) Fr_312' (fun z => absurd z ng) (fun z => absurd z ng) (fun q => absurd q.2.1 ng) (fun c => c.setf rfl (by decide) (by decide) (by decide))
  exact st2.bad ng (nid_0 st2.ci) u rfl
theorem lft_up (ih : cAsg T ν) (ihn : cNew T ν) (ihp : cPrm T ν) : cLft T (ν + 1) := by
  intro d a g w A m e i σ Q C hw hd hg hm hG k
  have ok := hG.ok
  have hQ : GQ ν = GQ (ν + 1) + 1370 := by
    have := ok.1
    unfold GQ
    omega
  have n1 := hG.1.2.1.2.1
  have hν : w_nu w - 1 = ν := by omega
  have st : St T (shN T (ν + 1) σ) nid g w m e (th σ) (i + 1) (fun n u' => ∀ u, dec u = u' → C n u) false 0 w A m e (s_left T (s_lv T ν) (w_x w).1 i) σ i := Or.inl ⟨hG, tle.rfl', by have := GQ_le (ν + 1); omega, fun n u' rs u hu => k n u (by rw [hu]; exact rs)⟩
  refine st.enter (by omega) (fun z => by omega) (fun u st hf hp he => ?_)
  by_cases gd : GD u
  · rw [hν] at st
    have g2 := st.gd gd
    have st2 := st.rw (r' := s_b (s_left T (s_lv T ν) (w_x w).1 i) (fun n k => s_r n k)) (fun _ => by
      cases hx : s_left T (s_lv T ν) (w_x w).1 i with
      | none => rfl
      | some z => obtain ⟨z1, z2, z3⟩ := z; simp only [s_b, s_r, sA_m0])
    refine St.callP (h := 0) (c := 0) (m' := m) (s := 1) (bb := false) (b := false) (Sh' := shN T ν) (N' := nid) (r1 := s_left T (s_lv T ν) (w_x w).1) (C := C) (fun en kk => c_leftHand (w := dn w ν) (a := a) ih ihn ihp rfl (wSl_dn ok (by omega)) (by omega) (by show g + 480 ≤ GQ ν; omega) hm en kk) (n_k 0) (st2.strong gd) (fun z => z) rfl (fun v j B q x u4 st hf4 hj4 hs4 hn4 => ?_)
    rw [← hν] at st
    have st := st.leave (fun _ => by omega) ok
    refine st.ret (fun _ => rfl) (fun _ => rfl) (fun gd => hj4 gd) q (fun _ => Nat.le_refl _) (fun _ => Nat.le_refl _) (fun gd => ?_) (fun ng => ?_) u4 rfl
    · have gd4 : GD u4 := gd
      obtain ⟨kk, k1, k2⟩ := hs4 gd4
      exact ⟨kk, k1, ((k2.lo n1 hf.nn).mono (Fr_312 (x := mm_f u4 312 - 1)) gd).nu (by omega)⟩
    · exact (hn4 ng).mono Fr_312
  · refine bd_leftHand st gd (he gd) (by omega) ?_
    have st2 := st.same (u := mm_setf u 312 (mm_f u 312 - 1)) (h' := 0) (m' := m) (e' := e) (i' := i) Fr_312' (fun z => absurd z gd) (fun z => absurd z gd) (fun q => absurd q.2.1 gd) (fun c => c.setf rfl (by decide) (by decide) (by decide))
    exact st2.bad gd (nid_0 st2.ci) u rfl
/-- behind finish() -/
def fnE (σ v : mmS) : mmS := kpS (mm_setf (mm_setf v 346 (mm_f σ 346)) 347 (mm_f σ 347)) (kpt σ)
/-- within a function: what is read there, as if from outside -/
theorem St.frame {u : mmS} {h' m' : Nat} {s y : Int32} {r r0 : sR β} (st : St T Sh N g w0 m0 e0 θ l0 Z b h w A m e r0 σ i) (hw : GD σ → w = w0) (bg : BGu σ s y u)
    (hs : GD σ → sim (fun L L' => (∃ a, L = (1, a) :: L') ∧ L' = A.1) (run (w_in w0) (bgA A s) r) (run (w_in w0) A r0))
    (hg : cG T w A m e σ i → cG T (bgW w s (fN σ 324) (fN σ 336)) (bgA A s) m' e u i) (hb : cB T (g + h) σ → cB T (g + h') u) (hh : GD σ → g + h' ≤ 69500) :
    St T (fun v q n u => Sh v q n (fnE σ u)) (fun n u => N n (fnE σ u)) g (bgW w s (fN σ 324) (fN σ 336)) m0 e0 (th σ) l0 (fun n v => Z n (fnE σ v)) b h' (bgW w s (fN σ 324) (fN σ 336)) (bgA A s) m' e r u i := by
  have bf := bg.1
  have b324 := bg.2.1
  have b326 := bg.2.2.2.2.1
  have I := st.ci
  rcases st with ⟨q1, q2, q3, q4⟩ | ⟨q1, q2, q3⟩
  · have gd := q1.2.1
    have gu := hg q1
    have hw := hw gd
    subst hw
    refine Or.inl ⟨gu, th_le2 q1 gu bf (Nat.le_refl _), hh gd, fun n v rs => q4 n (fnE σ v) ?_⟩
    obtain ⟨f2, rs⟩ := rs
    have f1 : Fr (th σ) σ v := bf.trans f2
    refine ⟨(f1.trans Fr.fin).mono (fun _ => q2), ?_⟩
    rcases rs with ⟨v1, j, B1, q, x1, x2, x3, x4⟩ | ⟨x1, x2, x3⟩
    · obtain ⟨B2, s1, s2, ⟨a, s3⟩, s4⟩ := (hs gd).some x1
      refine Or.inl ⟨v1, j, B2, q, s1, ?_, x3, x4⟩
      obtain ⟨R, b1, z1, z2, -⟩ := x2.2.2.2.2.2.2.1
      have z46 : mm_f v 346 = nI (fN σ 324) := x2.2.2.2.2.2.1.1
      rw [s3, z46] at z2
      have cp := x2.caps
      have cp0 := q1.caps
      have pp := (path_pop z2 (by omega) (by omega)).2
      rw [up_326 f2 (by omega), b326, q1.2.2.2.2.2.1.1, s4] at pp
      have gf := q1.fin x2 ⟨rfl, rfl, rfl⟩ f1 ⟨R, _, z1, pp⟩
      rw [show B2 = (A.1, B1.2) from Prod.ext s4 s2.symm]
      unfold fnE
      rw [q1.2.2.2.2.2.1.1, q1.2.2.2.2.2.1.2]
      exact gf
    · refine Or.inr ⟨?_, cB.fin x2 (cI.back I x2.1 f1), x3⟩
      rcases x1 with x1 | x1
      · exact Or.inl ((hs gd).none x1)
      · exact absurd gu.2.1 x1
  · have ng := q2.no
    refine Or.inr ⟨q1, hb q2, fun n v f c hn => ?_⟩
    have f1 : Fr (th σ) σ v := bf.trans f
    exact q3 n (fnE σ v) ((f1.trans Fr.fin).mono fun z => absurd z ng) (cB.fin c (cI.back I c.1 f1)) hn
end LEFTD
section FINDN
variable {σ : mmS} {R : Nat → List Nat} {s a d : Nat} {n : Int32} {K : Int32 → mmS → Prop} {X : Nat → mmS → Prop}
theorem find_loopN (h : cT σ 325 332 335 2048) {Q : mmQ} {v1 : Int32} : ∀ (l : List Nat) (e : Int32), lnk σ l e → (∀ k ∈ l, k < fN σ 325) → (h_find (ens σ l) n = none → Q (.inl (some (.inl (-1)))) σ) →
    (∀ r, r ∈ l → mm_a σ 332 r = n → (h_find (ens σ l) n).isSome = true → Q (.inl (some (.inl (nI r)))) σ) →
    mm_W mt3031 (MC d) Q (7, [some (.inr (.inr (3, a))), some (.inl v1), some (.inl n), some (.inl e)], []) σ
  | [], e, hl, _, h0, _ => by
    rw [show e = -1 from hl]
    exact b3031_7 _ _ _ _ _ _ _ (br_y (by decide) (h0 rfl))
  | k :: t, e, hl, hb, h0, h1 => by
    obtain ⟨rfl, hl⟩ := hl
    have hk := hb k List.mem_cons_self
    have e2 : fN σ 325 ≤ mm_n σ 332 := h.2.1
    have e4 := h.2.2.2.1
    have en (j : Nat) (j1 : 332 ≤ j) (j2 : j ≤ 335) : mm_n σ j = mm_n σ 332 := h.2.2.2.2 j j1 j2
    have ec : ens σ (k :: t) = (cls (mm_a σ 333 k), mm_a σ 332 k) :: ens σ t := rfl
    have go : h_find (ens σ (k :: t)) n = h_find (ens σ t) n → mm_W mt3031 (MC d) Q (7, [some (.inr (.inr (3, a))), some (.inl v1), some (.inl n), some (.inl (mm_a σ 334 k))], []) σ := fun q =>
      find_loopN h t _ hl (fun r hr => hb r (List.mem_cons_of_mem _ hr)) (fun z => h0 (q.trans z)) (fun r hr z1 z => h1 r (List.mem_cons_of_mem _ hr) z1 (by rw [q]; exact z))
    refine b3031_7 _ _ _ _ _ _ _ (br_n (nI_pos (by omega)) (rd rfl (by omega) (by omega) (br_p (fun c => rd (en 333 (by decide) (by decide)) (by omega) (by omega) (br_p (fun g => rd (en 334 (by decide) (by decide)) (by omega) (by omega) (go ?_)) fun g => h1 k List.mem_cons_self c ?_)) fun c => rd (en 334 (by decide) (by decide)) (by omega) (by omega) (go ?_))))
    · rw [ec]
      unfold h_find
      rw [List.find?_cons_of_neg (by simp [c, cls_8.mpr g])]
    · rw [ec]
      unfold h_find
      rw [List.find?_cons_of_pos (by simp [c, cls_8, g])]
      rfl
    · rw [ec]
      unfold h_find
      rw [List.find?_cons_of_neg (by simp [c])]
theorem c_findN (hd : 1 ≤ d) (h : stru σ R) (hs : s < fN σ 324) (h0 : h_find (ens σ (R s)) n = none → K (-1) σ) (h1 : ∀ r, r ∈ R s → mm_a σ 332 r = n → (h_find (ens σ (R s)) n).isSome = true → K (nI r) σ) :
    mm_ci (MC d) 3031 [.inr (.inr (3, a)), .inl (nI s), .inl n] σ K X := by
  obtain ⟨d, rfl, hd⟩ := mc_pos hd
  refine mc_ci (P := mt3031) (L := 4) rfl rfl ⟨by decide, Nat.le_of_ble_eq_true rfl⟩ fun Q hK hX => b3031_0 _ _ _ _ _ _ _ ?_
  obtain ⟨g1, g2, g3, g4⟩ := h
  obtain ⟨l1, l2, l3, -⟩ := g3 s hs
  have e2 := g1.2.1
  have e4 := g1.2.2.2.1
  exact rd (g1.2.2.2.2 328 (by decide) (by decide)) (by omega) (by omega) (find_loopN g2 (R s) _ l1 l3 (fun q => hK _ _ (h0 q)) (fun r hr z q => hK _ _ (h1 r hr z q)))
theorem R_uni {R R' : Nat → List Nat} {s : Nat} (h : stru σ R) (h' : stru σ R') (hs : s < fN σ 324) (hc : fN σ 325 ≤ 129500) : R' s = R s := by
  obtain ⟨t, ht⟩ := R_pre h h' gro.rfl' hs hs hc hc
  obtain ⟨t', ht'⟩ := R_pre h' h gro.rfl' hs hs hc hc
  have e := congrArg List.length ht
  have e' := congrArg List.length ht'
  rw [List.length_append] at e e'
  have : t = [] := List.length_eq_zero_iff.mp (by omega)
  rw [ht, this, List.append_nil]
end FINDN
