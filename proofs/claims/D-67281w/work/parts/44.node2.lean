/-! PHASE 3. The table of nodes grows; a node is made -/
theorem n_fill' {σ : mmS} {k : Nat} {g : Nat → Int32} : mm_f (mm_fill σ k g) = mm_f σ := rfl
/-- the table has grown to twice as many places -/
def NG (σ τ : mmS) : Prop :=
  mm_f τ = mm_f σ ∧ mm_r τ = mm_r σ ∧ cN τ ∧ (∀ k, 316 ≤ k → k ≤ 323 → ∀ i, i < fN σ 315 → mm_a τ k i = mm_a σ k i) ∧ (∀ k, lsN k → sam σ τ k) ∧ mm_n τ 316 = 2 * fN σ 315 ∧ mm_bs τ + 16 * fN σ 315 = mm_bs σ ∧ mm_bc τ + 8 = mm_bc σ
theorem NS.grown {σ τ u : mmS} {w x y z : Int32} (hf : fN σ 315 = mm_n σ 316) (h4 : 4096 ≤ mm_n σ 316) (g : NG σ τ) (h : NS τ w x y z u) : NS σ w x y z u := by
  obtain ⟨g1, g2, g3, g4, g5, g6, g7, g8⟩ := g
  obtain ⟨h1, h2, h3, hr, h5, h6, h7, h8, h9, h10, h11⟩ := h
  have e : fN τ 315 = fN σ 315 := by unfold fN; rw [g1]
  rw [e] at h2 h5 h6 h11
  refine ⟨h1, h2, fun k hk => by rw [h3 k hk, g1], hr.trans g2, fun k k1 k2 i hi => by rw [h5 k k1 k2 i hi, g4 k k1 k2 i hi], h6, fun k hk => (g5 k hk).trans (h7 k hk), by omega, by omega, by omega, Or.inr (by omega)⟩
theorem node_bool {σ p : mmS} {d a : Nat} {w x y z : Int32} {w6 : Option mmV} {Q : mmQ} (hd : 2 ≤ d) (h : cN σ) (hf : fN σ 315 = mm_n σ 316) (hn : fN σ 315 ≤ 85000) (hc : 8 ≤ mm_bc σ) (hs : 1360000 ≤ mm_bs σ) (G : Gs σ 316 320 (2 * fN σ 315) p)
    (k : ∀ u, NS σ w x y z u → Q (.inl (some (.inl (nI (fN σ 315))))) u) :
    mm_W mt3051 (MC d) Q (72, [some (.inr (.inr (3, a))), some (.inl w), some (.inl x), some (.inl y), some (.inl z), some (.inl (nI (2 * fN σ 315))), w6], []) p := by
  obtain ⟨h1, h2, h3, h4, h5, h6, h7⟩ := h
  have e (k : Nat) (a1 : 316 ≤ k) (a2 : k ≤ 323) : mm_n σ k = mm_n σ 316 := h6 k a1 a2
  have eN : (nI (2 * fN σ 315)).toNatClampNeg = 2 * fN σ 315 := nI_clamp (by omega)
  refine b3051_72 _ _ _ _ _ _ _ _ _ _ ?_
  refine c_grows hd (by decide) (by decide) rfl G (by rw [e 320 (by decide) (by decide)]; omega) (by rw [e 320 (by decide) (by decide)]; omega) (by omega) (by omega) (by omega) (fun p G => ?_)
  refine c_grows hd (by decide) (by decide) rfl G (by rw [e 321 (by decide) (by decide)]; omega) (by rw [e 321 (by decide) (by decide)]; omega) (by omega) (by omega) (by omega) (fun p G => ?_)
  refine c_grows hd (by decide) (by decide) rfl G (by rw [e 322 (by decide) (by decide)]; omega) (by rw [e 322 (by decide) (by decide)]; omega) (by omega) (by omega) (by omega) (fun p G => ?_)
  obtain ⟨G1, G2, G3, G4, G5, G6⟩ := G
  have s323 := G4 323 (Or.inr (by decide)) (by omega)
  rw [eN]
  refine ⟨nI_pos (by omega), by omega, by omega, by omega, fun q => ⟨rfl, by rw [v_make, if_pos rfl], by rw [n_make, if_pos rfl]; omega, ?_⟩⟩
  have ef : mm_f p 315 = nI (fN σ 315) := by rw [G1]; exact h1
  have eL : (nI (fN σ 315)).toNatClampNeg = fN σ 315 := nI_clamp (by omega)
  generalize hM : mm_make p 92 (2 * fN σ 315) q (fun _ => 0) (fun _ => 0) = M
  have Mf : mm_f M = mm_f p := by rw [← hM]; rfl
  have Mr : mm_r M = mm_r p := by rw [← hM]; rfl
  have Ma : ∀ j, j ≠ 92 → mm_a M j = mm_a p j ∧ mm_n M j = mm_n p j ∧ mm_v M j = mm_v p j ∧ mm_l M j = mm_l p j := fun j hj => by
    rw [← hM]
    exact ⟨by rw [a_make, if_neg hj], by rw [n_make, if_neg hj], by rw [v_make, if_neg hj], by rw [l_make, if_neg hj]⟩
  have Mn : mm_n M 92 = 2 * fN σ 315 := by rw [← hM, n_make, if_pos rfl]
  have Mc : mm_bc M = mm_bc p - 1 := by rw [← hM]; rfl
  have Ms : mm_bs M = mm_bs p - 2 * fN σ 315 := by rw [← hM]; rfl
  clear hM
  generalize hS : mm_move (mm_move M 323 89) 92 323 = S
  have Sf : mm_f S = mm_f p := by rw [← hS]; exact Mf
  have Sr : mm_r S = mm_r p := by rw [← hS]; exact Mr
  have S89 : mm_a S 89 = mm_a p 323 ∧ mm_n S 89 = mm_n p 323 ∧ mm_v S 89 = mm_v p 323 := by
    rw [← hS]
    refine ⟨?_, ?_, ?_⟩
    · rw [a_move, if_neg (by decide), a_move, if_pos rfl]; exact (Ma 323 (by decide)).1
    · rw [n_move, if_neg (by decide), if_neg (by decide), n_move, if_neg (by decide), if_pos rfl]; exact (Ma 323 (by decide)).2.1
    · rw [v_move, if_neg (by decide), v_move, if_pos rfl]; exact (Ma 323 (by decide)).2.2.1
  have Sn : mm_n S 323 = 2 * fN σ 315 := by rw [← hS, n_move, if_neg (by decide), if_pos rfl, n_move, if_neg (by decide), if_neg (by decide)]; exact Mn
  have Sa : ∀ j, lst j → j ≠ 323 → sam p S j := fun j hj hj3 => by
    have hj : j < 89 ∨ 95 < j := hj
    obtain ⟨m1, m2, m3, m4⟩ := Ma j (by omega)
    rw [← hS]
    refine ⟨?_, ?_, ?_, ?_⟩
    · rw [a_move, if_neg hj3, a_move, if_neg (by omega)]; exact m1
    · rw [n_move, if_neg (by omega), if_neg hj3, n_move, if_neg (by omega), if_neg (by omega)]; exact m2
    · rw [v_move, if_neg hj3, v_move, if_neg (by omega)]; exact m3
    · rw [l_move, if_neg hj3, l_move, if_neg (by omega)]; exact m4
  have Sc : mm_bc S = mm_bc p - 1 := by rw [← hS]; exact Mc
  have Ss : mm_bs S = mm_bs p - 2 * fN σ 315 := by rw [← hS]; exact Ms
  clear hS
  rw [Sf, ef]
  have n323 : mm_n p 323 = fN σ 315 := by rw [s323.2.1, e 323 (by decide) (by decide), hf]
  refine ⟨by decide, rfl, rfl, rfl, by rw [S89.2.2], rfl, rfl, nI_pos (by omega), by rw [eL, Sn]; omega, by rw [eL, S89.2.1, n323]; exact Nat.le_refl _, by rw [S89.2.1, n323]; omega, by rw [Sn]; omega, fun i hi => ?_, ?_⟩
  · rw [eL] at hi
    rw [S89.1, s323.1]
    exact h7 i hi
  · rw [eL]
    generalize hτ : mm_fill S 323 (fun i => if i < fN σ 315 then mm_a S 89 i else mm_a S 323 i) = τ
    have tf : mm_f τ = mm_f σ := by rw [← hτ]; exact Sf.trans G1
    have tn : ∀ j, mm_n τ j = mm_n S j := fun j => by rw [← hτ]; rfl
    have te : fN τ 315 = fN σ 315 := by unfold fN; rw [tf]
    have ta : ∀ i, i < fN σ 315 → mm_a τ 323 i = mm_a σ 323 i := fun i hi => by
      rw [← hτ, a_fill, if_pos rfl, if_pos hi, S89.1, s323.1]
    have tk : ∀ j, j ≠ 323 → mm_a τ j = mm_a S j := fun j hj => by rw [← hτ, a_fill, if_neg hj]
    have tl : ∀ j, mm_v τ j = mm_v S j ∧ mm_l τ j = mm_l S j := fun j => by rw [← hτ]; exact ⟨rfl, rfl⟩
    have tc : mm_bc τ = mm_bc S := by rw [← hτ]; rfl
    have ts : mm_bs τ = mm_bs S := by rw [← hτ]; rfl
    have tr : mm_r τ = mm_r S := by rw [← hτ]; rfl
    clear hτ
    have tN : ∀ k, 316 ≤ k → k ≤ 323 → mm_n τ k = 2 * fN σ 315 := fun k k1 k2 => by
      rw [tn]
      by_cases c : k = 323
      · rw [c]; exact Sn
      · rw [(Sa k (Or.inr (by omega)) c).2.1]; exact (G3 k k1 (by omega)).2
    have g : NG σ τ := by
      refine ⟨tf, by rw [tr, Sr, G2], ⟨by rw [te, tf]; exact h1, by omega, by rw [te, tN 316 (by decide) (by decide)]; omega, by rw [tN 316 (by decide) (by decide)]; omega, by rw [tN 316 (by decide) (by decide)]; omega, fun k k1 k2 => by rw [tN k k1 k2, tN 316 (by decide) (by decide)], fun i hi => ?_⟩, fun k k1 k2 i hi => ?_, fun k hk => ?_, tN 316 (by decide) (by decide), by omega, by omega⟩
      · rw [te] at hi
        rw [ta i hi]
        exact h7 i hi
      · by_cases c : k = 323
        · rw [c]; exact ta i hi
        · rw [tk k c, (Sa k (Or.inr (by omega)) c).1]
          exact (G3 k k1 (by omega)).1 i (by rw [e k k1 k2]; omega)
      · have c : k ≠ 323 := fun c => hk.2 ⟨by omega, by omega⟩
        have s := Sa k hk.1 c
        have s2 := G4 k hk.1 (fun c => hk.2 ⟨c.1, by omega⟩)
        exact ⟨by rw [tk k c, s.1, s2.1], by rw [tn, s.2.1, s2.2.1], by rw [(tl k).1, s.2.2.1, s2.2.2.1], by rw [(tl k).2, s.2.2.2, s2.2.2.2]⟩
    refine node_end g.2.2.1 (by rw [te, tN 316 (by decide) (by decide)]; omega) (fun u hu => ?_)
    rw [te]
    exact k u (hu.grown hf h4 g)
theorem c_node {σ : mmS} {d a : Nat} {w x y z : Int32} {K : Int32 → mmS → Prop} {X : Nat → mmS → Prop} (hd : 3 ≤ d) (h : cN σ) (hn : fN σ 315 ≤ 85000) (hc : 8 ≤ mm_bc σ) (hs : 1360000 ≤ mm_bs σ) (k : ∀ u, NS σ w x y z u → K (nI (fN σ 315)) u) :
    mm_ci (MC d) 3051 [.inr (.inr (3, a)), .inl w, .inl x, .inl y, .inl z] σ K X := by
  obtain ⟨d, rfl, hd⟩ := mc_pos hd
  refine mc_ci (P := mt3051) (L := 7) rfl rfl ⟨by decide, Nat.le_of_ble_eq_true rfl⟩ fun Q hK hX => b3051_0 _ _ _ _ _ _ _ _ _ _ ?_
  have h0 := h
  obtain ⟨h1, h2, h3, h4, h5, h6, h7⟩ := h
  have e (k : Nat) (a1 : 316 ≤ k) (a2 : k ≤ 323) : mm_n σ k = mm_n σ 316 := h6 k a1 a2
  refine ⟨rfl, Or.inl (by omega), br_p (fun hq => ?_) (fun hq => ?_)⟩
  · rw [h1] at hq
    have hf : fN σ 315 = mm_n σ 316 := nI_inj (by omega) (by omega) hq
    rw [h1, nI_dbl]
    refine c_grows (by omega) (by decide) (Nat.le_refl _) rfl Gs.nil (by omega) (by omega) (by omega) (by omega) (by omega) (fun p G => ?_)
    refine c_grows (by omega) (by decide) (by decide) rfl G (by rw [e 317 (by decide) (by decide)]; omega) (by rw [e 317 (by decide) (by decide)]; omega) (by omega) (by omega) (by omega) (fun p G => ?_)
    refine c_grows (by omega) (by decide) (by decide) rfl G (by rw [e 318 (by decide) (by decide)]; omega) (by rw [e 318 (by decide) (by decide)]; omega) (by omega) (by omega) (by omega) (fun p G => ?_)
    refine c_grows (by omega) (by decide) (by decide) rfl G (by rw [e 319 (by decide) (by decide)]; omega) (by rw [e 319 (by decide) (by decide)]; omega) (by omega) (by omega) (by omega) (fun p G => ?_)
    exact node_bool (by omega) h0 hf hn hc hs G (fun u hu => hK _ _ (k u hu))
  · have hlt : fN σ 315 < mm_n σ 316 := by
      rcases Nat.lt_or_ge (fN σ 315) (mm_n σ 316) with q | q
      · exact q
      · exact absurd (by rw [h1, show fN σ 315 = mm_n σ 316 by omega]; rfl) hq
    exact node_end h0 hlt (fun u hu => hK _ _ (k u hu))
