/-! PHASE 3. A var is declared: up to the top of the function -/
/-- room for names -/
def rsN (σ : mmS) : Prop := 3300000 ≤ mm_bs σ + 8 * mm_n σ 332 ∧ 300000 ≤ 64 * mm_bc σ + mm_n σ 332
theorem rsN.add {σ u : mmS} {R : Nat → List Nat} {s : Nat} {n r : Int32} (h : rsN σ) (a : AS σ R s n r u) : rsN u := by
  obtain ⟨-, -, -, -, -, -, a1, a2, -⟩ := a
  obtain ⟨h1, h2⟩ := h
  exact ⟨by omega, by omega⟩
theorem rsN.use {σ : mmS} (h : rsN σ) (c : cT σ 325 332 335 2048) : 9 ≤ mm_bc σ ∧ 1100000 ≤ mm_bs σ := by
  have := c.2.2.2.1
  obtain ⟨h1, h2⟩ := h
  exact ⟨by omega, by omega⟩
/-- what a declaration leaves as it was: fields but for the count (in bad mode: and wrong, p); slots; scopes from b on; room -/
def DV (T : sT) (σ : mmS) (R : Nat → List Nat) (b c : Nat) (u : mmS) (R2 : Nat → List Nat) : Prop :=
  stru u R2 ∧ (∀ k, k ≠ 325 → k ≠ 303 → k ≠ 311 → mm_f u k = mm_f σ k) ∧ (mm_r u = mm_r σ ∧ gro σ u) ∧ (∀ k, lsS k → sam σ u k) ∧ (∀ t, b ≤ t → t < fN σ 324 → ens u (R2 t) = ens σ (R t)) ∧
  fN u 325 ≤ fN σ 325 + c ∧ fN σ 325 ≤ fN u 325 ∧ rsN u ∧ mm_bs σ + 8 * mm_n σ 332 ≤ mm_bs u + 8 * mm_n u 332 ∧ 64 * mm_bc σ + mm_n σ 332 ≤ 64 * mm_bc u + mm_n u 332 ∧ (mm_n u 332 = mm_n σ 332 ∨ mm_n u 332 ≤ 2 * fN u 325) ∧
  ((mm_f u 303 = mm_f σ 303 ∧ mm_f u 311 = mm_f σ 311) ∨ (mm_f u 303 = 1 ∧ mm_f u 311 = nI (t_e T)))
theorem DV.rfl' {T : sT} {σ : mmS} {R : Nat → List Nat} {b c : Nat} (h : stru σ R) (hr : rsN σ) : DV T σ R b c σ R :=
  ⟨h, fun _ _ _ _ => rfl, ⟨rfl, gro.rfl'⟩, fun _ _ => sam.rfl', fun _ _ _ => rfl, by omega, Nat.le_refl _, hr, Nat.le_refl _, Nat.le_refl _, Or.inl rfl, Or.inl ⟨rfl, rfl⟩⟩
theorem DV.trans {T : sT} {σ u w : mmS} {R R2 R3 : Nat → List Nat} {b b' c c' : Nat} (h : DV T σ R b c u R2) (g : DV T u R2 b' c' w R3) (hb : b' ≤ b) : DV T σ R b (c + c') w R3 := by
  obtain ⟨h1, h2, h3, h4, h5, h6, h7, h8, h9, h10, h11, h12⟩ := h
  obtain ⟨g1, g2, g3, g4, g5, g6, g7, g8, g9, g10, g11, g12⟩ := g
  have f : fN u 324 = fN σ 324 := by unfold fN; rw [h2 324 (by decide) (by decide) (by decide)]
  refine ⟨g1, fun k k1 k2 k3 => by rw [g2 k k1 k2 k3, h2 k k1 k2 k3], ⟨g3.1.trans h3.1, h3.2.trans g3.2 (Nat.le_of_eq f.symm) h7⟩, fun k hk => (h4 k hk).trans (g4 k hk), fun t t1 t2 => by rw [g5 t (by omega) (by rw [f]; exact t2), h5 t t1 t2], by omega, by omega, g8, by omega, by omega, by omega, ?_⟩
  rcases g12 with ⟨q1, q2⟩ | q
  · rw [q1, q2]; exact h12
  · exact Or.inr q
theorem DV.add {T : sT} {σ u : mmS} {R : Nat → List Nat} {s b : Nat} {n r : Int32} (hr : rsN σ) (hsb : s < b) (a : AS σ R s n r u) : DV T σ R b 1 u (Rad R s (fN σ 325)) := by
  have hu := hr.add a
  obtain ⟨a1, a2, a3, a4, a5, a6, a7, a8, a9⟩ := a
  exact ⟨a1, fun k k1 _ _ => a3 k k1, a4, a6, fun t t1 t2 => by rw [a5 t t2, if_neg (by omega)], by omega, by omega, hu, a7, a8, by omega, Or.inl ⟨a3 303 (by decide), a3 311 (by decide)⟩⟩
theorem stru.setf {σ : mmS} {R : Nat → List Nat} {k : Nat} {x : Int32} (h : stru σ R) (h1 : k ≠ 324) (h2 : k ≠ 325) : stru (mm_setf σ k x) R := by
  have f4 : fN (mm_setf σ k x) 324 = fN σ 324 := by unfold fN; rw [f_other h1.symm]
  have f5 : fN (mm_setf σ k x) 325 = fN σ 325 := by unfold fN; rw [f_other h2.symm]
  obtain ⟨⟨a1, a2⟩, ⟨b1, b2⟩, c, d⟩ := h
  refine ⟨⟨by rw [f4, f_other h1.symm]; exact a1, by rw [f4]; exact a2⟩, ⟨by rw [f5, f_other h2.symm]; exact b1, by rw [f5]; exact b2⟩, fun s hs => ?_, fun s s' k h1 h2 => by rw [f4] at h1 h2; exact d s s' k h1 h2⟩
  rw [f4] at hs
  rw [f5]
  obtain ⟨l1, l2, l3, l4⟩ := c s hs
  exact ⟨lnk_same (σ := σ) (fun _ _ => rfl) l1, l2, l3, l4⟩
theorem stru_fl {T : sT} {σ : mmS} {R : Nat → List Nat} (h : stru σ R) : stru (fl T σ) R := (h.setf (by decide) (by decide)).setf (by decide) (by decide)
theorem DV_fl {T : sT} {σ : mmS} {R : Nat → List Nat} {b c : Nat} (h : stru σ R) (hr : rsN σ) : DV T σ R b c (fl T σ) R := by
  have f5 : fN (fl T σ) 325 = fN σ 325 := by
    show (mm_f (mm_setf (mm_setf σ 303 1) 311 (nI (t_e T))) 325).toNatClampNeg = _
    rw [f_other (by decide), f_other (by decide)]; rfl
  refine ⟨stru_fl h, fun k k1 k2 k3 => ?_, ⟨rfl, gro.of rfl rfl rfl⟩, fun _ _ => sam.rfl', fun _ _ _ => rfl, by omega, by omega, hr, Nat.le_refl _, Nat.le_refl _, Or.inl rfl, Or.inr ⟨?_, ?_⟩⟩
  · show mm_f (mm_setf (mm_setf σ 303 1) 311 (nI (t_e T))) k = _
    rw [f_other k3, f_other k2]
  · show mm_f (mm_setf (mm_setf σ 303 1) 311 (nI (t_e T))) 303 = _
    rw [f_other (by decide), f_same]
  · show mm_f (mm_setf (mm_setf σ 303 1) 311 (nI (t_e T))) 311 = _
    rw [f_same]
theorem path_fl {T : sT} {σ : mmS} {R : Nat → List Nat} {L : hC} {e : Int32} {b : Nat} (h : path σ R L e b) : path (fl T σ) R L e b := by
  refine path_same (σ := σ) (u := fl T σ) (R := R) (R2 := R) (c := b) ?_ ⟨rfl, rfl⟩ (fun _ _ _ => rfl) h (Nat.le_refl _)
  show (mm_f (mm_setf (mm_setf σ 303 1) 311 (nI (t_e T))) 324).toNatClampNeg = _
  rw [f_other (by decide), f_other (by decide)]; rfl
theorem DV.cast' {T : sT} {σ u : mmS} {R R2 : Nat → List Nat} {b c c' : Nat} (h : DV T σ R b c u R2) (e : c = c') : DV T σ R b c' u R2 := by rw [← e]; exact h
theorem DV.mono {T : sT} {σ u : mmS} {R R2 : Nat → List Nat} {b c c' : Nat} (h : DV T σ R b c u R2) (e : c ≤ c') : DV T σ R b c' u R2 := by
  obtain ⟨h1, h2, h3, h4, h5, h6, h7⟩ := h
  exact ⟨h1, h2, h3, h4, h5, by omega, h7⟩
