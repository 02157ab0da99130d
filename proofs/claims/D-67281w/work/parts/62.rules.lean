/-! PHASE 3. What a method answers for; the rules of walking -/
def nid (n : Int32) (u : mmS) : Prop := ∃ k, n = nI k ∧ k < fN u 315
def any2 (_ : Int32) (_ : mmS) : Prop := True
/-- behind a method: good as its grammar says, or bad -/
def Rs {β : Type} (T : sT) (Sh : β → Nat → Int32 → mmS → Prop) (N : Int32 → mmS → Prop) (g : Nat) (w : cW) (m e : Nat) (θ : cTh) (l0 : Nat) (A : cA) (r : sR β) (σ : mmS) (n : Int32) (u : mmS) : Prop :=
  Fr θ σ u ∧ ((∃ v j B q, run (w_in w) A r = some (v, j, B) ∧ cG T w B (m + q) e u j ∧ Sh v q n u ∧ l0 ≤ j) ∨ ((run (w_in w) A r = none ∨ ¬ GD σ) ∧ cB T g u ∧ N n u))
/-- in the middle of a method: r is still to be read; b: may it be bad already -/
def St {β : Type} (T : sT) (Sh : β → Nat → Int32 → mmS → Prop) (N : Int32 → mmS → Prop) (g : Nat) (w0 : cW) (m0 e0 : Nat) (θ : cTh) (l0 : Nat) (Z : Int32 → mmS → Prop) (b : Bool) (h : Nat) (w : cW) (A : cA) (m e : Nat) (r : sR β) (σ : mmS) (i : Nat) : Prop :=
  (cG T w A m e σ i ∧ tle θ (th σ) ∧ g + h ≤ 69500 ∧ ∀ n u, Rs T Sh N g w0 m0 e0 θ l0 A r σ n u → Z n u) ∨ (b = true ∧ cB T (g + h) σ ∧ ∀ n u, Fr θ σ u → cB T g u → N n u → Z n u)
/-- what is put by for the rest of a nest -/
def GQ (ν : Nat) : Nat := 1370 * (49 - ν)
theorem GQ_le (ν : Nat) : GQ ν ≤ 67130 := by unfold GQ; omega
/-- a method's contract -/
def CI {β : Type} (T : sT) (Sh : mmS → β → Nat → Int32 → mmS → Prop) (N : Int32 → mmS → Prop) (D c q : Nat) (bb : Bool) (s : Nat) (w : cW) (r : Nat → sR β) (y : Nat) (as : List mmV) : Prop :=
  ∀ (d g : Nat) (A : cA) (m e i : Nat) (σ : mmS) (K : Int32 → mmS → Prop) (X : Nat → mmS → Prop), D ≤ d → g + q ≤ GQ (w_nu w) → 24 ≤ m → (cG T w A m e σ i ∨ (bb = true ∧ cB T (g + c) σ)) → (∀ n u, Rs T (Sh σ) N g w m e (th σ) (i + s) A (r i) σ n u → K n u) → mm_ci (MC d) y as σ K X
def CV {β : Type} (T : sT) (Sh : mmS → β → Nat → Int32 → mmS → Prop) (D c q : Nat) (bb : Bool) (s : Nat) (w : cW) (r : Nat → sR β) (y : Nat) (as : List mmV) : Prop :=
  ∀ (d g : Nat) (A : cA) (m e i : Nat) (σ : mmS) (K : mmS → Prop) (X : Nat → mmS → Prop), D ≤ d → g + q ≤ GQ (w_nu w) → 24 ≤ m → (cG T w A m e σ i ∨ (bb = true ∧ cB T (g + c) σ)) → (∀ u, Rs T (Sh σ) any2 g w m e (th σ) (i + s) A (r i) σ 0 u → K u) → mm_cv (MC d) y as σ K X
theorem cB.no {T : sT} {g : Nat} {σ : mmS} (h : cB T g σ) : ¬ GD σ := by
  unfold GD
  rw [h.2.1]
  decide
theorem cB.mono {T : sT} {g g' : Nat} {σ : mmS} (h : cB T g σ) (l : g' ≤ g) : cB T g' σ := by
  obtain ⟨h1, h2, ⟨q, q1, q2, q3, q4, h4, h5, h6⟩, h7⟩ := h
  exact ⟨h1, h2, ⟨q, q1, q2, by omega, by omega, by omega, by omega, by omega⟩, h7⟩
theorem pot_e {T : sT} : pot T (t_e T) = 0 := if_pos rfl
theorem pot_1 {T : sT} {q : Nat} (h : q ≠ t_e T) (l : t_e T ≤ q) (l2 : q < 1262) : pot T q = pot T (q + 1) + 1 := by
  unfold pot
  rw [if_neg h, if_neg (by omega)]
  omega
theorem pot_le {T : sT} {q : Nat} : pot T q ≤ 1262 := by
  unfold pot
  split <;> omega
theorem cG.mono {T : sT} {w : cW} {A : cA} {m e m' e' : Nat} {σ : mmS} {i : Nat} (h : cG T w A m e σ i) (l : m' ≤ m) (l2 : e' ≤ e) : cG T w A m' e' σ i := by
  obtain ⟨h1, h2, h3, h4, h5, h6, h7, h8, h9, h10, ⟨h11, h11b⟩, h12, c1, c2, c3, c4, n, c5, c6⟩ := h
  exact ⟨h1, h2, h3, h4, h5, h6, h7, h8, h9, h10, ⟨h11, by omega⟩, h12, by omega, by omega, by omega, by omega, n, c5, by omega⟩
/-- the token that is not the end -/
def NZ (T : sT) (σ : mmS) : Prop := ∃ q, mm_f σ 311 = nI q ∧ q < 1262 ∧ T.1 q ≠ 0
/-- fail() -/
theorem cG.bad {T : sT} {w : cW} {A : cA} {m e g : Nat} {σ : mmS} {i : Nat} (h : cG T w A m e σ i) (hg : g ≤ 69500) : cB T g (fl T σ) := by
  obtain ⟨h1, h2, h3, h4, h5, h6, h7, h8, ⟨u1, u2, u3⟩, h10, h11, h12, c1, c2, c3, c4, n, c5, c6⟩ := h
  have he : t_e T < 1262 := h1.1.2.2.2.2.2.2.2.1
  have f (k : Nat) (k1 : k ≠ 303) (k2 : k ≠ 311) : fN (fl T σ) k = fN σ k := fl_fN k1 k2
  refine ⟨(h1.setf rfl).setf rfl, fl_flags.1, ⟨t_e T, fl_flags.2, Nat.le_refl _, Or.inl (Nat.le_of_lt he), ?_, ?_, ?_, ?_⟩, _, (fl_f (by decide) (by decide)).trans u1, by omega⟩
  · rw [f 315 (by decide) (by decide), pot_e]; omega
  · rw [f 324 (by decide) (by decide), pot_e]; omega
  · rw [f 336 (by decide) (by decide), pot_e]; omega
  · rw [f 325 (by decide) (by decide), pot_e]; omega
theorem cB.again {T : sT} {g : Nat} {σ : mmS} (h : cB T g σ) : cB T g (fl T σ) := by
  obtain ⟨h1, h2, ⟨q, q1, q2, q3, q4, h4, h5, h6⟩, n, u1, u2⟩ := h
  have he : t_e T < 1262 := h1.1.2.2.2.2.2.2.2.1
  have f (k : Nat) (k1 : k ≠ 303) (k2 : k ≠ 311) : fN (fl T σ) k = fN σ k := fl_fN k1 k2
  refine ⟨(h1.setf rfl).setf rfl, fl_flags.1, ⟨t_e T, fl_flags.2, Nat.le_refl _, Or.inl (Nat.le_of_lt he), ?_, ?_, ?_, ?_⟩, n, (fl_f (by decide) (by decide)).trans u1, u2⟩
  · rw [f 315 (by decide) (by decide), pot_e]; omega
  · rw [f 324 (by decide) (by decide), pot_e]; omega
  · rw [f 336 (by decide) (by decide), pot_e]; omega
  · rw [f 325 (by decide) (by decide), pot_e]; omega
theorem Fr.setf {θ : cTh} {σ : mmS} {k : Nat} {x : Int32} (hk : cmf k = true) (h3 : k ≠ 303) (h5 : k ≠ 315) (h4 : k ≠ 324) (h25 : k ≠ 325) (h36 : k ≠ 336) (h71 : k ≠ 371) : Fr θ σ (mm_setf σ k x) := by
  have f (j : Nat) (hj : j ≠ k) : fN (mm_setf σ k x) j = fN σ j := by unfold fN; rw [f_other hj]
  refine ⟨fun q => ?_, fun j hj => f_other (fun e => by rw [e, hk] at hj; exact absurd hj (by decide)), ⟨rfl, gro.of rfl rfl rfl⟩, fun _ _ _ => sam.rfl', ⟨?_, ?_, ?_, ?_⟩, fun _ _ => ⟨rfl, rfl⟩, fun _ _ => ⟨rfl, rfl⟩, fun _ => ⟨?_, fun _ _ _ _ _ _ => rfl, fun _ _ => ⟨rfl, rfl⟩, fun _ _ => ⟨rfl, rfl⟩, fun _ _ => ⟨rfl, rfl⟩⟩⟩
  · unfold GD at q ⊢
    rw [f_other h3.symm] at q
    exact q
  · rw [f _ h5.symm]; exact Nat.le_refl _
  · rw [f _ h4.symm]; exact Nat.le_refl _
  · rw [f _ h25.symm]; exact Nat.le_refl _
  · rw [f _ h36.symm]; exact Nat.le_refl _
  · rw [f _ h71.symm]; exact Nat.le_refl _
theorem Fr_fl {T : sT} {θ : cTh} {σ : mmS} : Fr θ σ (fl T σ) := by
  have f (k : Nat) (k1 : k ≠ 303) (k2 : k ≠ 311) : fN (fl T σ) k = fN σ k := fl_fN k1 k2
  have no : ¬ GD (fl T σ) := by
    unfold GD
    rw [fl_flags.1]
    decide
  refine ⟨fun q => absurd q no, fun j hj => fl_f (fun e => by rw [e] at hj; exact absurd hj (by decide)) (fun e => by rw [e] at hj; exact absurd hj (by decide)), ⟨rfl, gro.of rfl rfl rfl⟩, fun _ _ _ => sam.rfl', ⟨?_, ?_, ?_, ?_⟩, fun _ _ => ⟨rfl, rfl⟩, fun _ _ => ⟨rfl, rfl⟩, fun q => absurd q no⟩
  · rw [f 315 (by decide) (by decide)]; exact Nat.le_refl _
  · rw [f 324 (by decide) (by decide)]; exact Nat.le_refl _
  · rw [f 325 (by decide) (by decide)]; exact Nat.le_refl _
  · rw [f 336 (by decide) (by decide)]; exact Nat.le_refl _
theorem th_setf {σ : mmS} {k : Nat} {x : Int32} (h5 : k ≠ 315) (h36 : k ≠ 336) (h71 : k ≠ 371) (h56 : k ≠ 356) : th (mm_setf σ k x) = th σ := by
  have f (j : Nat) (hj : j ≠ k) : fN (mm_setf σ k x) j = fN σ j := by unfold fN; rw [f_other hj]
  unfold th
  rw [f _ h5.symm, f _ h36.symm, f _ h71.symm, f _ h56.symm]
/-- a token on -/
theorem cG.adv {T : sT} {w : cW} {A : cA} {m e : Nat} {σ : mmS} {i : Nat} (h : cG T w A m e σ i) (z : NZ T σ) : cG T w A (m + 12) e (mm_setf σ 311 (mm_f σ 311 + 1)) (i + 1) := by
  obtain ⟨h1, h2, ⟨p1, p2⟩, ⟨n1, n2⟩, h5, ⟨s1, s2⟩, h7, ⟨v1, v2⟩, ⟨u1, u2, u3⟩, h10, ⟨k1, k2⟩, h12, c1, c2, c3, c4, n, c5, c6⟩ := h
  obtain ⟨q, q1, q2, q3⟩ := z
  have he : t_e T < 1262 := h1.1.2.2.2.2.2.2.2.1
  have e : q = i := nI_inj (by omega) (by omega) (q1.symm.trans p1)
  subst e
  have hq : q ≠ t_e T := fun e => q3 (by rw [e]; exact h1.1.2.2.2.2.2.2.2.2.1)
  have f (j : Nat) (hj : j ≠ 311) : mm_f (mm_setf σ 311 (mm_f σ 311 + 1)) j = mm_f σ j := f_other hj
  have fe (j : Nat) (hj : j ≠ 311) := fN_eq (f j hj)
  refine ⟨h1.setf rfl, (f 303 (by decide)).trans h2, ⟨by rw [f_same, p1]; exact (nI_succ q).symm, by omega⟩, ⟨(f 312 (by decide)).trans n1, n2⟩, h5.of (fun k k1 k2 => f k (by omega)) rfl rfl rfl, ⟨(f 346 (by decide)).trans s1, (f 347 (by decide)).trans s2⟩, h7.of (f 324 (by decide)) (f 325 (by decide)) (f 346 (by decide)) (fun _ _ _ => ⟨rfl, rfl⟩),
    ⟨(f 313 (by decide)).trans v1, by omega⟩, ⟨(f 360 (by decide)).trans u1, by omega, u3⟩, by rw [fe 336 (by decide), cntF_of (σ := σ) (u := mm_setf σ 311 (mm_f σ 311 + 1)) (fun _ _ => rfl)]; exact h10, ⟨(f 359 (by decide)).trans k1, by omega⟩, by rw [f 358 (by decide)]; exact h12, ?_⟩
  unfold cC
  rw [fe 315 (by decide), fe 324 (by decide), fe 336 (by decide), fe 325 (by decide)]
  exact ⟨by omega, by omega, by omega, by omega, n, (f 371 (by decide)).trans c5, by omega⟩
theorem cB.adv {T : sT} {g : Nat} {σ : mmS} (h : cB T g σ) (z : NZ T σ) : cB T (g + 1) (mm_setf σ 311 (mm_f σ 311 + 1)) := by
  obtain ⟨h1, h2, ⟨q, q1, q2, q3, q4, h4, h5, h6⟩, n, u1, u2⟩ := h
  obtain ⟨p, p1, p2, p3⟩ := z
  have e : p = q := nI_inj (by omega) (by omega) (p1.symm.trans q1)
  subst e
  have hq : p ≠ t_e T := fun e => p3 (by rw [e]; exact h1.1.2.2.2.2.2.2.2.2.1)
  have f (j : Nat) (hj : j ≠ 311) : mm_f (mm_setf σ 311 (mm_f σ 311 + 1)) j = mm_f σ j := f_other hj
  have fe (j : Nat) (hj : j ≠ 311) := fN_eq (f j hj)
  have hp := pot_1 hq q2 p2
  refine ⟨h1.setf rfl, (f 303 (by decide)).trans h2, ⟨p + 1, by rw [f_same, p1]; exact (nI_succ p).symm, by omega, Or.inl p2, ?_, ?_, ?_, ?_⟩, n, (f 360 (by decide)).trans u1, u2⟩
  · rw [fe 315 (by decide)]; omega
  · rw [fe 324 (by decide)]; omega
  · rw [fe 336 (by decide)]; omega
  · rw [fe 325 (by decide)]; omega
