/-! PHASE 3. begin(): a function and its scope are opened -/
def bgC (c : sC) (s : Int32) : sC := (false, false, bif s == 1 then c.2.2 else (!(s == 0), s == 6, true, s == 7 || s == 8))
def bgX (w : cW) (s : Int32) : sX := (bgC (w_x w).1 s, !(s == 9) && !(s == 8), false, false, [])
def bgW (w : cW) (s : Int32) (sc hr : Nat) : cW := (bgX w s, w_in w, w_nu w, w_B w, sc, hr, w_lb w + (w_x w).2.2.2.2.length, (0, 0), w_cl w)
def bgN (s : Int32) : Nat := if s < 7 then 1 else 0
def bgA (A : cA) (s : Int32) : cA := ((1, []) :: A.1, A.2.1, A.2.2.1, A.2.2.2.1 + bgN s, A.2.2.2.2)
/-- the fields' new values -/
def bgT (τ : mmS) : mmS := mm_setf (mm_setf (mm_setf (mm_setf (mm_setf τ 348 0) 349 0) 354 0) 355 0) 357 (mm_f (mm_setf (mm_setf (mm_setf (mm_setf τ 348 0) 349 0) 354 0) 355 0) 356)
def bgH (τ : mmS) (s : Int32) : mmS := mm_setf (mm_setf (mm_setf (mm_setf (bgT τ) 350 (bif s == 0 then 0 else 1)) 351 (bif s == 6 then 1 else 0)) 352 1) 353 (bif s == 7 || s == 8 then 1 else 0)
def bgF (τ : mmS) (s : Int32) : mmS := if s = 1 then bgT τ else bgH τ s
theorem bgT_o {τ : mmS} {k : Nat} (h : ¬ (348 ≤ k ∧ k ≤ 355) ∧ k ≠ 357) : mm_f (bgT τ) k = mm_f τ k := by
  unfold bgT
  rw [f_other (by omega), f_other (by omega), f_other (by omega), f_other (by omega), f_other (by omega)]
theorem bgF_o {τ : mmS} {s : Int32} {k : Nat} (h : ¬ (348 ≤ k ∧ k ≤ 355) ∧ k ≠ 357) : mm_f (bgF τ s) k = mm_f τ k := by
  unfold bgF
  split
  · exact bgT_o h
  · unfold bgH
    rw [f_other (by omega), f_other (by omega), f_other (by omega), f_other (by omega), bgT_o h]
theorem bgT_0 {τ : mmS} : mm_f (bgT τ) 348 = 0 ∧ mm_f (bgT τ) 349 = 0 ∧ mm_f (bgT τ) 354 = 0 ∧ mm_f (bgT τ) 355 = 0 ∧ mm_f (bgT τ) 357 = mm_f τ 356 := by
  unfold bgT
  refine ⟨?_, ?_, ?_, ?_, ?_⟩ <;> simp [f_setf]
theorem bgF_0 {τ : mmS} {s : Int32} : mm_f (bgF τ s) 348 = 0 ∧ mm_f (bgF τ s) 349 = 0 ∧ mm_f (bgF τ s) 354 = 0 ∧ mm_f (bgF τ s) 355 = 0 ∧ mm_f (bgF τ s) 357 = mm_f τ 356 := by
  have h := bgT_0 (τ := τ)
  unfold bgF
  split
  · exact h
  · unfold bgH
    refine ⟨?_, ?_, ?_, ?_, ?_⟩
    · rw [f_other (by decide), f_other (by decide), f_other (by decide), f_other (by decide)]; exact h.1
    · rw [f_other (by decide), f_other (by decide), f_other (by decide), f_other (by decide)]; exact h.2.1
    · rw [f_other (by decide), f_other (by decide), f_other (by decide), f_other (by decide)]; exact h.2.2.1
    · rw [f_other (by decide), f_other (by decide), f_other (by decide), f_other (by decide)]; exact h.2.2.2.1
    · rw [f_other (by decide), f_other (by decide), f_other (by decide), f_other (by decide)]; exact h.2.2.2.2
theorem bgF_1 {τ : mmS} {k : Nat} (hk : 350 ≤ k ∧ k ≤ 353) : mm_f (bgF τ 1) k = mm_f τ k := by
  unfold bgF
  rw [if_pos rfl]
  unfold bgT
  rw [f_other (by omega), f_other (by omega), f_other (by omega), f_other (by omega), f_other (by omega)]
theorem bgF_n {τ : mmS} {s : Int32} (h : ¬ s = 1) : mm_f (bgF τ s) 350 = bI (!(s == 0)) ∧ mm_f (bgF τ s) 351 = bI (s == 6) ∧ mm_f (bgF τ s) 352 = 1 ∧ mm_f (bgF τ s) 353 = bI (s == 7 || s == 8) := by
  unfold bgF
  rw [if_neg h]
  unfold bgH
  refine ⟨?_, ?_, ?_, ?_⟩
  · rw [f_other (by decide), f_other (by decide), f_other (by decide), f_same]; cases s == 0 <;> rfl
  · rw [f_other (by decide), f_other (by decide), f_same]; rfl
  · rw [f_other (by decide), f_same]
  · rw [f_same]; rfl
theorem bgF_r {τ : mmS} {s : Int32} : mm_a (bgF τ s) = mm_a τ ∧ mm_n (bgF τ s) = mm_n τ ∧ mm_v (bgF τ s) = mm_v τ ∧ mm_l (bgF τ s) = mm_l τ ∧ mm_r (bgF τ s) = mm_r τ ∧ mm_bc (bgF τ s) = mm_bc τ ∧ mm_bs (bgF τ s) = mm_bs τ := by
  unfold bgF
  split <;> exact ⟨rfl, rfl, rfl, rfl, rfl, rfl, rfl⟩
theorem cL.own {L : hC} {B j : Nat} {σ : mmS} {x : Int32} (h : cL L B σ) : cL L B (mm_seta σ 330 j x) := by
  obtain ⟨R, b, ⟨g1, g2, c, d⟩, y2, y3⟩ := h
  have n (k : Nat) (hk : k ≠ 330) : mm_a (mm_seta σ 330 j x) k = mm_a σ k := a_seta_n hk
  refine ⟨R, b, ⟨g1.of rfl (fun _ _ _ => rfl) (by decide), g2.of rfl (fun _ _ _ => rfl) (by decide), fun s hs => ?_, d⟩, path_same (σ := σ) (u := mm_seta σ 330 j x) (c := b) rfl ⟨n 326 (by decide), n 327 (by decide)⟩ (fun k _ _ => ens_same fun r _ => ⟨by rw [n 333 (by decide)], by rw [n 332 (by decide)]⟩) y2 (Nat.le_refl _), y3⟩
  obtain ⟨l1, l2, l3, l4⟩ := c s hs
  rw [n 328 (by decide), n 329 (by decide)]
  exact ⟨lnk_same (σ := σ) (fun _ _ => by rw [n 334 (by decide)]) l1, l2, l3, l4⟩
theorem cL.hi {L : hC} {B j k : Nat} {σ : mmS} {x : Int32} (h : cL L B σ) (hk : 336 ≤ k) : cL L B (mm_seta σ k j x) :=
  h.of (u := mm_seta σ k j x) rfl rfl rfl (fun s k1 k2 => ⟨a_seta_n (by omega), rfl⟩)
/-- what begin() leaves -/
def BGu (σ : mmS) (s y : Int32) (u : mmS) : Prop :=
  Fr (th σ) σ u ∧ fN u 324 = fN σ 324 + 1 ∧ fN u 336 = fN σ 336 + 1 ∧ fN u 315 = fN σ 315 ∧ mm_a u 326 (fN σ 324) = mm_f σ 346 ∧ mm_a u 337 (fN σ 336) = s ∧ mm_a u 338 (fN σ 336) = y ||| 4 ∧ mm_a u 342 (fN σ 336) = 0 ∧ mm_f u 347 = nI (fN σ 336) ∧
  (mm_f u 356 = mm_f σ 356 ∧ mm_f u 371 = mm_f σ 371 ∧ mm_f u 311 = mm_f σ 311 ∧ mm_f u 312 = mm_f σ 312 ∧ mm_f u 303 = mm_f σ 303) ∧ mm_f u 357 = mm_f σ 356
section BEGIN
variable {T : sT} {σ : mmS} {d a : Nat} {s y z : Int32} {K : Int32 → mmS → Prop} {X : Nat → mmS → Prop}
/-- what is said of the state that begin() leaves -/
theorem begin_fin {σ1 σ3 τ : mmS} {QQ : mmS → Prop} (hI : cI T σ) (hc : fN σ 324 ≤ 8750 ∧ fN σ 336 ≤ 8750) (o1 : FS σ s y z σ1) (o3 : OS (mm_setf σ1 347 (nI (fN σ 336))) 1 σ3)
    (tf : mm_f τ = mm_f σ3) (tn : mm_n τ = mm_n σ3) (tv : mm_v τ = mm_v σ3) (tl : mm_l τ = mm_l σ3) (tr : mm_r τ = mm_r σ3) (tk : ∀ k, k ≠ 340 → k ≠ 330 → k ≠ 341 → mm_a τ k = mm_a σ3 k) (Iτ : cI T τ) (cLτ : ∀ {L : hC} {B : Nat}, cL L B σ3 → cL L B τ)
    (k : ∀ u, cI T u → BGu σ s y u → (∀ w A m e i, cG T w A (m + 12) e σ i → cG T (bgW w s (fN σ 324) (fN σ 336)) (bgA A s) m e u i) → (∀ g, cB T (g + 32) σ → cB T g u) → QQ u) : QQ (bgF τ s) := by
  have fn1 : fN σ1 336 = fN σ 336 + 1 := o1.1.2.1
  have f12 (j : Nat) (h3 : j ≠ 336) (h4 : j ≠ 347) : mm_f (mm_setf σ1 347 (nI (fN σ 336))) j = mm_f σ j := (f_other h4).trans (o1.2.1 j h3)
  have e324 : fN (mm_setf σ1 347 (nI (fN σ 336))) 324 = fN σ 324 := fN_eq (f12 324 (by decide) (by decide))
  have r1 := FS_row o1
  have r3 := OS_row o3
  rw [e324] at r3
  have fn3 : fN σ3 324 = fN σ 324 + 1 := by rw [o3.1.2.1, e324]
  have f13 (j : Nat) (h1 : j ≠ 336) (h2 : j ≠ 347) (h3 : j ≠ 324) (h4 : j ≠ 346) : mm_f σ3 j = mm_f σ j := (OS_f o3 h3 h4).trans (f12 j h1 h2)
  have fn336 : fN σ3 336 = fN σ 336 + 1 := (fN_eq ((OS_f o3 (by decide) (by decide)).trans (f_other (by decide)))).trans fn1
  have e346 : mm_f σ3 346 = nI (fN σ 324) := by rw [o3.2.1, e324]
  have e347 : mm_f σ3 347 = nI (fN σ 336) := (OS_f o3 (by decide) (by decide)).trans f_same
  obtain ⟨q1, q2, q3, q4, q5, q6, q7⟩ := bgF_r (τ := τ) (s := s)
  have fo (j : Nat) (h : ¬ (348 ≤ j ∧ j ≤ 355) ∧ j ≠ 357) (h1 : j ≠ 336) (h2 : j ≠ 347) (h3 : j ≠ 324) (h4 : j ≠ 346) : mm_f (bgF τ s) j = mm_f σ j := by
    rw [bgF_o h, tf, f13 j h1 h2 h3 h4]
  have u324 : fN (bgF τ s) 324 = fN σ 324 + 1 := by
    rw [fN_eq (σ := σ3) (by rw [bgF_o (by decide), tf])]; exact fn3
  have u336 : fN (bgF τ s) 336 = fN σ 336 + 1 := by
    rw [fN_eq (σ := σ3) (by rw [bgF_o (by decide), tf])]; exact fn336
  have u346 : mm_f (bgF τ s) 346 = nI (fN σ 324) := by rw [bgF_o (by decide), tf]; exact e346
  have u347 : mm_f (bgF τ s) 347 = nI (fN σ 336) := by rw [bgF_o (by decide), tf]; exact e347
  have u347N : fN (bgF τ s) 347 = fN σ 336 := by unfold fN; rw [u347, nI_clamp (by omega)]; rfl
  have Iu : cI T (bgF τ s) := by
    unfold bgF
    split
    · exact ((((Iτ.setf rfl).setf rfl).setf rfl).setf rfl).setf rfl
    · exact ((((((((Iτ.setf rfl).setf rfl).setf rfl).setf rfl).setf rfl).setf rfl).setf rfl).setf rfl).setf rfl
  -- what is as before
  have sm (j : Nat) (hl : lst j) (h1 : ¬ (326 ≤ j ∧ j ≤ 331)) (h2 : ¬ (337 ≤ j ∧ j ≤ 345)) : sam σ (bgF τ s) j := by
    have a1 := o1.1.2.2.2.2.1 j hl h2
    have a3 := OS_sam o3 hl h1
    exact ⟨by rw [q1, tk j (by omega) (by omega) (by omega)]; exact a3.1.trans a1.1, by rw [q2, tn]; exact a3.2.1.trans a1.2.1, by rw [q3, tv]; exact a3.2.2.1.trans a1.2.2.1, by rw [q4, tl]; exact a3.2.2.2.trans a1.2.2.2⟩
  have sk (j : Nat) (h0 : 96 ≤ j) (h1 : ¬ (326 ≤ j ∧ j ≤ 331)) (h2 : ¬ (337 ≤ j ∧ j ≤ 345)) := sm j (Or.inr (by omega)) h1 h2
  have af (k j : Nat) (k1 : 337 ≤ k) (k2 : k ≤ 345) (h3 : k ≠ 340) (h4 : k ≠ 341) (hj : j < fN σ 336) : mm_a (bgF τ s) k j = mm_a σ k j := by
    rw [q1, tk k h3 (by omega) h4, (OS_sam o3 (k := k) (Or.inr (by omega)) (by omega)).1]
    exact o1.1.2.2.1 k k1 k2 j hj
  have an (k : Nat) (k1 : 337 ≤ k) (k2 : k ≤ 345) (h3 : k ≠ 340) (h4 : k ≠ 341) : mm_a (bgF τ s) k (fN σ 336) = mm_a σ1 k (fN σ 336) := by
    rw [q1, tk k h3 (by omega) h4, (OS_sam o3 (k := k) (Or.inr (by omega)) (by omega)).1]; rfl
  have as (k j : Nat) (k1 : 326 ≤ k) (k2 : k ≤ 329) (hj : j < fN σ 324) : mm_a (bgF τ s) k j = mm_a σ k j := by
    rw [q1, tk k (by omega) (by omega) (by omega)]
    refine (o3.1.2.2.1 k k1 (by omega) j (by rw [e324]; exact hj)).trans ?_
    show mm_a σ1 k j = _
    rw [(o1.1.2.2.2.2.1 k (Or.inr (by omega)) (by omega)).1]
  have fr : Fr (th σ) σ (bgF τ s) := by
    refine ⟨fun q => ?_, fun j hj => fo j ?_ ?_ ?_ ?_ ?_, ?_, fun k k1 k2 => sm k k1 (fun ⟨a, b⟩ => ?_) (fun ⟨a, b⟩ => ?_), ⟨?_, by omega, ?_, by omega⟩, fun t ht => ⟨as 326 t (by decide) (by decide) ht, as 327 t (by decide) (by decide) ht⟩, fun f hf => ⟨af 337 f (by decide) (by decide) (by decide) (by decide) hf, af 339 f (by decide) (by decide) (by decide) (by decide) hf⟩, fun _ => ⟨?_, fun k k1 k2 i _ _ => by rw [(sk k (by omega) (by omega) (by omega)).1], fun f hf => ⟨by rw [af 338 f (by decide) (by decide) (by decide) (by decide) hf], af 342 f (by decide) (by decide) (by decide) (by decide) hf⟩, fun k _ => ⟨by rw [(sk 369 (by decide) (by decide) (by decide)).1], by rw [(sk 370 (by decide) (by decide) (by decide)).1]⟩, fun k _ => ⟨by rw [(sk 361 (by decide) (by decide) (by decide)).1], by rw [(sk 362 (by decide) (by decide) (by decide)).1]⟩⟩⟩
    · unfold GD at q ⊢
      rw [fo 303 (by decide) (by decide) (by decide) (by decide) (by decide)] at q
      exact q
    · refine ⟨fun ⟨a, b⟩ => ?_, fun e => by rw [e] at hj; exact absurd hj (by decide)⟩
      have : cmf j = true := by simp [cmf, Nat.ble_eq_true_of_le (show 346 ≤ j by omega), Nat.ble_eq_true_of_le (show j ≤ 360 by omega)]
      rw [this] at hj
      exact absurd hj (by decide)
    · exact fun e => by rw [e] at hj; exact absurd hj (by decide)
    · exact fun e => by rw [e] at hj; exact absurd hj (by decide)
    · exact fun e => by rw [e] at hj; exact absurd hj (by decide)
    · exact fun e => by rw [e] at hj; exact absurd hj (by decide)
    · refine ⟨?_, fun t ht _ => as 328 t (by decide) (by decide) ht, fun k _ => ⟨by rw [(sk 332 (by decide) (by decide) (by decide)).1], fun _ => by rw [(sk 334 (by decide) (by decide) (by decide)).1]⟩⟩
      rw [q5, tr, o3.1.2.2.2.2.2]
      exact o1.1.2.2.2.2.2
    · have : cms k = true := by simp [cms, Nat.ble_eq_true_of_le a, Nat.ble_eq_true_of_le (show k ≤ 335 by omega)]
      rw [this] at k2
      exact absurd k2 (by decide)
    · have : cms k = true := by simp [cms, Nat.ble_eq_true_of_le a, Nat.ble_eq_true_of_le b]
      rw [this] at k2
      exact absurd k2 (by decide)
    · rw [fN_eq (fo 315 (by decide) (by decide) (by decide) (by decide) (by decide))]; exact Nat.le_refl _
    · rw [fN_eq (fo 325 (by decide) (by decide) (by decide) (by decide) (by decide))]; exact Nat.le_refl _
    · rw [fN_eq (fo 371 (by decide) (by decide) (by decide) (by decide) (by decide))]; exact Nat.le_refl _
  refine (k _ Iu ⟨fr, u324, u336, fN_eq (fo 315 (by decide) (by decide) (by decide) (by decide) (by decide)), ?_, (an 337 (by decide) (by decide) (by decide) (by decide)).trans r1.1, (an 338 (by decide) (by decide) (by decide) (by decide)).trans r1.2.1, (an 342 (by decide) (by decide) (by decide) (by decide)).trans r1.2.2.2, u347, ⟨fo 356 (by decide) (by decide) (by decide) (by decide) (by decide), fo 371 (by decide) (by decide) (by decide) (by decide) (by decide), fo 311 (by decide) (by decide) (by decide) (by decide) (by decide), fo 312 (by decide) (by decide) (by decide) (by decide) (by decide), fo 303 (by decide) (by decide) (by decide) (by decide) (by decide)⟩, ?_⟩ (fun w A m e i h => ?_) (fun g h => ?_))
  · rw [q1, tk 326 (by decide) (by decide) (by decide), r3.1]
    exact f12 346 (by decide) (by decide)
  · rw [bgF_0.2.2.2.2, tf]
    exact f13 356 (by decide) (by decide) (by decide) (by decide)
  · obtain ⟨h1, h2, h3, ⟨n1, n2, n3⟩, ⟨⟨x1, x2, x3, x4, x5, x6⟩, xr, ⟨l1, l2, l3⟩, ⟨k1, k2, k3⟩, y1, y2, y3, y4⟩, h6, h7, h8, ⟨u1, u2, u3⟩, h10, h11, h12, cc1, cc2, cc3, cc4, n, cc5, cc6⟩ := h
    have z0 := bgF_0 (τ := τ) (s := s)
    refine ⟨Iu, (fo 303 (by decide) (by decide) (by decide) (by decide) (by decide)).trans h2, by rw [fo 311 (by decide) (by decide) (by decide) (by decide) (by decide)]; exact h3, by rw [fo 312 (by decide) (by decide) (by decide) (by decide) (by decide)]; exact ⟨n1, n2, n3⟩, ⟨?_, ?_, ⟨z0.2.2.1, by show 0 + w_nu w ≤ 48; omega, rfl⟩, ⟨z0.2.2.2.1, by show 0 + w_nu w ≤ 48; omega, rfl⟩, ?_, ?_, ?_, fun k hk => nomatch hk⟩, ⟨u346, u347⟩, ?_, by rw [fo 313 (by decide) (by decide) (by decide) (by decide) (by decide)]; exact h8,
      by rw [fo 360 (by decide) (by decide) (by decide) (by decide) (by decide), (sk 363 (by decide) (by decide) (by decide)).1]; exact ⟨u1, u2, u3⟩, ?_, ⟨(fo 359 (by decide) (by decide) (by decide) (by decide) (by decide)).trans h11.1, by have := h11.2; show A.2.2.2.2 + m ≤ _; omega⟩, by rw [fo 358 (by decide) (by decide) (by decide) (by decide) (by decide)]; exact h12, ?_⟩
    · by_cases c : s = 1
      · subst c
        refine ⟨z0.1, z0.2.1, ?_, ?_, ?_, ?_⟩
        · rw [bgF_1 (by decide), tf, f13 350 (by decide) (by decide) (by decide) (by decide)]; exact x3
        · rw [bgF_1 (by decide), tf, f13 351 (by decide) (by decide) (by decide) (by decide)]; exact x4
        · rw [bgF_1 (by decide), tf, f13 352 (by decide) (by decide) (by decide) (by decide)]; exact x5
        · rw [bgF_1 (by decide), tf, f13 353 (by decide) (by decide) (by decide) (by decide)]; exact x6
      · have zn := bgF_n (τ := τ) c
        have e : bgC (w_x w).1 s = (false, false, !(s == 0), s == 6, true, s == 7 || s == 8) := by
          unfold bgC
          rw [beq_eq_false_iff_ne.mpr c]; rfl
        show mm_f _ 348 = bI (bgC (w_x w).1 s).1 ∧ mm_f _ 349 = bI (bgC (w_x w).1 s).2.1 ∧ mm_f _ 350 = bI (bgC (w_x w).1 s).2.2.1 ∧ mm_f _ 351 = bI (bgC (w_x w).1 s).2.2.2.1 ∧ mm_f _ 352 = bI (bgC (w_x w).1 s).2.2.2.2.1 ∧ mm_f _ 353 = bI (bgC (w_x w).1 s).2.2.2.2.2
        rw [e]
        exact ⟨z0.1, z0.2.1, zn.1, zn.2.1, zn.2.2.1, zn.2.2.2⟩
    · show (!(s == 9) && !(s == 8)) = _
      rw [u347N, (an 337 (by decide) (by decide) (by decide) (by decide)).trans r1.1]
    · rw [z0.2.2.2.2, tf, f13 356 (by decide) (by decide) (by decide) (by decide)]; exact y2
    · rw [fo 356 (by decide) (by decide) (by decide) (by decide) (by decide)]; exact y2
    · show w_lb w + (w_x w).2.2.2.2.length + 0 + w_nu w ≤ 48
      omega
    · have h7a : cL A.1 (w_B w) (mm_setf σ1 347 (nI (fN σ 336))) := by
        have h7b : cL A.1 (w_B w) σ1 := h7.of (o1.2.1 324 (by decide)) (o1.2.1 325 (by decide)) (o1.2.1 346 (by decide)) (fun k k1 k2 => ⟨(o1.1.2.2.2.2.1 k (Or.inr (by omega)) (by omega)).1, (o1.1.2.2.2.2.1 k (Or.inr (by omega)) (by omega)).2.1⟩)
        exact h7b.of (f_other (by decide)) (f_other (by decide)) (f_other (by decide)) (fun _ _ _ => ⟨rfl, rfl⟩)
      have hB1 : 1 ≤ w_B w := by
        obtain ⟨R, b, -, -, q3, q4, -⟩ := h7
        cases hA : A.1 with
        | nil => rw [hA] at q3; exact nomatch q3
        | cons x t =>
          rw [hA] at q4
          have := hl_pos (x := x) (t := t)
          omega
      have h7c := cLτ (h7a.OS o3 (B' := w_B w) hB1)
      exact h7c.of (bgF_o (by decide)) (bgF_o (by decide)) (bgF_o (by decide)) (fun k k1 k2 => ⟨by rw [q1], by rw [q2]⟩)
    · rw [u336, cntF, (an 337 (by decide) (by decide) (by decide) (by decide)).trans r1.1, cntF_of (σ := σ) (fun k hk => af 337 k (by decide) (by decide) (by decide) (by decide) hk), h10]
      rfl
    · unfold cC
      rw [fN_eq (fo 315 (by decide) (by decide) (by decide) (by decide) (by decide)), u324, u336, fN_eq (fo 325 (by decide) (by decide) (by decide) (by decide) (by decide)), fo 371 (by decide) (by decide) (by decide) (by decide) (by decide)]
      exact ⟨by omega, by omega, by omega, cc4, n, cc5, cc6⟩
  · obtain ⟨h1, h2, ⟨q, q1, q2, q3, q4, h4, h5, h6⟩, nn, u1, u2⟩ := h
    refine ⟨Iu, (fo 303 (by decide) (by decide) (by decide) (by decide) (by decide)).trans h2, ⟨q, (fo 311 (by decide) (by decide) (by decide) (by decide) (by decide)).trans q1, q2, by omega, ?_, ?_, ?_, ?_⟩, nn, (fo 360 (by decide) (by decide) (by decide) (by decide) (by decide)).trans u1, u2⟩
    · rw [fN_eq (fo 315 (by decide) (by decide) (by decide) (by decide) (by decide))]; omega
    · rw [u324]; omega
    · rw [u336]; omega
    · rw [fN_eq (fo 325 (by decide) (by decide) (by decide) (by decide) (by decide))]; omega
theorem c_begin (hd : 5 ≤ d) (hI : cI T σ) (hc : fN σ 324 ≤ 8750 ∧ fN σ 336 ≤ 8750)
    (k : ∀ u, cI T u → BGu σ s y u → (∀ w A m e i, cG T w A (m + 12) e σ i → cG T (bgW w s (fN σ 324) (fN σ 336)) (bgA A s) m e u i) → (∀ g, cB T (g + 32) σ → cB T g u) → K (nI (fN σ 336)) u) :
    mm_ci (MC d) 3047 [.inr (.inr (3, a)), .inl s, .inl y, .inl z] σ K X := by
  obtain ⟨d, rfl, hd⟩ := mc_pos hd
  refine mc_ci (P := mt3047) (L := 5) rfl rfl ⟨by decide, Nat.le_of_ble_eq_true rfl⟩ fun Q hK hX => b3047_0 _ _ _ _ _ _ _ _ ?_
  have lb := lnB.use hI
  refine c_newFunction (by omega) hI.2.2.2.2.1.1 (by omega) (by omega) (by omega) (fun σ1 o1 => ?_)
  have I1 := hI.FS o1 hc.2
  have fn1 : fN σ1 336 = fN σ 336 + 1 := o1.1.2.1
  have I2 : cI T (mm_setf σ1 347 (nI (fN σ 336))) := I1.here (by omega)
  have lb2 := lnB.use I2
  obtain ⟨R2, g2⟩ := I2.2.2.1
  have f12 (j : Nat) (h3 : j ≠ 336) (h4 : j ≠ 347) : mm_f (mm_setf σ1 347 (nI (fN σ 336))) j = mm_f σ j := (f_other h4).trans (o1.2.1 j h3)
  have e324 : fN (mm_setf σ1 347 (nI (fN σ 336))) 324 = fN σ 324 := fN_eq (f12 324 (by decide) (by decide))
  refine c_openScope (by omega) g2.1 (by omega) (by omega) (by omega) (fun σ3 o3 => ?_)
  have I3 := I2.OS o3 (by omega)
  rw [e324]
  have r1 := FS_row o1
  have r3 := OS_row o3
  rw [e324] at r3
  have fn3 : fN σ3 324 = fN σ 324 + 1 := by rw [o3.1.2.1, e324]
  have f13 (j : Nat) (h1 : j ≠ 336) (h2 : j ≠ 347) (h3 : j ≠ 324) (h4 : j ≠ 346) : mm_f σ3 j = mm_f σ j := (OS_f o3 h3 h4).trans (f12 j h1 h2)
  have fn336 : fN σ3 336 = fN σ 336 + 1 := (fN_eq ((OS_f o3 (by decide) (by decide)).trans (f_other (by decide)))).trans fn1
  have e346 : mm_f σ3 346 = nI (fN σ 324) := by rw [o3.2.1, e324]
  have e347 : mm_f σ3 347 = nI (fN σ 336) := (OS_f o3 (by decide) (by decide)).trans f_same
  obtain ⟨⟨c1, c2, c3, c4, c5⟩, c6, c7⟩ := I3.2.2.2.2.1
  obtain ⟨R3, ⟨s1, s2, s3, s4, s5⟩, g3⟩ := I3.2.2.1
  have b1 : fN σ 336 < mm_n σ3 337 := by omega
  have b2 : fN σ 324 < mm_n σ3 326 := by omega
  have v340 : mm_v (mm_setf σ1 347 (nI (fN σ 336))) 340 = mm_v σ3 340 := (OS_sam o3 (k := 340) (Or.inr (by decide)) (by decide)).2.2.1.symm
  rw [v340]
  refine wr (c5 340 (by decide) (by decide)) b1 (by omega) ?_
  have w330 : mm_f (mm_seta σ3 340 (fN σ 336) (nI (fN σ 324))) 346 = nI (fN σ 324) := e346
  rw [w330]
  refine wr (s5 330 (by decide) (by decide)) b2 (by omega) ?_
  have w341 : mm_f (mm_seta (mm_seta σ3 340 (fN σ 336) (nI (fN σ 324))) 330 (fN σ 324) (nI (fN σ 336))) 346 = nI (fN σ 324) := e346
  rw [w341]
  refine wr (c5 341 (by decide) (by decide)) b1 (by omega) ⟨Or.inl rfl, Or.inl rfl, ?_⟩
  generalize hτ : mm_seta (mm_seta (mm_seta σ3 340 (fN σ 336) (nI (fN σ 324))) 330 (fN σ 324) (nI (fN σ 336))) 341 (fN σ 336) (nI (fN σ 324)) = τ
  have tf : mm_f τ = mm_f σ3 := by rw [← hτ]; rfl
  have tn : mm_n τ = mm_n σ3 := by rw [← hτ]; rfl
  have tv : mm_v τ = mm_v σ3 := by rw [← hτ]; rfl
  have tl : mm_l τ = mm_l σ3 := by rw [← hτ]; rfl
  have tr : mm_r τ = mm_r σ3 := by rw [← hτ]; rfl
  have tk : ∀ k, k ≠ 340 → k ≠ 330 → k ≠ 341 → mm_a τ k = mm_a σ3 k := fun k h1 h2 h3 => by rw [← hτ, a_seta_n h3, a_seta_n h2, a_seta_n h1]
  have Iτ : cI T τ := by rw [← hτ]; exact ((I3.seta rfl).seta rfl).seta rfl
  have cLτ : ∀ {L : hC} {B : Nat}, cL L B σ3 → cL L B τ := fun {L B} h => by
    rw [← hτ]
    exact ((h.hi (by decide)).own).hi (by decide)
  clear hτ w330 w341 v340
  have fin : Q (.inl (some (.inl (nI (fN σ 336))))) (bgF τ s) := begin_fin (QQ := fun u => Q (.inl (some (.inl (nI (fN σ 336))))) u) hI hc o1 o3 tf tn tv tl tr tk Iτ cLτ (fun u h1 h2 h3 h4 => hK _ _ (k u h1 h2 h3 h4))
  -- the rest of the walk
  have w107 : ∀ (s0 : Int32) (as1 : Nat), ¬ s = 1 → s0 = (bif s == 6 then 1 else 0) → mm_W mt3047 (MC d) Q (107, [some (.inr (.inr (3, a))), some (.inl s), some (.inl y), some (.inl z), some (.inl (nI (fN σ 336)))], [.inl s0, .inr (.inr (3, as1))]) (mm_setf (bgT τ) 350 (bif s == 0 then 0 else 1)) := fun s0 as1 h1 e => by
    have e2 : bgF τ s = bgH τ s := by unfold bgF; rw [if_neg h1]
    rw [e2] at fin
    subst e
    refine b3047_107 _ _ _ _ _ _ _ _ _ _ ⟨by cases s == 6; exact Or.inl rfl; exact Or.inr rfl, Or.inr rfl, br_p (fun h7 => ⟨Or.inr rfl, ?_⟩) (fun h7 => br_p (fun h8 => ⟨Or.inr rfl, ?_⟩) (fun h8 => ⟨Or.inl rfl, ?_⟩))⟩
    · have e3 : (s == 7 || s == 8) = true := by rw [h7]; rfl
      unfold bgH at fin
      rw [e3] at fin
      exact fin
    · have e3 : (s == 7 || s == 8) = true := by rw [h8]; rfl
      unfold bgH at fin
      rw [e3] at fin
      exact fin
    · have e3 : (s == 7 || s == 8) = false := by rw [beq_eq_false_iff_ne.mpr h7, beq_eq_false_iff_ne.mpr h8]; rfl
      unfold bgH at fin
      rw [e3] at fin
      exact fin
  refine b3047_64 _ _ _ _ _ _ _ _ (br_p (fun h1 => ?_) (fun h1 => br_p (fun h0 => ⟨Or.inl rfl, br_p (fun h6 => ?_) (fun h6 => ?_)⟩) (fun h0 => ⟨Or.inr rfl, br_p (fun h6 => ?_) (fun h6 => ?_)⟩)))
  · have e2 : bgF τ s = bgT τ := by unfold bgF; rw [if_pos h1]
    rw [e2] at fin
    exact fin
  · have := w107 1 a h1 (by rw [h6]; rfl)
    rw [show (s == 0) = true by rw [h0]; rfl] at this
    exact this
  · have := w107 0 a h1 (by rw [beq_eq_false_iff_ne.mpr h6]; rfl)
    rw [show (s == 0) = true by rw [h0]; rfl] at this
    exact this
  · have := w107 1 a h1 (by rw [h6]; rfl)
    rw [show (s == 0) = false from beq_eq_false_iff_ne.mpr h0] at this
    exact this
  · have := w107 0 a h1 (by rw [beq_eq_false_iff_ne.mpr h6]; rfl)
    rw [show (s == 0) = false from beq_eq_false_iff_ne.mpr h0] at this
    exact this
end BEGIN
