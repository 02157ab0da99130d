/-! PHASE 3. declare() as a rule; named() -/
theorem Fr.DV {T : sT} {σ u : mmS} {R R2 : Nat → List Nat} {b c : Nat} (h : DV T σ R b c u R2) : Fr (th σ) σ u := by
  obtain ⟨d1, d2, d3, d4, d5, d6, d7, d8, d9, d10, d11, d12⟩ := h
  have f (k : Nat) (k1 : k ≠ 325) (k2 : k ≠ 303) (k3 : k ≠ 311) := d2 k k1 k2 k3
  have s (k : Nat) (k1 : 316 ≤ k) (k2 : k < 328 ∨ 336 ≤ k) : sam σ u k := d4 k ⟨Or.inr (by omega), by omega, by omega, by omega, by omega⟩
  refine ⟨fun q => ?_, fun j hj => d2 j (fun e => by rw [e] at hj; exact absurd hj (by decide)) (fun e => by rw [e] at hj; exact absurd hj (by decide)) (fun e => by rw [e] at hj; exact absurd hj (by decide)), d3, fun k k1 k2 => d4 k ⟨k1, fun z => ?_, fun e => by rw [e] at k2; exact absurd k2 (by decide), fun e => by rw [e] at k2; exact absurd k2 (by decide), fun e => by rw [e] at k2; exact absurd k2 (by decide)⟩, ⟨?_, ?_, d7, ?_⟩, fun t _ => ⟨by rw [(s 326 (by decide) (Or.inl (by decide))).1], by rw [(s 327 (by decide) (Or.inl (by decide))).1]⟩, fun t _ => ⟨by rw [(s 337 (by decide) (Or.inr (by decide))).1], by rw [(s 339 (by decide) (Or.inr (by decide))).1]⟩, fun _ => ⟨?_, fun k k1 k2 i _ _ => by rw [(s k k1 (Or.inl (by omega))).1], fun f _ => ⟨by rw [(s 338 (by decide) (Or.inr (by decide))).1], by rw [(s 342 (by decide) (Or.inr (by decide))).1]⟩, fun k _ => ⟨by rw [(s 369 (by decide) (Or.inr (by decide))).1], by rw [(s 370 (by decide) (Or.inr (by decide))).1]⟩, fun k _ => ⟨by rw [(s 361 (by decide) (Or.inr (by decide))).1], by rw [(s 362 (by decide) (Or.inr (by decide))).1]⟩⟩⟩
  · unfold GD at q ⊢
    rcases d12 with z | z
    · rw [z.1] at q; exact q
    · rw [z.1] at q; exact absurd q (by decide)
  · have : cms k = true := by simp [cms, Nat.ble_eq_true_of_le (show 326 ≤ k by omega), Nat.ble_eq_true_of_le (show k ≤ 335 by omega)]
    rw [this] at k2
    exact absurd k2 (by decide)
  · rw [fN_eq (f 315 (by decide) (by decide) (by decide))]; exact Nat.le_refl _
  · rw [fN_eq (f 324 (by decide) (by decide) (by decide))]; exact Nat.le_refl _
  · rw [fN_eq (f 336 (by decide) (by decide) (by decide))]; exact Nat.le_refl _
  · rw [fN_eq (f 371 (by decide) (by decide) (by decide))]; exact Nat.le_refl _
theorem cI.DV {T : sT} {σ u : mmS} {R R2 : Nat → List Nat} {b c : Nat} (h : cI T σ) (d : DV T σ R b c u R2) : cI T u := by
  obtain ⟨t, cn, -, ⟨p1, p2⟩, k, ⟨⟨sc, x1, x2⟩, ⟨hr, y1, y2⟩⟩, ⟨l1, l2, l3, l4, l5⟩⟩ := h
  obtain ⟨d1, d2, d3, d4, d5, d6, d7, d8, d9, d10, d11, d12⟩ := d
  have f (k : Nat) (k1 : k ≠ 325) (k2 : k ≠ 303) (k3 : k ≠ 311) := d2 k k1 k2 k3
  have s (k : Nat) (k1 : 304 ≤ k) (k2 : k < 328 ∨ 336 ≤ k) : sam σ u k := d4 k ⟨Or.inr (by omega), by omega, by omega, by omega, by omega⟩
  have s2 (k : Nat) (k1 : 96 ≤ k ∧ k < 304) : sam σ u k := d4 k ⟨Or.inr (by omega), by omega, by omega, by omega, by omega⟩
  refine ⟨Tk_sam t (fun k hk => by rcases tkS_c hk with rfl | rfl | rfl | rfl | rfl | rfl | rfl <;> exact d4 _ ⟨Or.inr (by decide), by decide, by decide, by decide, by decide⟩) d3.1 (f 310 (by decide) (by decide) (by decide)), cn.of (f 315 (by decide) (by decide) (by decide)) (fun k k1 k2 => (s k (by omega) (Or.inl (by omega))).2.1) (fun i _ q => by rw [(s 323 (by decide) (Or.inl (by decide))).1]; exact q), ⟨R2, d1⟩, ⟨upH.of p1 (f 324 (by decide) (by decide) (by decide)) (s 326 (by decide) (Or.inl (by decide))).1 (s 327 (by decide) (Or.inl (by decide))).1 (f 371 (by decide) (by decide) (by decide)) (s 369 (by decide) (Or.inr (by decide))).1 d7, p2.of (f 315 (by decide) (by decide) (by decide)) (s 316 (by decide) (Or.inl (by decide))).1 (s 317 (by decide) (Or.inl (by decide))).1⟩,
    k.of (f 336 (by decide) (by decide) (by decide)) (fun k k1 _ => (s k (by omega) (Or.inr (by omega))).2.1) (s 337 (by decide) (Or.inr (by decide))).1 (s 339 (by decide) (Or.inr (by decide))).1 (s 342 (by decide) (Or.inr (by decide))).1 (Nat.le_of_eq (fN_eq (f 315 (by decide) (by decide) (by decide))).symm), ⟨⟨sc, (f 346 (by decide) (by decide) (by decide)).trans x1, by rw [fN_eq (f 324 (by decide) (by decide) (by decide))]; exact x2⟩, ⟨hr, (f 347 (by decide) (by decide) (by decide)).trans y1, by rw [fN_eq (f 336 (by decide) (by decide) (by decide))]; exact y2⟩⟩, ?_⟩
  unfold lnB
  rw [(s 361 (by decide) (Or.inr (by decide))).2.1, (s 362 (by decide) (Or.inr (by decide))).2.1, (s 363 (by decide) (Or.inr (by decide))).2.1, (s 369 (by decide) (Or.inr (by decide))).2.1, (s 370 (by decide) (Or.inr (by decide))).2.1, (s 306 (by decide) (Or.inl (by decide))).2.1, (s2 215 (by decide)).2.1, (s2 217 (by decide)).2.1, (s2 219 (by decide)).2.1, (s 326 (by decide) (Or.inl (by decide))).2.1, (s 337 (by decide) (Or.inr (by decide))).2.1, (s 316 (by decide) (Or.inl (by decide))).2.1]
  exact ⟨l1, l2, l3, by omega, by omega⟩
theorem path.len {σ : mmS} {R : Nat → List Nat} : ∀ {L : hC} {e : Int32} {b : Nat}, path σ R L e b → L.length ≤ b
  | [], _, _, _ => Nat.zero_le _
  | x :: t, e, b, p => by
    obtain ⟨k, p1, p2, p3, p4, p5, p6⟩ := p
    have := path.len p6
    show t.length + 1 ≤ b
    omega
theorem path.len2 {σ : mmS} {R : Nat → List Nat} {L : hC} {e : Int32} {b : Nat} (p : path σ R L e b) : L.length ≤ fN σ 324 := by
  cases L with
  | nil => exact Nat.zero_le _
  | cons x t =>
    obtain ⟨k, p1, p2, p3, p4, p5, p6⟩ := p
    have := path.len p6
    show t.length + 1 ≤ _
    omega
/-- a declaration leaves the kinds of the scopes -/
theorem h_var_map {n : Int32} : ∀ {L L2 : hC}, h_var n L = some L2 → L2.map (·.1) = L.map (·.1)
  | [], _, h => nomatch h
  | (w, es) :: t, L2, h => by
    rw [h_var] at h
    cases ht : h_top w with
    | true =>
      rw [ht, cond_true] at h
      cases hf : h_find es n with
      | none => rw [hf] at h; simp only at h; injection h with h; rw [← h]; rfl
      | some r =>
        rw [hf] at h
        simp only at h
        cases hr : (r == 0 || r == 3 || (r == 2 && !(w == 0))) with
        | true => rw [hr, cond_true] at h; injection h with h; rw [← h]
        | false => rw [hr] at h; exact nomatch h
    | false =>
      rw [ht, cond_false] at h
      cases hi : (h_find es n).isSome with
      | true => rw [hi] at h; exact nomatch h
      | false =>
        rw [hi, cond_false] at h
        cases hv : h_var n t with
        | none => rw [hv] at h; exact nomatch h
        | some t2 =>
          rw [hv] at h
          simp only [Option.map_some] at h
          injection h with h
          rw [← h]
          show w :: t2.map (·.1) = w :: t.map (·.1)
          rw [h_var_map hv]
theorem h_dec_map {k : Nat} {n : Int32} {L L2 : hC} (h : h_dec k n L = some L2) : L2.map (·.1) = L.map (·.1) := by
  unfold h_dec at h
  cases hb : n_bad n with
  | true => rw [hb] at h; exact nomatch h
  | false =>
    rw [hb, cond_false] at h
    unfold h_dec0 at h
    cases hk : k == 0 with
    | true => rw [hk, cond_true] at h; exact h_var_map h
    | false =>
      rw [hk, cond_false] at h
      cases L with
      | nil => exact nomatch h
      | cons x t =>
        obtain ⟨w, es⟩ := x
        simp only at h
        cases h1 : (k == 2 && h_top w && !(w == 0)) with
        | true =>
          rw [h1, cond_true] at h
          cases hf : h_find es n with
          | none => rw [hf] at h; simp only at h; injection h with h; rw [← h]; rfl
          | some r =>
            rw [hf] at h
            simp only at h
            cases hr : (r == 0 || r == 3 || r == 2) with
            | true => rw [hr, cond_true] at h; injection h with h; rw [← h]
            | false => rw [hr] at h; exact nomatch h
        | false =>
          rw [h1, cond_false] at h
          cases h2 : ((h_find es n).isSome || h_pass es n || ((w == 2 || w == 7) && h_has t n)) with
          | true => rw [h2] at h; exact nomatch h
          | false => rw [h2, cond_false] at h; injection h with h; rw [← h]; rfl
theorem hl_map : ∀ {L L2 : hC}, L2.map (·.1) = L.map (·.1) → hl L2 = hl L ∧ h_ok L2 = h_ok L
  | [], [], _ => ⟨rfl, rfl⟩
  | [], _ :: _, h => nomatch h
  | _ :: _, [], h => nomatch h
  | x :: t, y :: t2, h => by
    simp only [List.map_cons, List.cons.injEq] at h
    obtain ⟨e1, e2⟩ := hl_map h.2
    unfold h_ok at e2 ⊢
    rw [hl, hl, List.any_cons, List.any_cons, h.1, e1, e2]
    exact ⟨rfl, rfl⟩
