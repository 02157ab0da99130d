/-! PHASE 3. A scope more, a function more -/
def Rnew (R : Nat → List Nat) (s : Nat) : Nat → List Nat := fun t => if t = s then [] else R t
theorem path_b {σ : mmS} {R : Nat → List Nat} {L : hC} {e : Int32} {b : Nat} (h : path σ R L e b) : path σ R L e (fN σ 324) := by
  cases L with
  | nil => exact h
  | cons x t =>
    obtain ⟨k, p1, p2, p3, p4⟩ := h
    exact ⟨k, p1, p3, p3, p4⟩
theorem path_low {σ : mmS} {R : Nat → List Nat} {L : hC} {e : Int32} {b b' : Nat} (h : path σ R L e b) (hb : b ≤ b') : path σ R L e b' := by
  cases L with
  | nil => exact h
  | cons x t =>
    obtain ⟨k, p1, p2, p3, p4⟩ := h
    exact ⟨k, p1, by omega, p3, p4⟩
theorem OS_f {σ u : mmS} {x : Int32} (o : OS σ x u) {k : Nat} (h4 : k ≠ 324) (h6 : k ≠ 346) : mm_f u k = mm_f σ k := o.2.2.1 k h4 h6
theorem OS_sam {σ u : mmS} {x : Int32} (o : OS σ x u) {k : Nat} (h : lst k) (hk : ¬ (326 ≤ k ∧ k ≤ 331)) : sam σ u k := o.1.2.2.2.2.1 k h hk
theorem OS_row {σ u : mmS} {x : Int32} (o : OS σ x u) : mm_a u 326 (fN σ 324) = mm_f σ 346 ∧ mm_a u 327 (fN σ 324) = x ∧ mm_a u 328 (fN σ 324) = -1 ∧ mm_a u 329 (fN σ 324) = -1 := by
  have h := o.1.2.2.2.1
  unfold scL at h
  exact ⟨h (326, mm_f σ 346) (by simp), h (327, x) (by simp), h (328, -1) (by simp), h (329, -1) (by simp)⟩
theorem stru.OS {σ u : mmS} {x : Int32} {R : Nat → List Nat} (h : stru σ R) (o : OS σ x u) : stru u (Rnew R (fN σ 324)) := by
  obtain ⟨g1, g2, g3, g4⟩ := h
  have r := OS_row o
  have f5 := OS_f o (k := 325) (by decide) (by decide)
  have s (k : Nat) (k1 : 332 ≤ k) : sam σ u k := OS_sam o (Or.inr (by omega)) (by omega)
  have fn := o.1.2.1
  have old := o.1.2.2.1
  refine ⟨o.1.1, g2.of f5 (fun k k1 _ => (s k k1).2.1) (by decide), fun t ht => ?_, fun t t' k h1 h2 h3 h4 => ?_⟩
  · rw [fn] at ht
    unfold Rnew
    by_cases c : t = fN σ 324
    · subst c
      rw [if_pos rfl]
      refine ⟨r.2.2.1, fun k q => (nomatch q), fun k q => (nomatch q), List.nodup_nil⟩
    · rw [if_neg c]
      obtain ⟨l1, l2, l3, l4⟩ := g3 t (by omega)
      rw [old 328 (by decide) (by decide) t (by omega), old 329 (by decide) (by decide) t (by omega), fN_eq f5]
      exact ⟨lnk_same (σ := σ) (fun _ _ => by rw [(s 334 (by decide)).1]) l1, l2, l3, l4⟩
  · rw [fn] at h1 h2
    unfold Rnew at h3 h4
    by_cases c : t = fN σ 324
    · rw [if_pos c] at h3; exact nomatch h3
    · by_cases c' : t' = fN σ 324
      · rw [if_pos c'] at h4; exact nomatch h4
      · rw [if_neg c] at h3
        rw [if_neg c'] at h4
        exact g4 t t' k (by omega) (by omega) h3 h4
theorem ens_OS {σ u : mmS} {x : Int32} (o : OS σ x u) {l : List Nat} : ens u l = ens σ l := by
  have s (k : Nat) (k1 : 332 ≤ k) : sam σ u k := OS_sam o (Or.inr (by omega)) (by omega)
  exact ens_same fun k _ => ⟨by rw [(s 333 (by decide)).1], by rw [(s 332 (by decide)).1]⟩
theorem path_OSo {σ u : mmS} {x : Int32} {R : Nat → List Nat} (o : OS σ x u) : ∀ {L : hC} {e : Int32} {b : Nat}, b ≤ fN σ 324 → path σ R L e b → path u (Rnew R (fN σ 324)) L e b
  | [], _, _, _, p => p
  | y :: t, e, b, hb, p => by
    obtain ⟨k, p1, p2, p3, p4, p5, p6⟩ := p
    have old := o.1.2.2.1
    refine ⟨k, p1, p2, by rw [o.1.2.1]; omega, by rw [old 327 (by decide) (by decide) k p3]; exact p4, ?_, ?_⟩
    · unfold Rnew
      rw [if_neg (by omega), ens_OS o]
      exact p5
    · rw [old 326 (by decide) (by decide) k p3]
      exact path_OSo o (by omega) p6
theorem path.OS {σ u : mmS} {x : Int32} {R : Nat → List Nat} {L : hC} {b : Nat} (p : path σ R L (mm_f σ 346) b) (o : OS σ x u) : path u (Rnew R (fN σ 324)) ((x, []) :: L) (mm_f u 346) (fN u 324) := by
  have r := OS_row o
  refine ⟨fN σ 324, o.2.1, by rw [o.1.2.1]; omega, by rw [o.1.2.1]; omega, r.2.1, ?_, ?_⟩
  · unfold Rnew
    rw [if_pos rfl]
    rfl
  · rw [r.1]
    exact path_OSo o (Nat.le_refl _) (path_b p)
theorem cI.OS {T : sT} {σ u : mmS} {x : Int32} (h : cI T σ) (o : OS σ x u) (hc : fN σ 324 ≤ 8750) : cI T u := by
  obtain ⟨t, cn, ⟨R, g⟩, ⟨⟨p1, ph⟩, p2⟩, k, ⟨⟨sc, x1, x2⟩, ⟨hr, y1, y2⟩⟩, ⟨l1, l2, l3, l4, l5⟩⟩ := h
  have f (j : Nat) (h4 : j ≠ 324) (h6 : j ≠ 346) := OS_f o h4 h6
  have s (j : Nat) (j1 : 96 ≤ j) (j2 : j < 326 ∨ 331 < j) : sam σ u j := OS_sam o (Or.inr (by omega)) (by omega)
  have r := OS_row o
  have fn := o.1.2.1
  have old := o.1.2.2.1
  obtain ⟨o1, o2, o3, o4, o5, o6⟩ := o
  refine ⟨Tk_sam t (fun k hk => by rcases tkS_c hk with rfl | rfl | rfl | rfl | rfl | rfl | rfl <;> exact s _ (by decide) (by decide)) o1.2.2.2.2.2 (f 310 (by decide) (by decide)), cn.of (f 315 (by decide) (by decide)) (fun k k1 k2 => (s k (by omega) (by omega)).2.1) (fun i _ q => by rw [(s 323 (by decide) (by decide)).1]; exact q), ⟨_, g.OS ⟨o1, o2, o3, o4, o5, o6⟩⟩, ⟨⟨fun t ht => ?_, ph.of (f 371 (by decide) (by decide)) (s 369 (by decide) (by decide)).1 (Nat.le_of_eq (fN_eq (f 325 (by decide) (by decide))).symm)⟩, p2.of (f 315 (by decide) (by decide)) (s 316 (by decide) (by decide)).1 (s 317 (by decide) (by decide)).1⟩,
    k.of (f 336 (by decide) (by decide)) (fun k k1 _ => (s k (by omega) (by omega)).2.1) (s 337 (by decide) (by decide)).1 (s 339 (by decide) (by decide)).1 (s 342 (by decide) (by decide)).1 (Nat.le_of_eq (fN_eq (f 315 (by decide) (by decide))).symm), ⟨⟨fN σ 324, o2, by omega⟩, ⟨hr, (f 347 (by decide) (by decide)).trans y1, by rw [fN_eq (f 336 (by decide) (by decide))]; exact y2⟩⟩, ?_⟩
  · rw [fn] at ht
    by_cases c : t = fN σ 324
    · subst c
      rw [r.1]
      exact Or.inr ⟨sc, x1, x2⟩
    · rw [old 326 (by decide) (by decide) t (by omega), old 327 (by decide) (by decide) t (by omega)]
      exact p1 t (by omega)
  · unfold lnB
    rw [(s 361 (by decide) (by decide)).2.1, (s 362 (by decide) (by decide)).2.1, (s 363 (by decide) (by decide)).2.1, (s 369 (by decide) (by decide)).2.1, (s 370 (by decide) (by decide)).2.1, (s 306 (by decide) (by decide)).2.1, (s 215 (by decide) (by decide)).2.1, (s 217 (by decide) (by decide)).2.1, (s 219 (by decide) (by decide)).2.1, (s 337 (by decide) (by decide)).2.1, (s 332 (by decide) (by decide)).2.1, (s 316 (by decide) (by decide)).2.1]
    exact ⟨l1, by omega, l3, by omega, by omega⟩
theorem FS_row {σ u : mmS} {x y z : Int32} (o : FS σ x y z u) : mm_a u 337 (fN σ 336) = x ∧ mm_a u 338 (fN σ 336) = y ||| 4 ∧ mm_a u 339 (fN σ 336) = mm_f σ 347 ∧ mm_a u 342 (fN σ 336) = 0 := by
  have h := o.1.2.2.2.1
  unfold fnL at h
  exact ⟨h (337, x) (by simp), h (338, y ||| 4) (by simp), h (339, mm_f σ 347) (by simp), h (342, 0) (by simp)⟩
theorem cI.FS {T : sT} {σ u : mmS} {x y z : Int32} (h : cI T σ) (o : FS σ x y z u) (hc : fN σ 336 ≤ 8750) : cI T u := by
  obtain ⟨t, cn, ⟨R, g⟩, ⟨p1, p2⟩, ⟨k1, ⟨k2, k4⟩, k3⟩, ⟨⟨sc, x1, x2⟩, ⟨hr, y1, y2⟩⟩, ⟨l1, l2, l3, l4, l5⟩⟩ := h
  have f (j : Nat) (h4 : j ≠ 336) := o.2.1 j h4
  have s (j : Nat) (j1 : 96 ≤ j) (j2 : j < 337 ∨ 345 < j) : sam σ u j := o.1.2.2.2.2.1 j (Or.inr (by omega)) (by omega)
  have r := FS_row o
  have fn := o.1.2.1
  have old := o.1.2.2.1
  obtain ⟨o1, o2, o4, o5, o6⟩ := o
  refine ⟨Tk_sam t (fun k hk => by rcases tkS_c hk with rfl | rfl | rfl | rfl | rfl | rfl | rfl <;> exact s _ (by decide) (by decide)) o1.2.2.2.2.2 (f 310 (by decide)), cn.of (f 315 (by decide)) (fun k k1 k2 => (s k (by omega) (by omega)).2.1) (fun i _ q => by rw [(s 323 (by decide) (by decide)).1]; exact q), ⟨R, g.of (f 324 (by decide)) (f 325 (by decide)) (fun k k1 _ => ⟨(s k (by omega) (by omega)).1, (s k (by omega) (by omega)).2.1⟩)⟩, ⟨upH.of p1 (f 324 (by decide)) (s 326 (by decide) (by decide)).1 (s 327 (by decide) (by decide)).1 (f 371 (by decide)) (s 369 (by decide) (by decide)).1 (Nat.le_of_eq (fN_eq (f 325 (by decide))).symm), p2.of (f 315 (by decide)) (s 316 (by decide) (by decide)).1 (s 317 (by decide) (by decide)).1⟩,
    ⟨o1.1, ⟨by omega, fun j hj => ?_⟩, fun j hj q => ?_⟩, ⟨⟨sc, (f 346 (by decide)).trans x1, by rw [fN_eq (f 324 (by decide))]; exact x2⟩, ⟨hr, (f 347 (by decide)).trans y1, by omega⟩⟩, ?_⟩
  · rw [fn] at hj
    have e15 := fN_eq (f 315 (by decide))
    by_cases c : j = fN σ 336
    · subst c
      exact ⟨0, r.2.2.2.trans nI_0.symm, by rw [e15]; exact cn.2.1⟩
    · obtain ⟨k, y1, y2⟩ := k4 j (by omega)
      exact ⟨k, by rw [old 342 (by decide) (by decide) j (by omega)]; exact y1, by rw [e15]; exact y2⟩
  · rw [fn] at hj
    by_cases c : j = fN σ 336
    · subst c
      exact ⟨hr, r.2.2.1.trans y1, y2⟩
    · rw [old 337 (by decide) (by decide) j (by omega)] at q
      rw [old 339 (by decide) (by decide) j (by omega)]
      exact k3 j (by omega) q
  · unfold lnB
    rw [(s 361 (by decide) (by decide)).2.1, (s 362 (by decide) (by decide)).2.1, (s 363 (by decide) (by decide)).2.1, (s 369 (by decide) (by decide)).2.1, (s 370 (by decide) (by decide)).2.1, (s 306 (by decide) (by decide)).2.1, (s 215 (by decide) (by decide)).2.1, (s 217 (by decide) (by decide)).2.1, (s 219 (by decide) (by decide)).2.1, (s 326 (by decide) (by decide)).2.1, (s 332 (by decide) (by decide)).2.1, (s 316 (by decide) (by decide)).2.1]
    exact ⟨l1, l2, by omega, by omega, by omega⟩
theorem Fr.OS {σ u : mmS} {x : Int32} (o : OS σ x u) : Fr (th σ) σ u := by
  have f (j : Nat) (h4 : j ≠ 324) (h6 : j ≠ 346) := OS_f o h4 h6
  have s (j : Nat) (j1 : 96 ≤ j) (j2 : j < 326 ∨ 331 < j) : sam σ u j := OS_sam o (Or.inr (by omega)) (by omega)
  have fn := o.1.2.1
  have old := o.1.2.2.1
  refine ⟨fun q => ?_, fun j hj => f j (fun e => by rw [e] at hj; exact absurd hj (by decide)) (fun e => by rw [e] at hj; exact absurd hj (by decide)), ⟨o.1.2.2.2.2.2, fun t ht _ => old 328 (by decide) (by decide) t ht, fun k _ => ⟨by rw [(s 332 (by decide) (by decide)).1], fun _ => by rw [(s 334 (by decide) (by decide)).1]⟩⟩, fun k k1 k2 => OS_sam o k1 (fun ⟨a, b⟩ => ?_), ⟨?_, by omega, ?_, ?_⟩, fun t ht => ⟨old 326 (by decide) (by decide) t ht, old 327 (by decide) (by decide) t ht⟩, fun t _ => ⟨by rw [(s 337 (by decide) (by decide)).1], by rw [(s 339 (by decide) (by decide)).1]⟩, fun _ => ⟨?_, fun k k1 k2 i _ _ => by rw [(s k (by omega) (by omega)).1], fun j _ => ⟨by rw [(s 338 (by decide) (by decide)).1], by rw [(s 342 (by decide) (by decide)).1]⟩, fun k _ => ⟨by rw [(s 369 (by decide) (by decide)).1], by rw [(s 370 (by decide) (by decide)).1]⟩, fun k _ => ⟨by rw [(s 361 (by decide) (by decide)).1], by rw [(s 362 (by decide) (by decide)).1]⟩⟩⟩
  · unfold GD at q ⊢
    rw [f 303 (by decide) (by decide)] at q
    exact q
  · have : cms k = true := by simp [cms, Nat.ble_eq_true_of_le a, Nat.ble_eq_true_of_le (show k ≤ 335 by omega)]
    rw [this] at k2
    exact absurd k2 (by decide)
  · rw [fN_eq (f 315 (by decide) (by decide))]; exact Nat.le_refl _
  · rw [fN_eq (f 325 (by decide) (by decide))]; exact Nat.le_refl _
  · rw [fN_eq (f 336 (by decide) (by decide))]; exact Nat.le_refl _
  · rw [fN_eq (f 371 (by decide) (by decide))]; exact Nat.le_refl _
theorem Fr.FS {σ u : mmS} {x y z : Int32} (o : FS σ x y z u) : Fr (th σ) σ u := by
  have f (j : Nat) (h4 : j ≠ 336) := o.2.1 j h4
  have s (j : Nat) (j1 : 96 ≤ j) (j2 : j < 337 ∨ 345 < j) : sam σ u j := o.1.2.2.2.2.1 j (Or.inr (by omega)) (by omega)
  have fn := o.1.2.1
  have old := o.1.2.2.1
  refine ⟨fun q => ?_, fun j hj => f j (fun e => by rw [e] at hj; exact absurd hj (by decide)), ⟨o.1.2.2.2.2.2, gro.of (s 328 (by decide) (by decide)).1 (s 332 (by decide) (by decide)).1 (s 334 (by decide) (by decide)).1⟩, fun k k1 k2 => o.1.2.2.2.2.1 k k1 (fun ⟨a, b⟩ => ?_), ⟨?_, ?_, ?_, by omega⟩, fun t _ => ⟨by rw [(s 326 (by decide) (by decide)).1], by rw [(s 327 (by decide) (by decide)).1]⟩, fun t ht => ⟨old 337 (by decide) (by decide) t ht, old 339 (by decide) (by decide) t ht⟩, fun _ => ⟨?_, fun k k1 k2 i _ _ => by rw [(s k (by omega) (by omega)).1], fun j hj => ⟨by rw [old 338 (by decide) (by decide) j hj], old 342 (by decide) (by decide) j hj⟩, fun k _ => ⟨by rw [(s 369 (by decide) (by decide)).1], by rw [(s 370 (by decide) (by decide)).1]⟩, fun k _ => ⟨by rw [(s 361 (by decide) (by decide)).1], by rw [(s 362 (by decide) (by decide)).1]⟩⟩⟩
  · unfold GD at q ⊢
    rw [f 303 (by decide)] at q
    exact q
  · have : cms k = true := by simp [cms, Nat.ble_eq_true_of_le a, Nat.ble_eq_true_of_le (show k ≤ 345 by omega)]
    rw [this] at k2
    exact absurd k2 (by decide)
  · rw [fN_eq (f 315 (by decide))]; exact Nat.le_refl _
  · rw [fN_eq (f 324 (by decide))]; exact Nat.le_refl _
  · rw [fN_eq (f 325 (by decide))]; exact Nat.le_refl _
  · rw [fN_eq (f 371 (by decide))]; exact Nat.le_refl _
/-- where one is in a scope that was opened -/
def psW (w : cW) (B sc : Nat) : cW := (w.1, w.2.1, w.2.2.1, B, sc, w.2.2.2.2.2)
theorem h_ok_ne {L : hC} (h : h_ok L = true) : L ≠ [] := fun e => by rw [e] at h; exact nomatch h
theorem cL.OS {σ u : mmS} {x : Int32} {L : hC} {B B' : Nat} (h : cL L B σ) (o : OS σ x u) (hB : bif h_top x then 1 ≤ B' else B + 1 ≤ B') : cL ((x, []) :: L) B' u := by
  obtain ⟨R, b, y1, y2, y3, y4, y5⟩ := h
  refine ⟨_, _, y1.OS o, y2.OS o, ?_, ?_, fun y t q _ => ?_⟩
  · have e : h_ok ((x, []) :: L) = (h_top x || h_ok L) := rfl
    rw [e, y3, Bool.or_true]
  · have e : hl ((x, []) :: L) = bif h_top x then 1 else hl L + 1 := rfl
    rw [e]
    cases ht : h_top x with
    | true => rw [ht] at hB; exact hB
    | false =>
      rw [ht] at hB
      have hB : B + 1 ≤ B' := hB
      show hl L + 1 ≤ B'
      omega
  · simp only [List.cons.injEq] at q
    rw [← q.2]
    exact h_ok_ne y3
theorem cG.OS {T : sT} {w : cW} {A : cA} {m e B : Nat} {σ u : mmS} {i : Nat} {x : Int32} (h : cG T w A m e σ i) (o : OS σ x u) (hm : 4 ≤ m) (hB : bif h_top x then 1 ≤ B else w_B w + 1 ≤ B) (hB2 : B ≤ 2 * (48 - w_nu w) + 3) : cG T (psW w B (fN σ 324)) ((x, []) :: A.1, A.2) (m - 4) e u i := by
  have hI := h.1.OS o (by have := h.caps; omega)
  obtain ⟨h1, h2, h3, ⟨n1, n2, n3⟩, h5, h6, h7, h8, ⟨u1, u2, u3⟩, h10, h11, h12, c1, c2, c3, c4, n, c5, c6⟩ := h
  have f (j : Nat) (h4 : j ≠ 324) (h6 : j ≠ 346) := OS_f o h4 h6
  have fe (j : Nat) (h4 : j ≠ 324) (h6 : j ≠ 346) := fN_eq (f j h4 h6)
  have s (j : Nat) (j1 : 96 ≤ j) (j2 : j < 326 ∨ 331 < j) : sam σ u j := OS_sam o (Or.inr (by omega)) (by omega)
  have fn := o.1.2.1
  refine ⟨hI, (f 303 (by decide) (by decide)).trans h2, by rw [f 311 (by decide) (by decide)]; exact h3, by rw [f 312 (by decide) (by decide)]; exact ⟨n1, n2, hB2⟩, h5.of (fun k k1 k2 => f k (by omega) (by omega)) (by rw [(s 337 (by decide) (by decide)).1]) (s 361 (by decide) (by decide)).1 (s 362 (by decide) (by decide)).1, ⟨o.2.1, (f 347 (by decide) (by decide)).trans h6.2⟩, h7.OS o hB, by rw [f 313 (by decide) (by decide)]; exact h8, by rw [f 360 (by decide) (by decide), (s 363 (by decide) (by decide)).1]; exact ⟨u1, u2, u3⟩,
    by rw [fe 336 (by decide) (by decide), cntF_of (σ := σ) (fun k _ => by rw [(s 337 (by decide) (by decide)).1])]; exact h10, ⟨(f 359 (by decide) (by decide)).trans h11.1, by have := h11.2; show A.2.2.2.2 + (m - 4) ≤ _; omega⟩, by rw [f 358 (by decide) (by decide)]; exact h12, ?_⟩
  unfold cC
  rw [fe 315 (by decide) (by decide), fn, fe 336 (by decide) (by decide), fe 325 (by decide) (by decide), f 371 (by decide) (by decide)]
  exact ⟨by omega, by omega, by omega, c4, n, c5, c6⟩
theorem cB.OS {T : sT} {g : Nat} {σ u : mmS} {x : Int32} (h : cB T (g + 16) σ) (o : OS σ x u) : cB T g u := by
  have hI : cI T u := by
    obtain ⟨h1, h2, ⟨q, q1, q2, q3, q4, q5, q6, q7⟩, -⟩ := h
    exact h1.OS o (by omega)
  obtain ⟨h1, h2, ⟨q, q1, q2, q3, q4, h4, h5, h6⟩, nn, u1, u2⟩ := h
  have f (j : Nat) (h4 : j ≠ 324) (h6 : j ≠ 346) := OS_f o h4 h6
  have fe (j : Nat) (h4 : j ≠ 324) (h6 : j ≠ 346) := fN_eq (f j h4 h6)
  have fn := o.1.2.1
  exact ⟨hI, (f 303 (by decide) (by decide)).trans h2, ⟨q, (f 311 (by decide) (by decide)).trans q1, q2, by omega, by rw [fe 315 (by decide) (by decide)]; omega, by rw [fn]; omega, by rw [fe 336 (by decide) (by decide)]; omega, by rw [fe 325 (by decide) (by decide)]; omega⟩, nn, (f 360 (by decide) (by decide)).trans u1, u2⟩
theorem cB.FS {T : sT} {g : Nat} {σ u : mmS} {x y z : Int32} (h : cB T (g + 16) σ) (o : FS σ x y z u) : cB T g u := by
  have hI : cI T u := by
    obtain ⟨h1, h2, ⟨q, q1, q2, q3, q4, q5, q6, q7⟩, -⟩ := h
    exact h1.FS o (by omega)
  obtain ⟨h1, h2, ⟨q, q1, q2, q3, q4, h4, h5, h6⟩, nn, u1, u2⟩ := h
  have f (j : Nat) (h4 : j ≠ 336) := o.2.1 j h4
  have fe (j : Nat) (h4 : j ≠ 336) := fN_eq (f j h4)
  have fn := o.1.2.1
  exact ⟨hI, (f 303 (by decide)).trans h2, ⟨q, (f 311 (by decide)).trans q1, q2, by omega, by rw [fe 315 (by decide)]; omega, by rw [fe 324 (by decide)]; omega, by rw [fn]; omega, by rw [fe 325 (by decide)]; omega⟩, nn, (f 360 (by decide)).trans u1, u2⟩
