/-! PHASE 4. A change of the program's rows alone -/
/-- only the program's rows are changed -/
def pgR (σ u : mmS) : Prop := (∀ k, 300 ≤ k → mm_f u k = mm_f σ k) ∧ (mm_r u = mm_r σ ∧ ∀ k, k < 200 → mm_f u k = mm_f σ k) ∧ ∀ j, lst j → (j == 215 || j == 217 || j == 219) = false → sam σ u j
theorem pgR.rfl' {σ : mmS} : pgR σ σ := ⟨fun _ _ => rfl, ⟨rfl, fun _ _ => rfl⟩, fun _ _ _ => sam.rfl'⟩
theorem pgR.trans {σ u v : mmS} (h : pgR σ u) (g : pgR u v) : pgR σ v := ⟨fun k hk => (g.1 k hk).trans (h.1 k hk), ⟨g.2.1.1.trans h.2.1.1, fun k hk => (g.2.1.2 k hk).trans (h.2.1.2 k hk)⟩, fun j h1 h2 => (h.2.2 j h1 h2).trans (g.2.2 j h1 h2)⟩
theorem pgR.gwn {σ u : mmS} {k n : Nat} (hk : k = 215 ∨ k = 217 ∨ k = 219) (g : gwn σ k n u) : pgR σ u := by
  rcases g with ⟨rfl, -⟩ | ⟨-, g1, g2, g3, g4, g5, -⟩
  · exact pgR.rfl'
  · exact ⟨fun j _ => by rw [g1], ⟨g2, fun j _ => by rw [g1]⟩, fun j h1 h2 => g5 j (fun e => by rw [e] at h2; rcases hk with rfl | rfl | rfl <;> exact nomatch h2) h1⟩
theorem pgR.setf {σ : mmS} {k : Nat} {x : Int32} (hk : 200 ≤ k ∧ k < 300) : pgR σ (mm_setf σ k x) := ⟨fun j hj => f_other (by omega), ⟨rfl, fun j hj => f_other (by omega)⟩, fun _ _ _ => sam.rfl'⟩
theorem pgR.seta {σ : mmS} {s k : Nat} {x : Int32} (hs : (s == 215 || s == 217 || s == 219) = true) : pgR σ (mm_seta σ s k x) := ⟨fun _ _ => rfl, ⟨rfl, fun _ _ => rfl⟩, fun j _ h => ⟨a_seta_n (fun e => by rw [e, hs] at h; exact nomatch h), rfl, rfl, rfl⟩⟩
section PG
variable {T : sT} {σ u : mmS} {w : cW} {A : cA} {m e i g : Nat}
theorem cI.pg (h : cI T σ) (q : pgR σ u) (hl : lnB T u) : cI T u := by
  obtain ⟨t, c, ⟨R, g⟩, ⟨p1, p3⟩, k, ⟨⟨sc, x1, x2⟩, ⟨hr, y1, y2⟩⟩, -⟩ := h
  obtain ⟨q1, q2, q3⟩ := q
  have f (k : Nat) (h1 : 300 ≤ k := by decide) : mm_f u k = mm_f σ k := q1 k h1
  have s (k : Nat) (h1 : 220 ≤ k) (h2 : lst k := by exact Or.inr (by decide)) : sam σ u k := q3 k h2 (by
    simp only [Bool.or_eq_false_iff, beq_eq_false_iff_ne]
    omega)
  refine ⟨Tk_sam t (fun k hk => ?_) q2.1 (f 310), c.of (f 315) (fun k k1 k2 => (s k (by omega) (Or.inr (by omega))).2.1) (fun i _ q => by rw [(s 323 (by decide)).1]; exact q), ⟨R, g.of (f 324) (f 325) (fun k k1 k2 => ⟨(s k (by omega) (Or.inr (by omega))).1, (s k (by omega) (Or.inr (by omega))).2.1⟩)⟩,
    ⟨upH.of p1 (f 324) (s 326 (by decide)).1 (s 327 (by decide)).1 (f 371) (s 369 (by decide)).1 (Nat.le_of_eq (fN_eq (f 325)).symm), p3.of (f 315) (s 316 (by decide)).1 (s 317 (by decide)).1⟩, k.of (f 336) (fun k k1 k2 => (s k (by omega) (Or.inr (by omega))).2.1) (s 337 (by decide)).1 (s 339 (by decide)).1 (s 342 (by decide)).1 (Nat.le_of_eq (fN_eq (f 315)).symm), ⟨⟨sc, (f 346).trans x1, by rw [fN_eq (f 324)]; exact x2⟩, ⟨hr, (f 347).trans y1, by rw [fN_eq (f 336)]; exact y2⟩⟩, hl⟩
  rcases tkS_c hk with rfl | rfl | rfl | rfl | rfl | rfl | rfl <;> exact q3 _ (Or.inr (by decide)) rfl
theorem cG.pg (h : cG T w A m e σ i) (I : cI T u) (q : pgR σ u) : cG T w A m e u i := by
  obtain ⟨h1, h2, h3, h4, h5, h6, h7, h8, h9, h10, h11, h12, hc⟩ := h
  obtain ⟨q1, q2, q3⟩ := q
  have f (k : Nat) (h1 : 300 ≤ k := by decide) : mm_f u k = mm_f σ k := q1 k h1
  have fe (k : Nat) (h1 : 300 ≤ k := by decide) := fN_eq (f k h1)
  have s (k : Nat) (h1 : 220 ≤ k) (h2 : lst k := by exact Or.inr (by decide)) : sam σ u k := q3 k h2 (by
    simp only [Bool.or_eq_false_iff, beq_eq_false_iff_ne]
    omega)
  refine ⟨I, (f 303).trans h2, by rw [f 311]; exact h3, by rw [f 312]; exact h4, h5.of (fun k k1 k2 => f k (by omega)) (by rw [(s 337 (by decide)).1]) (s 361 (by decide)).1 (s 362 (by decide)).1, by rw [f 346, f 347]; exact h6, h7.of (f 324) (f 325) (f 346) (fun k k1 k2 => ⟨(s k (by omega) (Or.inr (by omega))).1, (s k (by omega) (Or.inr (by omega))).2.1⟩), by rw [f 313]; exact h8, ?_, by rw [fe 336, cntF_of (σ := σ) (u := u) (fun _ _ => by rw [(s 337 (by decide)).1])]; exact h10, by rw [f 359]; exact h11, by rw [f 358]; exact h12, ?_⟩
  · rw [f 360, (s 363 (by decide)).1]
    exact h9
  · unfold cC
    rw [fe 315, fe 324, fe 336, fe 325, f 371]
    exact hc
theorem cB.pg (h : cB T g σ) (I : cI T u) (q : pgR σ u) : cB T g u := by
  obtain ⟨h1, h2, ⟨p, p1, p2, p3, p4, p5, p6, p7⟩, n, u1, u2⟩ := h
  obtain ⟨q1, q2, q3⟩ := q
  have f (k : Nat) (h1 : 300 ≤ k := by decide) : mm_f u k = mm_f σ k := q1 k h1
  have fe (k : Nat) (h1 : 300 ≤ k := by decide) := fN_eq (f k h1)
  exact ⟨I, (f 303).trans h2, ⟨p, (f 311).trans p1, p2, p3, by rw [fe 315]; exact p4, by rw [fe 324]; exact p5, by rw [fe 336]; exact p6, by rw [fe 325]; exact p7⟩, n, (f 360).trans u1, u2⟩
theorem lnB.setf {k : Nat} {x : Int32} (h : lnB T σ) : lnB T (mm_setf σ k x) := h
theorem lnB.seta {s k : Nat} {x : Int32} (h : lnB T σ) : lnB T (mm_seta σ s k x) := h
theorem lnB.gwn {k n : Nat} (h : lnB T σ) (hk : (k = 215 ∧ n ≤ 1313) ∨ (k = 217 ∧ n ≤ 3942) ∨ (k = 219 ∧ n ≤ 5260)) (q : gwn σ k n u) : lnB T u := by
  have pg := pgR.gwn (by omega) q
  rcases q with ⟨rfl, -⟩ | ⟨q0, g1, g2, g3, g4, g5, g6, g7⟩
  · exact h
  · have s (j : Nat) (h1 : j ≠ k) (h2 : 96 ≤ j) : mm_n u j = mm_n σ j := (g5 j h1 (Or.inr (by omega))).2.1
    have s' (j : Nat) (h2 : 300 ≤ j) : mm_n u j = mm_n σ j := s j (by omega) (by omega)
    obtain ⟨⟨l1, l2, l3, l4, l5, l6, ⟨b1, b2, b3⟩, b4, b5, b6⟩, m1, m2, m3, m4⟩ := h
    unfold lnB
    rw [s' 361 (by decide), s' 362 (by decide), s' 363 (by decide), s' 369 (by decide), s' 370 (by decide), s' 306 (by decide), s' 326 (by decide), s' 337 (by decide), s' 316 (by decide), s' 332 (by decide)]
    rcases hk with ⟨rfl, hn⟩ | ⟨rfl, hn⟩ | ⟨rfl, hn⟩
    · rw [g4, s 217 (by decide) (by decide), s 219 (by decide) (by decide)]
      refine ⟨⟨l1, l2, l3, l4, l5, l6, ⟨?_, b2, b3⟩, ?_, b5, b6⟩, m1, m2, ?_, ?_⟩ <;> omega
    · rw [g4, s 215 (by decide) (by decide), s 219 (by decide) (by decide)]
      refine ⟨⟨l1, l2, l3, l4, l5, l6, ⟨b1, ?_, b3⟩, b4, ?_, b6⟩, m1, m2, ?_, ?_⟩ <;> omega
    · rw [g4, s 215 (by decide) (by decide), s 217 (by decide) (by decide)]
      refine ⟨⟨l1, l2, l3, l4, l5, l6, ⟨b1, b2, ?_⟩, b4, b5, ?_⟩, m1, m2, ?_, ?_⟩ <;> omega
end PG
