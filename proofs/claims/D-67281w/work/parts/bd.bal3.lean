/-! PHASE 4. The same for statements; level by level; what literals and parameters shut -/
section GLT
variable {T : sT} {E : sE}
theorem gl_cond2 (h : GlE T E) {cx : sC} {i : Nat} {a a0 : Int} (ha : a0 ≤ a := by omega) : gl T 0 i a (loP a0) (s_cond2 T E cx i) := gl_bo (gl_nd ha) fun _ _ _ q _ => gl_b0 (gl_expr h) fun _ _ _ q2 _ => gl_nd (Int.le_trans q q2.1)
theorem gl_block (h : GlE T E) {x : sX} {i : Nat} {a a0 : Int} (ha : a0 ≤ a := by omega) : gl T 0 i a (loP a0) (s_block T E x i) := gl_blk (gl_bo (gl_nd ha) fun _ _ _ q _ => gl_b0 (gl_list h q) fun _ _ _ q _ => gl_nd q)
theorem gl_stm (h : GlE T E) {x : sX} {i : Nat} {a a0 : Int} (ha : a0 ≤ a := by omega) : gl T 0 i a (loP a0) (s_stm E x i) := gl_ll (h.2.2.2.2.2.2.2 _ _ _) ha
theorem gl_ex (h : GlE T E) {cx : sC} {inn : Bool} {i : Nat} {a a0 : Int} (ha : a0 ≤ a) : gl T 0 i a (loP (β := Unit) a0) (s_b (s_expr T E cx inn i) fun _ k => s_r () k) := gl_br (gl_expr h) fun _ _ _ _ q => Int.le_trans ha q.1
theorem gl_as (h : GlE T E) {cx : sC} {inn : Bool} {i : Nat} {a a0 : Int} (ha : a0 ≤ a) : gl T 0 i a (loP (β := Unit) a0) (s_b (E.1 cx inn i) fun _ k => s_r () k) := gl_br (h.1 _ _ _ _) fun _ _ _ _ q => Int.le_trans ha q.1
theorem gl_fplain (h : GlE T E) {x : sX} {i : Nat} {a a0 : Int} (ha : a0 ≤ a := by omega) : gl T (-1) i a (loP a0) (s_fplain T E x i) :=
  gl_b0 (gl_nd ha) fun _ _ _ q _ => gl_b0 (P1 := loP a0) (gl_i (gl_r bl_0 q) (gl_ex h q)) fun _ _ _ q _ => gl_b0 (gl_nd q) fun _ _ _ q _ => gl_b0 (P1 := loP a0) (gl_i (gl_r bl_0 q) (gl_ex h q)) fun _ _ _ q _ => gl_bc (gl_nd q) fun _ _ _ q _ => gl_stm h q
theorem gl_feach (h : GlE T E) {x : sX} {i : Nat} {a a0 : Int} (ho : t_oi T i = true) (ha : a0 ≤ a := by omega) : gl T (-1) i a (loP a0) (s_feach T E x i) := by
  have hb : bl T 0 i (i + 1) := by
    unfold t_oi at ho
    rw [Bool.or_eq_true] at ho
    rcases ho with c | c
    · exact bl_wd c
    · exact bl_wd c
  exact gl_a0 hb (gl_b0 (P1 := loP a0) (gl_i (gl_as h ha) (gl_ex h ha)) fun _ _ _ q _ => gl_bc (gl_nd q) fun _ _ _ q _ => gl_stm h q)
theorem gl_for (h : GlE T E) {x : sX} {i : Nat} {a a0 : Int} (ha : a0 ≤ a := by omega) : gl T 0 i a (loP a0) (s_for T E x i) := by
  refine gl_blk (gl_bo (gl_nd ha) fun _ j a1 q _ => gl_if (fun c => gl_a0 ?_ (gl_b0 (gl_bind h) fun b k a2 q2 _ => gl_if (fun c => gl_feach h c (Int.le_trans q q2.1)) fun _ => ?_)) fun _ => gl_i (gl_fplain h q) (gl_b0 (gl_expr h) fun n k a2 q2 _ => gl_if (fun c => gl_i gl_none ?_) fun _ => gl_fplain h (Int.le_trans q q2.1)))
  · simp only [Bool.or_eq_true] at c
    rcases c with (c | c) | c
    · exact bl_wd c
    · exact bl_wd c
    · exact bl_wd c
  · have q3 := Int.le_trans q q2.1
    exact gl_b0 (P1 := loP a0) (gl_if (fun c => gl_a0 (bl_sg c) (gl_as h q3)) fun _ => gl_i gl_none (gl_r bl_0 q3)) fun _ m a4 q4 _ => gl_b0 (P1 := loP a0) (gl_if (fun c => gl_a0 (bl_sg c) (gl_br (gl_decL h (i := 0) (n := 0) _ _ _ _ q4 (by simp)) fun _ _ _ _ q => q.1)) fun _ => gl_r bl_0 q4) fun _ _ _ q _ => gl_fplain h q
  · cases ht : n_tg n with
    | none => exact gl_none
    | some cc =>
      have := op_tg q2 cc ht
      have q : a0 ≤ a1 := q
      exact gl_b0 (P1 := fun _ a' j' => a0 ≤ a' ∧ j' = k) (gl_w bl_0 ⟨by show a0 ≤ a2 + -cc; omega, rfl⟩) fun _ m _ q3 _ => by
        obtain ⟨q3, rfl⟩ := q3
        exact gl_feach h c q3
theorem gl_swL (h : GlE T E) {x : sX} {a0 : Int} : ∀ (f : Nat) (o : Bool) (j : Nat) (a : Int), a0 ≤ a → gl T (-1) j a (loP a0) (s_swL T E x f o j)
  | 0, _, _, _, _ => gl_none
  | f + 1, o, j, a, ha => gl_if (fun c => gl_r (bl_sg c) ha) fun _ => gl_b0 (P1 := loP a0) (gl_if (fun c => gl_i gl_none (gl_r (bl_wd c) ha)) fun _ => gl_b0 (gl_nw ha) fun _ _ _ q _ => gl_ex h q) fun _ _ _ q _ => gl_b0 (gl_nd q) fun _ _ _ q _ => gl_b0 (gl_list h q) fun _ _ _ q _ => gl_swL h f _ _ _ q
theorem gl_switch (h : GlE T E) {x : sX} {i : Nat} {a a0 : Int} (ha : a0 ≤ a := by omega) : gl T 0 i a (loP a0) (s_switch T E x i) := gl_b0 (gl_cond2 h ha) fun _ _ _ q _ => gl_blk (gl_bo (gl_nd q) fun _ _ _ q _ => gl_swL h _ _ _ _ q)
theorem gl_try (h : GlE T E) {x : sX} {i : Nat} {a a0 : Int} (ha : a0 ≤ a := by omega) : gl T 0 i a (loP a0) (s_try T E x i) :=
  gl_b0 (gl_block h ha) fun _ j _ q _ => gl_b0 (P1 := loP a0) (gl_if (fun c => gl_a0 (bl_wd c) (gl_blk (gl_b0 (P1 := loP a0) (gl_if (fun c => gl_ao (bl_sg c) (gl_b0 (gl_bind h) fun _ _ _ q2 _ => gl_nd (Int.le_trans q q2.1))) fun _ => gl_r bl_0 q) fun _ _ _ q _ => gl_bo (gl_nd q) fun _ _ _ q _ => gl_b0 (gl_list h q) fun _ _ _ q _ => gl_nd q))) fun _ => gl_r bl_0 q) fun _ _ _ q _ => gl_if (fun c => gl_a0 (bl_wd c) (gl_block h q)) fun _ => gl_i (gl_r bl_0 q) gl_none
theorem gl_label (h : GlE T E) {x : sX} {i : Nat} {a a0 : Int} (h1 : t_id T i = true) (h2 : t_sg T (i + 1) 39 = true) (ha : a0 ≤ a := by omega) : gl T 0 i a (loP a0) (s_label T E x i) := gl_i gl_none (gl_a0 (bl_id h1) (gl_a0 (bl_sg h2) (gl_stm h ha)))
theorem gl_jump {x : sX} {brk : Bool} {i : Nat} {a a0 : Int} (hi : bl T 0 i (i + 1)) (ha : a0 ≤ a := by omega) : gl T 0 i a (loP a0) (s_jump T x brk i) := gl_if (fun c => gl_i (gl_a hi (gl_a0 (bl_id (by rw [Bool.and_eq_true] at c; exact c.1)) (gl_semi ha))) gl_none) fun _ => gl_i (gl_a hi (gl_semi ha)) gl_none
theorem gl_stmIn (h : GlE T E) {x : sX} {i : Nat} {a a0 : Int} (ha : a0 ≤ a := by omega) : gl T 0 i a (loP a0) (s_stmIn T E x i) := by
  refine gl_i (gl_block h ha) (gl_if (fun c => gl_r (bl_sg c) ha) fun _ => gl_if (fun c => ?_) fun _ => gl_if (fun c => gl_a0 (bl_wd c) (gl_b0 (gl_dec h) fun _ _ _ q _ => gl_semi (Int.le_trans ha q.1))) fun _ =>
    gl_if (fun c => gl_a0 (bl_wd c) (gl_b0 (gl_cond2 h ha) fun _ _ _ q _ => gl_b0 (gl_stm h q) fun _ _ _ q _ => gl_if (fun c => gl_a0 (bl_wd c) (gl_stm h q)) fun _ => gl_r bl_0 q)) fun _ =>
    gl_if (fun c => gl_a0 (bl_wd c) (gl_for h ha)) fun _ => gl_if (fun c => gl_a0 (bl_wd c) (gl_b0 (gl_cond2 h ha) fun _ _ _ q _ => gl_stm h q)) fun _ =>
    gl_if (fun c => gl_a0 (bl_wd c) (gl_b0 (gl_stm h ha) fun _ _ _ q _ => gl_b0 (gl_nw q) fun _ _ _ q _ => gl_b0 (gl_cond2 h q) fun _ _ _ q _ => gl_r (bl_opt fun c => bl_sg c) q)) fun _ =>
    gl_if (fun c => gl_jump (bl_wd c) ha) fun _ => gl_if (fun c => gl_jump (bl_wd c) ha) fun _ => gl_if (fun c => gl_i (gl_a0 (bl_wd c) (gl_i (gl_semi ha) (gl_b0 (gl_expr h) fun _ _ _ q _ => gl_semi (Int.le_trans ha q.1)))) gl_none) fun _ =>
    gl_if (fun c => gl_a0 (bl_wd c) (gl_switch h ha)) fun _ => gl_if (fun c => gl_i gl_none (gl_a0 (bl_wd c) (gl_b0 (gl_expr h) fun _ _ _ q _ => gl_semi (Int.le_trans ha q.1)))) fun _ =>
    gl_if (fun c => gl_a0 (bl_wd c) (gl_try h ha)) fun _ => gl_if (fun c => gl_a0 (bl_wd c) (gl_semi ha)) fun _ => gl_i gl_none (gl_b0 (gl_expr h) fun _ _ _ q _ => gl_semi (Int.le_trans ha q.1)))
  rw [Bool.and_eq_true] at c
  exact gl_label h c.1 c.2 ha
theorem gl_stmE (h : GlE T E) {x : sX} {i : Nat} {a : Int} : gl T 0 i a (loP a) (s_stmE T E x i) := gl_i gl_none (gl_stmIn h (Int.le_refl _))
theorem bl_afun {i : Nat} (h : s_afun T i = true) : bl T 0 i (i + 2) := by
  unfold s_afun at h
  rw [Bool.and_eq_true, Bool.and_eq_true] at h
  exact bl_t0 (bl_wd h.1.1) (bl_wd h.1.2)
theorem gl_item (h : GlE T E) {x : sX} {i : Nat} {a : Int} : gl T 0 i a (lenQ i 0 a) (s_item T E x i) :=
  gl_if (fun c => gl_a0 (bl_wd c) (gl_mono (gl_hoist h) fun _ _ _ _ q => ⟨q.1, by have := q.2; omega⟩)) fun _ => gl_if (fun c => gl_a0 (bl_afun c) (gl_mono (gl_hoist h) fun _ _ _ _ q => ⟨q.1, by have := q.2; omega⟩)) fun _ =>
    gl_if (fun c => gl_a0 (bl_wd c) (gl_b0 (gl_named (a0 := a)) fun _ _ _ q _ => gl_br (gl_class h) fun _ _ _ hm q2 => ⟨Int.le_trans q.1 q2.1, by have := q.2; omega⟩)) fun _ =>
    gl_if (fun c => gl_a0 (by
      rw [Bool.or_eq_true] at c
      rcases c with c | c
      · exact bl_wd c
      · exact bl_wd c) (gl_b0 (gl_dec h) fun _ _ _ q _ => gl_br (gl_semi q.1) fun _ _ _ hm q2 => ⟨q2, by have := q.2; omega⟩)) fun _ =>
    gl_if (fun c => gl_a0 (bl_wd c) (gl_b0 (gl_dec h) fun _ _ _ q _ => gl_br (gl_semi q.1) fun _ _ _ hm q2 => ⟨q2, by have := q.2; omega⟩)) fun _ => gl_br (gl_stmIn h (Int.le_refl a)) fun _ _ _ hm q => ⟨q, by simp only [List.length_nil]; omega⟩
end GLT
theorem gl_lv {T : sT} : ∀ ν, GlE T (s_lv T ν)
  | 0 => ⟨fun _ _ _ _ => gl_none, fun _ _ _ _ => gl_none, fun _ _ _ => gl_none, fun _ _ _ => gl_none, fun _ _ _ _ => gl_none, fun _ _ _ _ => gl_none, fun _ _ _ => gl_none, fun _ _ _ => gl_none⟩
  | ν + 1 => have h := gl_lv (T := T) ν; ⟨fun _ _ _ _ => gl_asg h, fun _ _ _ _ => gl_una h, fun _ _ _ => gl_newb h, fun _ _ _ => gl_left h, fun _ _ _ _ => gl_bind h, fun _ _ _ _ => gl_elem h, fun _ _ _ => gl_item h, fun _ _ _ => gl_stmE h⟩
