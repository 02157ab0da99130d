/-! PHASE 4. The module's laws: covers, what is told -/
section ML
variable {T : sT} {E : sE}
theorem gl_word {j : Nat} {a a0 : Int} (h : a0 ≤ a := by omega) : gl T 0 j a (loP a0) (s_word T j) := gl_if (fun q => gl_r (bl_kd q) h) (fun _ => gl_none)
theorem gl_from {j : Nat} {a a0 : Int} (h : a0 ≤ a := by omega) : gl T 0 j a (loP a0) (s_from T j) := gl_b0 (gl_nw h) fun _ _ _ q _ => gl_if (fun c => gl_a0 (bl_kd c) (gl_b0 (gl_semi q) fun _ _ _ q _ => gl_r bl_0 q)) fun _ => gl_none
theorem gl_bring {j : Nat} {a a0 : Int} (h : a0 ≤ a := by omega) : gl T 0 j a (loP a0) (s_bring T j) := gl_b0 (gl_ident h) fun _ _ _ q _ => gl_w0 bl_0 rfl q.1
theorem gl_impL {a0 : Int} : ∀ (f j : Nat) (a : Int), a0 ≤ a → gl T 0 j a (loP a0) (s_impL T f j)
  | 0, _, _, _ => gl_none
  | f + 1, j, a, h => gl_i (gl_r bl_0 h) (gl_b0 (gl_word h) fun _ _ _ q _ => gl_b0 (gl_if (fun c => gl_a0 (bl_wd c) (gl_bring q)) fun _ => gl_i (gl_w0 bl_0 rfl q) gl_none) fun _ _ _ q _ => gl_i (gl_impL f _ _ q) (gl_b0 (gl_nd q) fun _ _ _ q _ => gl_impL f _ _ q))
theorem gl_imp {i : Nat} {a a0 : Int} (h : a0 ≤ a := by omega) : gl T 0 i a (loP a0) (s_imp T i) :=
  gl_if (fun c => gl_a0 (bl_kd c) (gl_b0 (gl_semi h) fun _ _ _ q _ => gl_r bl_0 q)) fun _ =>
  gl_b0 (P1 := loP a0) (gl_i (gl_r bl_0 h) (gl_b0 (gl_bring h) fun _ _ _ q _ => gl_if (fun c => gl_r (bl_sg c) q) fun _ => gl_r bl_0 q)) fun more j _ q _ =>
  gl_b0 (P1 := loP a0) (gl_if (fun c => gl_a0 (bl_sg (s := 20) (by simp only [Bool.and_eq_true] at c; exact c.2)) (gl_b0 (gl_nw q) fun _ _ _ q _ => gl_bring q)) fun _ =>
    gl_i (gl_bo (gl_nd q) fun _ _ _ q _ => gl_b0 (gl_impL _ _ _ q) fun _ _ _ q _ => gl_nd q) (gl_r bl_0 q)) fun _ _ _ q _ => gl_b0 (gl_from q) fun _ _ _ q _ => gl_r bl_0 q
theorem gl_expL {a0 : Int} : ∀ (f : Nat) (res : Bool) (l : List (Int32 × Int32)) (j : Nat) (a : Int), a0 ≤ a → gl T 0 j a (loP a0) (s_expL T f res l j)
  | 0, _, _, _, _, _ => gl_none
  | f + 1, res, l, j, a, h => gl_i (gl_r bl_0 h) (gl_b0 (gl_word h) fun _ _ _ q _ => gl_b0 (P1 := loP a0) (gl_if (fun c => gl_a0 (bl_wd c) (gl_word q)) fun _ => gl_r bl_0 q) fun _ _ _ q _ => gl_i (gl_expL f _ _ _ _ q) (gl_b0 (gl_nd q) fun _ _ _ q _ => gl_expL f _ _ _ _ q))
theorem gl_deflt {i : Nat} {a a0 : Int} (h : a0 ≤ a := by omega) : gl T 0 i a (loP a0) (s_deflt T i) := by
  have hd : ∀ (asy : Bool) (k : Nat), gl T 0 k a (loP a0) (s_b (s_hoist T (s_lv T 47) asy true k) (fun l k => s_r (([], l.map (fun x => (8, true, x))) : sM) k)) := fun asy k => gl_b0 (gl_hoist (gl_lv 47)) fun _ _ _ q _ => gl_r bl_0 (Int.le_trans h q.1)
  unfold s_deflt
  refine gl_if (fun c => ?_) fun _ => gl_if (fun c => ?_) fun _ => gl_b0 (P1 := loP a0) (gl_w0 bl_0 rfl h) fun _ _ _ q _ => gl_b0 ((gl_lv 48).1 _ _ _ _) fun _ _ _ q2 _ => gl_b0 (gl_semi (Int.le_trans q q2.1)) fun _ _ _ q _ => gl_r bl_0 q
  · cases z : s_afun T i with
    | true => exact gl_a0 (bl_afun z) (hd _ _)
    | false =>
      rw [z, Bool.false_or] at c
      exact gl_a0 (bl_wd c) (hd _ _)
  · refine gl_a0 (bl_wd c) (gl_i (gl_b0 (gl_named h) fun _ _ _ q _ => gl_b0 (gl_class (gl_lv 47)) fun _ _ _ q2 _ => gl_r bl_0 (Int.le_trans q.1 q2.1)) (gl_b0 (P1 := loP a0) (gl_w0 bl_0 rfl h) fun _ _ _ q _ => gl_b0 (gl_class (gl_lv 47)) fun _ _ _ q2 _ => gl_r bl_0 (Int.le_trans q q2.1)))
theorem gl_exp {i : Nat} {a a0 : Int} (h : a0 ≤ a := by omega) : gl T 0 i a (loP a0) (s_exp T i) := by
  unfold s_exp
  refine gl_if (fun c => ?_) fun _ => gl_if (fun c => ?_) fun _ => gl_if (fun c => gl_a0 (bl_wd c) (gl_deflt h)) fun _ => gl_i (gl_b0 ((gl_lv 48).2.2.2.2.2.2.1 _ _ _) fun _ _ _ q _ => gl_r bl_0 (Int.le_trans h q.1)) gl_none
  · refine gl_a0 (bl_sg c) (gl_b0 (P1 := loP a0) (gl_if (fun c => gl_a0 (bl_wd c) (gl_word h)) fun _ => gl_r bl_0 h) fun _ _ _ q _ => gl_b0 (gl_from q) fun _ _ _ q _ => gl_r bl_0 q)
  · refine gl_ao (bl_sg c) (gl_b0 (gl_expL _ _ _ _ _ h) fun _ _ _ q _ => gl_bc (gl_nd q) fun _ _ _ q _ => gl_i (gl_b0 (gl_from q) fun _ _ _ q _ => gl_r bl_0 q) (gl_i gl_none (gl_b0 (gl_semi q) fun _ _ _ q _ => gl_r bl_0 q)))
theorem gl_mitem {i : Nat} {a a0 : Int} (h : a0 ≤ a := by omega) : gl T 0 i a (loP a0) (s_mitem T i) :=
  gl_if (fun c => gl_a0 (bl_wd c) (gl_imp h)) fun _ => gl_if (fun c => gl_a0 (bl_wd c) (gl_exp h)) fun _ => gl_b0 ((gl_lv 48).2.2.2.2.2.2.1 _ _ _) fun _ _ _ q _ => gl_r bl_0 (Int.le_trans h q.1)
theorem gl_modL {a0 : Int} : ∀ (f : Nat) (v : sM) (j : Nat) (a : Int), a0 ≤ a → gl T 0 j a (loP a0) (s_modL T f v j)
  | 0, _, _, _, _ => gl_none
  | f + 1, v, j, a, h => gl_i (gl_r bl_0 h) (gl_b0 (gl_mitem h) fun _ _ _ q _ => gl_i (gl_modL f _ _ _ q) gl_none)
theorem run_cov {β : Type} {inn : Bool} {A B : cA} {r : sR β} {v : β} {j : Nat} (h : run inn A r = some (v, j, B)) : ∃ α, r = some (v, j, α) ∧ B.2.1 = A.2.1 + α.1 := by
  unfold run at h
  match r, h with
  | some (v1, j1, α), h =>
    simp only [A_st] at h
    refine ⟨α, ?_⟩
    split at h
    · exact nomatch h
    · rename_i B1 hB
      simp only [Option.some.injEq, Prod.mk.injEq] at h
      obtain ⟨rfl, rfl, rfl⟩ := h
      refine ⟨rfl, ?_⟩
      revert hB
      cases α.2.2.2.2.1 && (inn || α.2.1.isEmpty) with
      | false => exact fun z => nomatch z
      | true =>
        rw [cond_true]
        cases h_run α.2.2.2.2.2 A.1 with
        | none => exact fun z => nomatch z
        | some L =>
          intro z
          injection z with z
          rw [← z]
theorem mod_cov {f : Nat} {v v' : sM} {j i : Nat} {A B : cA} (h : run false A (s_modL T f v j) = some (v', i, B)) : A.2.1 ≤ B.2.1 := by
  obtain ⟨α, h1, h2⟩ := run_cov h
  have h3 : (0 : Int) ≤ 0 + α.1 := (gl_modL (T := T) (a0 := 0) f v j 0 (Int.le_refl _) v' i α h1).2
  omega
theorem s_b_cong {β γ : Type} {r : sR γ} {f g : γ → Nat → sR β} (h : ∀ v j α, r = some (v, j, α) → f v j = g v j) : s_b r f = s_b r g := by
  unfold s_b
  match r, h with
  | none, _ => rfl
  | some (v, j, α), h => simp only [h v j α rfl]
theorem val_b {β γ : Type} {P : β → Prop} {r : sR γ} {f : γ → Nat → sR β} (h : ∀ v k w q δ, f v k = some (w, q, δ) → P w) (w : β) (q : Nat) (δ : sA) (z : s_b r f = some (w, q, δ)) : P w := by
  obtain ⟨v, j, α, δ', -, z2⟩ := s_b_some z
  exact h _ _ _ _ _ z2
theorem imp_told {i : Nat} (w : sM) (q : Nat) (δ : sA) (z : s_imp T i = some (w, q, δ)) : w.2 = [] := by
  have e : ∀ (x : Int32) (j : Nat) (w : sM) (q : Nat) (δ : sA), s_r (([x], []) : sM) j = some (w, q, δ) → w.2 = [] := fun x j w q δ z => by
    have z : some ((([x], []) : sM), j, sA0) = some (w, q, δ) := z
    injection z with z
    injection z with z1 z2
    rw [← z1]
  unfold s_imp at z
  cases c : t_kd T i 6 with
  | true =>
    rw [c, cond_true] at z
    exact val_b (fun v k => e _ _) _ _ _ z
  | false =>
    rw [c, cond_false] at z
    exact val_b (fun v k => val_b fun v k => val_b fun v k => e _ _) _ _ _ z
end ML
