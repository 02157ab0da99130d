/-! PHASE 4. What every reading keeps: brackets are balanced, no end within, covers are not below nothing, names take tokens -/
def t_dp (T : sT) (k : Nat) : Int := (bif t_op T k then 1 else 0) - (bif t_sh T k then 1 else 0)
def t_S (T : sT) : Nat → Int
  | 0 => 0
  | k + 1 => t_S T k + t_dp T k
/-- from i to j the depth changes by e; it never falls below where it began before j (or below where it ends) -/
def bl (T : sT) (e : Int) (i j : Nat) : Prop := i ≤ j ∧ (∀ k, i ≤ k → k < j → T.1 k ≠ 0 ∧ (t_S T i ≤ t_S T k ∨ (e < 0 ∧ t_S T i + e ≤ t_S T k))) ∧ t_S T j = t_S T i + e
/-- up to what shuts, no sooner -/
def bs (T : sT) (i j : Nat) : Prop := i < j ∧ bl T 0 i (j - 1) ∧ T.1 (j - 1) ≠ 0 ∧ t_dp T (j - 1) = -1
def dps (s : Int32) : Int := bif s == 0 || s == 2 || s == 4 then 1 else bif s == 1 || s == 3 || s == 5 then -1 else 0
section BL
variable {T : sT} {e e1 e2 : Int} {i j k : Nat}
theorem bl_0 : bl T 0 i i := ⟨Nat.le_refl _, fun k h1 h2 => absurd h2 (by omega), (Int.add_zero _).symm⟩
theorem bl_t (h : bl T e1 i j) (g : bl T e2 j k) (h0 : 0 ≤ e1 ∨ e2 ≤ 0 := by decide) : bl T (e1 + e2) i k := by
  obtain ⟨h1, h2, h3⟩ := h
  obtain ⟨g1, g2, g3⟩ := g
  refine ⟨by omega, fun q q1 q2 => ?_, by omega⟩
  by_cases c : q < j
  · have := h2 q q1 c
    exact ⟨this.1, by omega⟩
  · have := g2 q (by omega) q2
    exact ⟨this.1, by omega⟩
theorem bs_t (h : bl T 0 i j) (g : bs T j k) : bs T i k := ⟨by have := h.1; have := g.1; omega, bl_t h g.2.1, g.2.2⟩
theorem bs_1 (hk : T.1 i ≠ 0) (hd : t_dp T i = -1) : bs T i (i + 1) := ⟨by omega, bl_0, hk, hd⟩
theorem bs_bl (h : bs T i j) : bl T (-1) i j := by
  obtain ⟨h1, ⟨h2, h3, h4⟩, h5, h6⟩ := h
  have hS : t_S T (j - 1 + 1) = t_S T (j - 1) + t_dp T (j - 1) := rfl
  rw [show j - 1 + 1 = j by omega] at hS
  refine ⟨by omega, fun k k1 k2 => ?_, by omega⟩
  by_cases c : k = j - 1
  · subst c
    exact ⟨h5, by omega⟩
  · have := h3 k k1 (by omega)
    exact ⟨this.1, by omega⟩
theorem bl_1 (hk : T.1 i ≠ 0) (hd : t_dp T i = e) : bl T e i (i + 1) := ⟨by omega, fun k h1 h2 => by
  have : k = i := by omega
  subst this
  exact ⟨hk, Or.inl (Int.le_refl _)⟩, by rw [t_S, hd]⟩
theorem dp_sg {s : Int32} (h : t_sg T i s = true) : T.1 i ≠ 0 ∧ t_dp T i = dps s := by
  have h1 : T.1 i = 3 ∧ T.2.1 i = s := by simpa [t_sg] using h
  refine ⟨by rw [h1.1]; decide, ?_⟩
  have t : ∀ x : Int32, t_sg T i x = (s == x) := fun x => by simp [t_sg, h1.1, h1.2]
  have k7 : t_kd T i 7 = false := by simp [t_kd, h1.1]
  unfold t_dp t_op t_sh dps
  rw [t, t, t, t, t, t, k7]
  simp only [Bool.false_and, Bool.or_false]
  by_cases c0 : s = 0
  · subst c0; rfl
  by_cases c1 : s = 1
  · subst c1; rfl
  by_cases c2 : s = 2
  · subst c2; rfl
  by_cases c3 : s = 3
  · subst c3; rfl
  by_cases c4 : s = 4
  · subst c4; rfl
  by_cases c5 : s = 5
  · subst c5; rfl
  rw [beq_eq_false_iff_ne.mpr c0, beq_eq_false_iff_ne.mpr c1, beq_eq_false_iff_ne.mpr c2, beq_eq_false_iff_ne.mpr c3, beq_eq_false_iff_ne.mpr c4, beq_eq_false_iff_ne.mpr c5]
  rfl
theorem bl_sg {s : Int32} (h : t_sg T i s = true) (he : dps s = e := by decide) : bl T e i (i + 1) := bl_1 (dp_sg h).1 ((dp_sg h).2.trans he)
theorem bl_t0 (h : bl T 0 i j) (g : bl T 0 j k) : bl T 0 i k := bl_t h g
theorem dp_kd {x : Int32} (h : T.1 i = x) (h0 : x ≠ 0) (h3 : x ≠ 3) (h7 : x ≠ 7 ∨ (t_hd T i = t_tl T i)) : T.1 i ≠ 0 ∧ t_dp T i = 0 := by
  refine ⟨by rw [h]; exact h0, ?_⟩
  have t : ∀ s : Int32, t_sg T i s = false := fun s => by simp [t_sg, h, h3]
  unfold t_dp t_op t_sh
  simp only [t, Bool.false_or]
  rcases h7 with h7 | h7
  · have k7 : t_kd T i 7 = false := by simp [t_kd, h, h7]
    rw [k7]; rfl
  · rw [h7]
    cases t_kd T i 7 <;> cases t_tl T i <;> rfl
theorem bl_kd {x : Int32} (h : t_kd T i x = true) (h0 : x ≠ 0 := by decide) (h3 : x ≠ 3 := by decide) (h7 : x ≠ 7 := by decide) : bl T 0 i (i + 1) := by
  have := dp_kd (eq_of_beq h) h0 h3 (Or.inl h7)
  exact bl_1 this.1 this.2
theorem bl_wd {w : Int32} (h : t_wd T i w = true) : bl T 0 i (i + 1) := by
  unfold t_wd at h
  rw [Bool.and_eq_true] at h
  exact bl_kd (x := 1) h.1
theorem bl_id (h : t_id T i = true) : bl T 0 i (i + 1) := by
  unfold t_id at h
  rw [Bool.and_eq_true] at h
  exact bl_kd (x := 1) h.1
/-- a piece of a template: head alone, middle, tail, both -/
theorem bl_7 (h : t_kd T i 7 = true) : bl T ((bif t_hd T i then 1 else 0) - (bif t_tl T i then 1 else 0)) i (i + 1) := by
  have h1 : T.1 i = 7 := eq_of_beq h
  refine bl_1 (by rw [h1]; decide) ?_
  have t : ∀ s : Int32, t_sg T i s = false := fun s => by simp [t_sg, h1]
  unfold t_dp t_op t_sh
  simp only [t, Bool.false_or, h, Bool.true_and]
  cases t_hd T i <;> cases t_tl T i <;> rfl
theorem bl_e (h : bl T e i j) (he : e = e1) : bl T e1 i j := he ▸ h
theorem bl_end (h : bl T e i j) (hi : i ≤ t_e T) (h0 : T.1 (t_e T) = 0) : j ≤ t_e T := by
  rcases Nat.lt_or_ge (t_e T) j with c | c
  · exact absurd h0 (h.2.1 _ hi c).1
  · exact c
theorem t_cl_loop {p j : Nat} (hj : bs T p j) : ∀ (f k : Nat) (d : Int), p ≤ k → k < j → d = t_S T k - t_S T p + 1 → j < f + k + 1 → t_clL T f d k = j - 1 := by
  intro f
  induction f with
  | zero =>
    intro k d h1 h2 _ h4
    omega
  | succ f ih =>
    intro k d h1 h2 h3 h4
    obtain ⟨b1, ⟨b2, b3, b4⟩, b5, b6⟩ := id hj
    have hk : t_kd T k 0 = false := by
      have : T.1 k ≠ 0 := by
        by_cases c : k = j - 1
        · subst c; exact b5
        · exact (b3 k h1 (by omega)).1
      unfold t_kd
      exact beq_eq_false_iff_ne.mpr this
    have hS : t_S T (k + 1) = t_S T k + ((bif t_op T k then 1 else 0) - (bif t_sh T k then 1 else 0)) := rfl
    rw [t_clL, hk, cond_false]
    generalize hd : d + (bif t_op T k then (1 : Int) else 0) - (bif t_sh T k then (1 : Int) else 0) = d'
    have hd2 : d' = t_S T (k + 1) - t_S T p + 1 := by omega
    by_cases c : k + 1 = j
    · have b6 : t_dp T (j - 1) = -1 := b6
      have hS2 : t_S T (k + 1) = t_S T k + t_dp T k := rfl
      have e : k = j - 1 := by omega
      rw [e] at hS2 hd2
      have : d' = 0 := by rw [hd2, hS2]; omega
      rw [this]
      exact e
    · have : ¬ d' = 0 := by
        by_cases c2 : k + 1 = j - 1
        · rw [c2] at hd2; omega
        · have := (b3 (k + 1) (by omega) (by omega)).2
          omega
      rw [beq_eq_false_iff_ne.mpr this, cond_false]
      exact ih (k + 1) d' (by omega) (by omega) hd2 (by omega)
/-- where what is opened is shut -/
theorem t_cl_of (ho : bl T 1 i (i + 1)) (hj : bs T (i + 1) j) (hi : j ≤ t_e T + 1) : t_cl T i = j - 1 := by
  have h1 : t_S T (i + 1) = t_S T i + 1 := ho.2.2
  have hk : t_kd T i 0 = false := beq_eq_false_iff_ne.mpr (ho.2.1 i (Nat.le_refl _) (by omega)).1
  have hS : t_S T (i + 1) = t_S T i + ((bif t_op T i then 1 else 0) - (bif t_sh T i then 1 else 0)) := rfl
  unfold t_cl
  rw [t_clL, hk, cond_false]
  generalize hd : (0 : Int) + (bif t_op T i then (1 : Int) else 0) - (bif t_sh T i then (1 : Int) else 0) = d'
  have hd2 : d' = 1 := by omega
  rw [hd2]
  show t_clL T (t_e T) 1 (i + 1) = j - 1
  have := hj.1
  exact t_cl_loop hj (t_e T) (i + 1) 1 (Nat.le_refl _) (by omega) (by omega) (by omega)
end BL
/-- a reading from i, behind a covers -/
def gl {β : Type} (T : sT) (e : Int) (i : Nat) (a : Int) (P : β → Int → Nat → Prop) (r : sR β) : Prop := ∀ v j α, r = some (v, j, α) → bl T e i j ∧ P v (a + α.1) j
def loP {β : Type} (a0 : Int) (_ : β) (a : Int) (_ : Nat) : Prop := a0 ≤ a
def opP (a0 : Int) (c : Option Int) (a : Int) : Prop := ∀ x, c = some x → 0 ≤ x ∧ a0 + x ≤ a
def cvP (a0 : Int) (v : sN) (a : Int) (_ : Nat) : Prop := a0 ≤ a ∧ opP a0 v.2.2.2.2.1 a
def lenQ (i n : Nat) (a0 : Int) (l : List Int32) (a : Int) (j : Nat) : Prop := a0 ≤ a ∧ l.length + i ≤ j + n
section GL
variable {β γ : Type} {T : sT} {e e1 e2 : Int} {i j : Nat} {a a0 : Int} {P P' : β → Int → Nat → Prop} {r r1 : sR β}
theorem gl_none : gl T e i a P (none : sR β) := fun _ _ _ h => nomatch h
theorem gl_w {α : sA} {v : β} {j : Nat} (h : bl T e i j) (hp : P v (a + α.1) j) : gl T e i a P (s_w α v j) := by
  intro v2 j2 α2 q
  unfold s_w at q
  simp only [Option.some.injEq, Prod.mk.injEq] at q
  obtain ⟨q1, q2, q3⟩ := q
  subst q1 q2 q3
  exact ⟨h, hp⟩
theorem gl_w0 {α : sA} {v : β} {j : Nat} (h : bl T e i j) (h0 : α.1 = 0) (hp : P v a j) : gl T e i a P (s_w α v j) := gl_w h (by rw [h0, Int.add_zero]; exact hp)
theorem gl_r {v : β} {j : Nat} (h : bl T e i j) (hp : P v a j) : gl T e i a P (s_r v j) := gl_w0 (α := sA0) h rfl hp
theorem gl_b {P1 : γ → Int → Nat → Prop} {r : sR γ} {f : γ → Nat → sR β} (h : gl T e1 i a P1 r) (g : ∀ v j a', P1 v a' j → i ≤ j → gl T e2 j a' P (f v j)) (he : e1 + e2 = e := by decide) (h0 : 0 ≤ e1 ∨ e2 ≤ 0 := by decide) : gl T e i a P (s_b r f) := by
  intro w k α q
  unfold s_b at q
  cases hr : r with
  | none => rw [hr] at q; exact nomatch q
  | some z =>
    obtain ⟨v, j, α1⟩ := z
    rw [hr] at q
    simp only at q
    have hh := h v j α1 hr
    cases hf : f v j with
    | none => rw [hf] at q; exact nomatch q
    | some y =>
      obtain ⟨v2, j2, α2⟩ := y
      rw [hf] at q
      simp only [Option.some.injEq, Prod.mk.injEq] at q
      obtain ⟨q1, q2, q3⟩ := q
      subst q1 q2 q3
      have gg := g v j _ hh.2 hh.1.1 v2 j2 α2 hf
      refine ⟨he ▸ bl_t hh.1 gg.1 h0, ?_⟩
      have : a + (sA_m α1 α2).1 = a + α1.1 + α2.1 := (Int.add_assoc _ _ _).symm
      rw [this]
      exact gg.2
theorem gl_b0 {P1 : γ → Int → Nat → Prop} {r : sR γ} {f : γ → Nat → sR β} (h : gl T 0 i a P1 r) (g : ∀ v j a', P1 v a' j → i ≤ j → gl T e j a' P (f v j)) : gl T e i a P (s_b r f) := gl_b h g (Int.zero_add e) (Or.inl (Int.le_refl _))
theorem gl_bo {P1 : γ → Int → Nat → Prop} {r : sR γ} {f : γ → Nat → sR β} (h : gl T 1 i a P1 r) (g : ∀ v j a', P1 v a' j → i ≤ j → gl T (-1) j a' P (f v j)) : gl T 0 i a P (s_b r f) := gl_b h g
theorem gl_bc {P1 : γ → Int → Nat → Prop} {r : sR γ} {f : γ → Nat → sR β} (h : gl T (-1) i a P1 r) (g : ∀ v j a', P1 v a' j → i ≤ j → gl T 0 j a' P (f v j)) : gl T (-1) i a P (s_b r f) := gl_b h g
theorem gl_if {c : Bool} {r1 r2 : sR β} (h1 : c = true → gl T e i a P r1) (h2 : c = false → gl T e i a P r2) : gl T e i a P (bif c then r1 else r2) := by
  cases c with
  | true => exact h1 rfl
  | false => exact h2 rfl
theorem gl_i {c : Bool} {r1 r2 : sR β} (h1 : gl T e i a P r1) (h2 : gl T e i a P r2) : gl T e i a P (bif c then r1 else r2) := gl_if (fun _ => h1) (fun _ => h2)
theorem gl_mono (h : gl T e i a P r) (hp : ∀ v b j, i ≤ j → P v b j → P' v b j) : gl T e i a P' r := fun v j α q => ⟨(h v j α q).1, hp _ _ _ (h v j α q).1.1 (h v j α q).2⟩
/-- a token before -/
theorem gl_a {k : Nat} (hb : bl T e1 i k) (h : gl T e2 k a P r) (he : e1 + e2 = e := by decide) (h0 : 0 ≤ e1 ∨ e2 ≤ 0 := by decide) : gl T e i a P r := fun v j α q => ⟨he ▸ bl_t hb (h v j α q).1 h0, (h v j α q).2⟩
theorem gl_a0 {k : Nat} (hb : bl T 0 i k) (h : gl T e k a P r) : gl T e i a P r := gl_a hb h (Int.zero_add e) (Or.inl (Int.le_refl _))
theorem gl_ao {k : Nat} (hb : bl T 1 i k) (h : gl T (-1) k a P r) : gl T 0 i a P r := gl_a hb h
theorem gl_blk (h : gl T e i a P r) : gl T e i a P (s_blk r) := by
  intro v j α q
  unfold s_blk at q
  cases hr : r with
  | none => rw [hr] at q; exact nomatch q
  | some z =>
    obtain ⟨v1, j1, cv, pu, nf, nc, ok, evs⟩ := z
    rw [hr] at q
    simp only [Option.some.injEq, Prod.mk.injEq] at q
    obtain ⟨q1, q2, q3⟩ := q
    subst q1 q2 q3
    have q := h _ _ _ hr
    exact ⟨q.1, q.2⟩
theorem gl_fn {n : Nat} (h : gl T e i a P r) : gl T e i a P (s_fn n r) := by
  intro v j α q
  unfold s_fn at q
  cases hr : r with
  | none => rw [hr] at q; exact nomatch q
  | some z =>
    obtain ⟨v1, j1, cv, pu, nf, nc, ok, evs⟩ := z
    rw [hr] at q
    simp only [Option.some.injEq, Prod.mk.injEq] at q
    obtain ⟨q1, q2, q3⟩ := q
    subst q1 q2 q3
    have q := h _ _ _ hr
    exact ⟨q.1, q.2⟩
theorem op_none : opP a0 none a := fun _ h => nomatch h
theorem cv_k {w : Int32} {a1 : Int} {j : Nat} (h : a0 ≤ a1) : cvP a0 (n_k w) a1 j := ⟨h, op_none⟩
theorem cv_d {w d : Int32} {a1 : Int} {j : Nat} (h : a0 ≤ a1) : cvP a0 (n_d w d) a1 j := ⟨h, op_none⟩
theorem cv_id {x : Int32} {a1 : Int} {j : Nat} (h : a0 ≤ a1) : cvP a0 (n_id x) a1 j := ⟨h, op_none⟩
theorem gl_cl {r : sR (List (Int32 × Nat))} (h : gl T e i a (loP a) r) : gl T e i a (cvP a) (s_cl r) := by
  intro v j α q
  unfold s_cl at q
  cases hr : r with
  | none => rw [hr] at q; exact nomatch q
  | some z =>
    obtain ⟨v1, j1, cv, pu, nf, nc, ok, evs⟩ := z
    rw [hr] at q
    simp only [Option.some.injEq, Prod.mk.injEq] at q
    obtain ⟨q1, q2, q3⟩ := q
    subst q1 q2 q3
    have := h _ _ _ hr
    exact ⟨this.1, cv_k this.2⟩
theorem op_mono {c : Option Int} {a1 a2 b1 b2 : Int} (h : opP a1 c b1) (h1 : a2 ≤ a1) (h2 : b1 ≤ b2) : opP a2 c b2 := fun x q => by
  have := h x q
  exact ⟨this.1, by omega⟩
/-- weaker: what was before -/
theorem gl_lo {r : sR sN} (h : gl T e i a (cvP a) r) (hl : a0 ≤ a) : gl T e i a (loP a0) r := gl_mono h fun _ _ _ _ q => Int.le_trans hl q.1
theorem gl_ll (h : gl T e i a (loP a) r) (hl : a0 ≤ a) : gl T e i a (loP a0) r := gl_mono h fun _ _ _ _ q => Int.le_trans hl q
theorem op_tg {v : sN} {a1 : Int} {j : Nat} (h : cvP a0 v a1 j) : opP a0 (n_tg v) a1 := by
  intro x q
  unfold n_tg at q
  cases hs : n_si v with
  | true =>
    rw [hs] at q
    have : (0 : Int) = x := Option.some.inj q
    subst this
    exact ⟨Int.le_refl _, by have := h.1; omega⟩
  | false =>
    rw [hs] at q
    cases hp : v.2.2.2.1 with
    | true => rw [hp] at q; exact nomatch q
    | false => rw [hp] at q; exact h.2 x q
theorem op_el {v : sN} {a1 : Int} {j : Nat} (h : cvP a0 v a1 j) : opP a0 (n_el v) a1 := by
  intro x q
  unfold n_el at q
  cases hs : (v.1 == 28 && v.2.2.1 == 0 && !v.2.2.2.1) with
  | true =>
    rw [hs] at q
    have : (0 : Int) = x := Option.some.inj q
    subst this
    exact ⟨Int.le_refl _, by have := h.1; omega⟩
  | false => rw [hs] at q; exact op_tg h x q
theorem op_cb {c1 c2 : Option Int} {a1 a2 : Int} (h : opP a0 c1 a1) (g : opP a1 c2 a2) : opP a0 (n_cb c1 c2) a2 := by
  intro x q
  cases c1 with
  | none => exact nomatch q
  | some y =>
    cases c2 with
    | none => exact nomatch q
    | some z =>
      have : y + z = x := Option.some.inj q
      have h1 := h y rfl
      have h2 := g z rfl
      subst this
      exact ⟨by omega, by omega⟩
end GL
