/-! PHASE 3. Lists while they are read; what becomes of a literal -/
def agr (R R' : Nat → Nat → Int32) (lo hi k : Nat) : Prop := ∀ s, 316 ≤ s → s ≤ 323 → ∀ j, lo ≤ j → j < hi → ¬ (s = 322 ∧ j = k) → R' s j = R s j
theorem plE.congr {T : sT} {D lo hi k q : Nat} {R R' : Nat → Nat → Int32} {c : Option Int} (h : plE T D R lo hi k c q) (hr : agr R R' lo hi k) : plE T D R' lo hi k c q := by
  obtain ⟨h1, h2, h3⟩ := h
  have e (s : Nat) (s1 : 316 ≤ s) (s2 : s ≤ 323) (ne : s ≠ 322) : R' s k = R s k := hr s s1 s2 k h1 h2 (by omega)
  refine ⟨h1, h2, ?_⟩
  rw [e 316 (by decide) (by decide) (by decide), e 320 (by decide) (by decide) (by decide), e 323 (by decide) (by decide) (by decide)]
  rcases h3 with y | y
  · exact Or.inl y
  · exact Or.inr ⟨y.1, y.2.mono (Nat.le_refl _) (Nat.le_refl _) (Nat.le_refl _) h2 hr⟩
def PC (P : (Nat → Nat → Int32) → LE → Prop) : Prop := ∀ R R' k lo hi c q sp, P R (k, lo, hi, c, q, sp) → lo ≤ k → k < hi → agr R R' lo hi k → P R' (k, lo, hi, c, q, sp)
theorem aE.congr {T : sT} {D : Nat} : PC (aE T D) := by
  intro R R' k lo hi c q sp h h1 h2 hr
  have e (s : Nat) (s1 : 316 ≤ s) (s2 : s ≤ 323) (ne : s ≠ 322) : R' s k = R s k := hr s s1 s2 k h1 h2 (by omega)
  have e16 := e 316 (by decide) (by decide) (by decide)
  rcases h with ⟨y1, y2⟩ | ⟨y1, y2, j, hj, y3, y4, y5, y6, y7⟩ | ⟨y1, y2, y3, y4⟩
  · exact Or.inl ⟨e16.trans y1, y2⟩
  · exact Or.inr (Or.inl ⟨e16.trans y1, y2, j, hj, (e 317 (by decide) (by decide) (by decide)).trans y3, y4, y5, y6, y7.mono (Nat.le_refl _) (Nat.le_refl _) (Nat.le_refl _) y5 (fun s s1 s2 j' j1 j2 _ => hr s s1 s2 j' j1 (by omega) (by omega))⟩)
  · exact Or.inr (Or.inr ⟨by rw [e16]; exact y1, by rw [e16]; exact y2, y3, y4.congr hr⟩)
theorem oE.congr {T : sT} {D : Nat} : PC (oE T D) := by
  intro R R' k lo hi c q sp h h1 h2 hr
  have e (s : Nat) (s1 : 316 ≤ s) (s2 : s ≤ 323) (ne : s ≠ 322) : R' s k = R s k := hr s s1 s2 k h1 h2 (by omega)
  have e20 := e 320 (by decide) (by decide) (by decide)
  have e18 := e 318 (by decide) (by decide) (by decide)
  have e19 := e 319 (by decide) (by decide) (by decide)
  rcases h with ⟨y1, y2, j, v, y3, y4, y5, y6, y7⟩ | ⟨y1, y2, j, hj, y3, y4, y5⟩ | ⟨y1, y2, j, hj, c', y3, y4, y5, y6, y7, y8⟩ | ⟨y1, y2, y3, y4⟩
  · exact Or.inl ⟨e20.trans y1, y2, j, v, e18.trans y3, y4, y5, by rw [hr 316 (by decide) (by decide) j y4 (by omega) (by omega), hr 317 (by decide) (by decide) j y4 (by omega) (by omega)]; exact y6, y7⟩
  · exact Or.inr (Or.inl ⟨e20.trans y1, y2, j, hj, e18.trans y3, y4, y5.congr (fun s s1 s2 j' j1 j2 _ => hr s s1 s2 j' j1 (by omega) (by omega))⟩)
  · exact Or.inr (Or.inr (Or.inl ⟨e20.trans y1, y2, j, hj, c', e18.trans y3, y4, y5, y6, y7.mono (Nat.le_refl _) (Nat.le_refl _) (Nat.le_refl _) y5 (fun s s1 s2 j' j1 j2 _ => hr s s1 s2 j' j1 (by omega) (by omega)), by rw [e19]; exact y8⟩))
  · exact Or.inr (Or.inr (Or.inr ⟨by rw [e20]; exact y1, by rw [e20]; exact y2, by rw [e20]; exact y3, y4⟩))
theorem LsP.imp {P P' : LE → Prop} {a0 b : Nat} (hP : ∀ k lo hi c q sp, a0 ≤ lo → lo ≤ k → k < hi → hi ≤ b → P (k, lo, hi, c, q, sp) → P' (k, lo, hi, c, q, sp)) : ∀ {l : List LE} {a : Nat}, a0 ≤ a → LsP P a l b → LsP P' a l b
  | [], _, _, h => h
  | (k, lo, hi, c, q, sp) :: t, a, ha, h => by
    obtain ⟨h1, h2, h3, h4, h5⟩ := h
    exact ⟨h1, h2, h3, hP k lo hi c q sp (by omega) h2 h3 h5.le h4, h5.imp hP (by omega)⟩
theorem LsP.mem {P : LE → Prop} {b : Nat} : ∀ {l : List LE} {a : Nat}, LsP P a l b → ∀ y ∈ l, a ≤ y.1 ∧ y.1 < b
  | [], _, _, y, hy => nomatch hy
  | (k, lo, hi, c, q, sp) :: t, a, h, y, hy => by
    obtain ⟨h1, h2, h3, h4, h5⟩ := h
    rcases List.mem_cons.mp hy with e | e
    · subst e
      have := h5.le
      exact ⟨by show a ≤ k; omega, by show k < b; omega⟩
    · have := h5.mem y e
      exact ⟨by omega, this.2⟩
theorem LsP.lt {P : LE → Prop} {b : Nat} {z : LE} : ∀ {l : List LE} {a : Nat}, LsP P a (l ++ [z]) b → ∀ y ∈ l, y.1 < z.1
  | [], _, _, y, hy => nomatch hy
  | (k, lo, hi, c, q, sp) :: t, a, h, y, hy => by
    obtain ⟨h1, h2, h3, h4, h5⟩ := h
    rcases List.mem_cons.mp hy with e | e
    · subst e
      have := h5.mem z (by simp)
      show k < z.1
      omega
    · exact h5.lt y e
theorem LsP.snoc {P : LE → Prop} {b lo k hi q b' : Nat} {c : Option Int} {sp : Bool} (hb : b ≤ lo) (hk : lo ≤ k) (hi' : k < hi) (hp : P (k, lo, hi, c, q, sp)) (h2 : hi ≤ b') : ∀ {l : List LE} {a : Nat}, LsP P a l b → LsP P a (l ++ [(k, lo, hi, c, q, sp)]) b'
  | [], a, h => ⟨Nat.le_trans h hb, hk, hi', hp, h2⟩
  | (k1, lo1, hi1, c1, q1, sp1) :: t, a, h => by
    obtain ⟨h1, h3, h4, h5, h6⟩ := h
    exact ⟨h1, h3, h4, h5, LsP.snoc hb hk hi' hp h2 h6⟩
theorem LsP.mem2 {P : LE → Prop} {b : Nat} : ∀ {l : List LE} {a : Nat}, LsP P a l b → ∀ y ∈ l, a ≤ y.2.1
  | [], _, _, y, hy => nomatch hy
  | (k, lo, hi, c, q, sp) :: t, a, h, y, hy => by
    obtain ⟨h1, h2, h3, h4, h5⟩ := h
    rcases List.mem_cons.mp hy with e | e
    · subst e
      exact h1
    · have := h5.mem2 y e
      omega
theorem LsP.last {P P' : LE → Prop} {a0 b : Nat} {z : LE} (hP : ∀ k lo hi c q sp, a0 ≤ lo → lo ≤ k → k < hi → hi ≤ z.2.1 ∨ k = z.1 → P (k, lo, hi, c, q, sp) → P' (k, lo, hi, c, q, sp)) : ∀ {l : List LE} {a : Nat}, a0 ≤ a → LsP P a (l ++ [z]) b → LsP P' a (l ++ [z]) b
  | [], a, ha, h => by
    obtain ⟨k, lo, hi, c, q, sp⟩ := z
    obtain ⟨h1, h2, h3, h4, h5⟩ := h
    exact ⟨h1, h2, h3, hP k lo hi c q sp (by omega) h2 h3 (Or.inr rfl) h4, h5⟩
  | (k, lo, hi, c, q, sp) :: t, a, ha, h => by
    obtain ⟨h1, h2, h3, h4, h5⟩ := h
    exact ⟨h1, h2, h3, hP k lo hi c q sp (by omega) h2 h3 (Or.inl (h5.mem2 z (by simp))) h4, LsP.last hP (by omega) h5⟩
theorem LsP.lz {P : LE → Prop} {b : Nat} {z : LE} : ∀ {l : List LE} {a : Nat}, LsP P a (l ++ [z]) b → z.2.1 ≤ z.1
  | [], a, h => by
    obtain ⟨k, lo, hi, c, q, sp⟩ := z
    exact h.2.1
  | (k, lo, hi, c, q, sp) :: t, a, h => LsP.lz h.2.2.2.2
theorem rwK.congr {R R' : Nat → Nat → Int32} : ∀ {l : List LE} {x : Int32}, (∀ y ∈ l, R' 322 y.1 = R 322 y.1) → rwK R l x → rwK R' l x
  | [], _, _, h => h
  | (k, lo, hi, c, q, sp) :: t, x, hr, h => ⟨h.1, by
    rw [hr (k, lo, hi, c, q, sp) (by simp)]
    exact rwK.congr (fun y hy => hr y (List.mem_cons_of_mem _ hy)) h.2⟩
theorem rwK.snoc {R R' : Nat → Nat → Int32} {z y : LE} (h1 : R' 322 z.1 = nI y.1) (h2 : R' 322 y.1 = 0) : ∀ {l : List LE} {x : Int32}, (∀ y ∈ l, R' 322 y.1 = R 322 y.1) → rwK R (l ++ [z]) x → rwK R' (l ++ [z] ++ [y]) x
  | [], x, _, h => by
    obtain ⟨k, lo, hi, c, q, sp⟩ := z
    obtain ⟨k2, lo2, hi2, c2, q2, sp2⟩ := y
    exact ⟨h.1, h1, h2⟩
  | (k, lo, hi, c, q, sp) :: t, x, hr, h => ⟨h.1, by
    rw [hr (k, lo, hi, c, q, sp) (by simp)]
    exact rwK.snoc h1 h2 (fun y hy => hr y (List.mem_cons_of_mem _ hy)) h.2⟩
theorem n_cb_a {a b c : Option Int} : n_cb a (n_cb b c) = n_cb (n_cb a b) c := by
  cases a <;> cases b <;> cases c <;> simp [n_cb, Int.add_assoc]
theorem n_cb_n {a : Option Int} : n_cb a none = none := by cases a <;> rfl
theorem n_cb_0 {a : Option Int} : n_cb a (some 0) = a := by cases a <;> simp [n_cb]
theorem n_cb_0' {a : Option Int} : n_cb (some 0) a = a := by cases a <;> simp [n_cb]
theorem cs_snoc {k lo hi q : Nat} {c : Option Int} {sp tr : Bool} : ∀ {l : List LE}, cs (l ++ [(k, lo, hi, c, q, sp)]) tr = bif sp && tr then none else n_cb (cs l true) c
  | [] => by
    show (bif sp && (false || tr) then none else n_cb c (some 0)) = _
    rw [Bool.false_or, n_cb_0]
    show _ = bif sp && tr then none else n_cb (some 0) c
    rw [n_cb_0']
  | (k1, lo1, hi1, c1, q1, sp1) :: t => by
    show (bif sp1 && (!(t ++ [_]).isEmpty || tr) then none else n_cb c1 (cs (t ++ [_]) tr)) = bif sp && tr then none else n_cb (bif sp1 && (!t.isEmpty || true) then none else n_cb c1 (cs t true)) c
    rw [cs_snoc, show (t ++ [((k, lo, hi, c, q, sp) : LE)]).isEmpty = false by cases t <;> rfl, Bool.or_true]
    cases sp1 with
    | true => cases (sp && tr) <;> rfl
    | false =>
      cases (sp && tr) with
      | true => exact n_cb_n
      | false => exact n_cb_a
theorem cq_snoc {k lo hi q : Nat} {c : Option Int} {sp : Bool} : ∀ {l : List LE}, cq (l ++ [(k, lo, hi, c, q, sp)]) = cq l + q + 1
  | [] => by simp [cq]
  | (k1, lo1, hi1, c1, q1, sp1) :: t => by
    show q1 + 1 + cq (t ++ [_]) = q1 + 1 + cq t + q + 1
    rw [cq_snoc]; omega
/-- a list while it is read -/
def lsG (P : (Nat → Nat → Int32) → LE → Prop) (wk : Int32) (k0 : Nat) (tl : Int32) (l : List LE) (b : Nat) (tr : Bool) (u : mmS) : Prop :=
  LsP (P (mm_a u)) (k0 + 1) l b ∧ b ≤ fN u 315 ∧ rwK (mm_a u) l (mm_a u 317 k0) ∧ ((l = [] ∧ tl = 0) ∨ ∃ l0 z, l = l0 ++ [z] ∧ tl = nI z.1) ∧ 1 ≤ k0 ∧ mm_a u 316 k0 = wk ∧ mm_a u 322 k0 = 0 ∧ mm_a u 323 k0 = 0 ∧ mm_a u 320 k0 = bI tr
theorem lsG.of {P : (Nat → Nat → Int32) → LE → Prop} {wk tl : Int32} {k0 b : Nat} {l : List LE} {tr : Bool} {u u' : mmS} (h : lsG P wk k0 tl l b tr u) (hP : PC P) (hb : b ≤ fN u' 315) (hr : ∀ s, 316 ≤ s → s ≤ 323 → ∀ j, k0 ≤ j → j < b → mm_a u' s j = mm_a u s j) : lsG P wk k0 tl l b tr u' := by
  obtain ⟨h1, h2, h3, h4, h5, h6, h7, h8, h9⟩ := h
  have hk := h1.le
  have e (s : Nat) (s1 : 316 ≤ s) (s2 : s ≤ 323) : mm_a u' s k0 = mm_a u s k0 := hr s s1 s2 k0 (Nat.le_refl _) (by omega)
  refine ⟨h1.imp (a0 := k0 + 1) (fun k lo hi c q sp a1 a2 a3 a4 p => hP _ _ _ _ _ _ _ _ p a2 a3 (fun s s1 s2 j j1 j2 _ => hr s s1 s2 j (by omega) (by omega))) (Nat.le_refl _), hb, ?_, h4, h5, (e 316 (by decide) (by decide)).trans h6, (e 322 (by decide) (by decide)).trans h7, (e 323 (by decide) (by decide)).trans h8, (e 320 (by decide) (by decide)).trans h9⟩
  rw [e 317 (by decide) (by decide)]
  exact h3.congr (fun y hy => hr 322 (by decide) (by decide) _ (by have := h1.mem y hy; omega) (by have := h1.mem y hy; omega))
theorem lsG.mono {P : (Nat → Nat → Int32) → LE → Prop} {wk tl : Int32} {k0 b : Nat} {l : List LE} {tr : Bool} {u u' : mmS} (h : lsG P wk k0 tl l b tr u) (hP : PC P) (f : Fr (th u) u u') (gd : GD u') : lsG P wk k0 tl l b tr u' :=
  h.of hP (Nat.le_trans h.2.1 f.nn) (fun s s1 s2 j j1 j2 => (f.2.2.2.2.2.2.2 gd).2.1 s s1 s2 j (by have := h.2.2.2.2.1; omega) (by have := h.2.1; show j < fN u 315; omega))
theorem lsG.flag {P : (Nat → Nat → Int32) → LE → Prop} {wk tl : Int32} {k0 b : Nat} {l : List LE} {tr : Bool} {u : mmS} (h : lsG P wk k0 tl l b tr u) (hP : PC P) : lsG P wk k0 tl l b true (mm_seta u 320 k0 1) := by
  obtain ⟨h1, h2, h3, h4, h5, h6, h7, h8, h9⟩ := h
  have hr (s : Nat) (j : Nat) (h : j ≠ k0 ∨ s ≠ 320) : mm_a (mm_seta u 320 k0 1) s j = mm_a u s j := by
    rcases h with h | h
    · exact a_seta_i h
    · rw [a_seta_n h]
  refine ⟨h1.imp (a0 := k0 + 1) (fun k lo hi c q sp a1 a2 a3 a4 p => hP _ _ _ _ _ _ _ _ p a2 a3 (fun s s1 s2 j j1 j2 _ => hr s j (Or.inl (by omega)))) (Nat.le_refl _), h2, ?_, h4, h5, (hr _ _ (Or.inr (by decide))).trans h6, (hr _ _ (Or.inr (by decide))).trans h7, (hr _ _ (Or.inr (by decide))).trans h8, a_seta_s⟩
  rw [hr 317 k0 (Or.inr (by decide))]
  exact h3.congr (fun y hy => hr _ _ (Or.inr (by decide)))
theorem lsG.link0 {P : (Nat → Nat → Int32) → LE → Prop} {wk : Int32} {k0 b k lo hi q : Nat} {l : List LE} {c : Option Int} {tr sp : Bool} {u : mmS} (h : lsG P wk k0 0 l b tr u) (hP : PC P) (hcap : fN u 315 ≤ 85000) (h1 : b ≤ lo) (h2 : lo ≤ k) (h3 : k < hi) (h4 : hi ≤ fN u 315) (h5 : P (mm_a u) (k, lo, hi, c, q, sp)) (h6 : mm_a u 322 k = 0) : lsG P wk k0 (nI k) (l ++ [(k, lo, hi, c, q, sp)]) hi tr (mm_seta u 317 k0 (nI k)) := by
  obtain ⟨a1, a2, a3, a4, a5, a6, a7, a8, a9⟩ := h
  have hk := a1.le
  have e0 : l = [] := by
    rcases a4 with y | ⟨l0, z, y1, y2⟩
    · exact y.1
    · subst y1
      have := a1.mem z (by simp)
      exact absurd y2.symm (nI_ne0 (by omega) (by omega))
  subst e0
  have hr (s : Nat) (j : Nat) (h : j ≠ k0 ∨ s ≠ 317) : mm_a (mm_seta u 317 k0 (nI k)) s j = mm_a u s j := by
    rcases h with h | h
    · exact a_seta_i h
    · rw [a_seta_n h]
  refine ⟨⟨by omega, h2, h3, hP _ _ _ _ _ _ _ _ h5 h2 h3 (fun s s1 s2 j j1 j2 _ => hr s j (Or.inl (by omega))), Nat.le_refl _⟩, h4, ⟨a_seta_s, (hr _ _ (Or.inr (by decide))).trans h6⟩, Or.inr ⟨[], _, rfl, rfl⟩, a5, (hr _ _ (Or.inr (by decide))).trans a6, (hr _ _ (Or.inr (by decide))).trans a7, (hr _ _ (Or.inr (by decide))).trans a8, (hr _ _ (Or.inr (by decide))).trans a9⟩
theorem lsG.link1 {P : (Nat → Nat → Int32) → LE → Prop} {wk tl : Int32} {k0 b k lo hi q t : Nat} {l : List LE} {c : Option Int} {tr sp : Bool} {u : mmS} (h : lsG P wk k0 tl l b tr u) (hP : PC P) (hcap : fN u 315 ≤ 85000) (ht : tl = nI t) (ht2 : t < fN u 315) (ht0 : ¬ tl = 0) (h1 : b ≤ lo) (h2 : lo ≤ k) (h3 : k < hi) (h4 : hi ≤ fN u 315) (h5 : P (mm_a u) (k, lo, hi, c, q, sp)) (h6 : mm_a u 322 k = 0) : lsG P wk k0 (nI k) (l ++ [(k, lo, hi, c, q, sp)]) hi tr (mm_seta u 322 t (nI k)) ∧ k0 < t := by
  obtain ⟨a1, a2, a3, a4, a5, a6, a7, a8, a9⟩ := h
  obtain ⟨l0, z, y1, y2⟩ : ∃ l0 z, l = l0 ++ [z] ∧ tl = nI z.1 := by
    rcases a4 with y | y
    · exact absurd y.2 ht0
    · exact y
  subst y1
  have hz := a1.mem z (by simp)
  have et : t = z.1 := nI_inj (by omega) (by omega) (ht.symm.trans y2)
  subst et
  have hr (s : Nat) (j : Nat) (h : j ≠ z.1 ∨ s ≠ 322) : mm_a (mm_seta u 322 z.1 (nI k)) s j = mm_a u s j := by
    rcases h with h | h
    · exact a_seta_i h
    · rw [a_seta_n h]
  have low (s : Nat) : mm_a (mm_seta u 322 z.1 (nI k)) s k0 = mm_a u s k0 := hr s k0 (Or.inl (by omega))
  refine ⟨⟨LsP.snoc h1 h2 h3 (hP _ _ _ _ _ _ _ _ h5 h2 h3 (fun s s1 s2 j j1 j2 _ => hr s j (Or.inl (by omega)))) (Nat.le_refl _) ?_, h4, ?_, Or.inr ⟨_, _, rfl, rfl⟩, a5, (low 316).trans a6, (low 322).trans a7, (low 323).trans a8, (low 320).trans a9⟩, by omega⟩
  · refine a1.last (a0 := k0 + 1) (fun k' lo' hi' c' q' sp' b1 b2 b3 b4 p => hP _ _ _ _ _ _ _ _ p b2 b3 (fun s s1 s2 j j1 j2 ne => ?_)) (Nat.le_refl _)
    have := a1.lz
    exact hr s j (by omega)
  · rw [low 317]
    exact rwK.snoc (y := (k, lo, hi, c, q, sp)) a_seta_s ((hr _ _ (Or.inl (by show k ≠ z.1; omega))).trans h6) (fun y hy => hr _ _ (Or.inl (by have := a1.lt y hy; omega))) a3
