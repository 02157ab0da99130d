/-! PHASE 3. Scopes that are opened and shut again: the laws of their declarations -/
abbrev hE : Type := List (Nat × Int32)
theorem find_app {es : hE} {k : Nat} {m n : Int32} (hk : (k == 8) = false) : h_find (es ++ [(k, m)]) n = match h_find es n with | some r => some r | none => bif m == n then some k else none := by
  unfold h_find
  rw [List.find?_append]
  cases h : es.find? (fun e => e.2 == n && !(e.1 == 8)) with
  | some x => rfl
  | none =>
    cases hm : m == n with
    | true => simp [List.find?, hm, hk]
    | false => simp [List.find?, hm]
theorem find_app8 {es : hE} {m n : Int32} : h_find (es ++ [(8, m)]) n = h_find es n := by
  unfold h_find
  rw [List.find?_append]
  cases h : es.find? (fun e => e.2 == n && !(e.1 == 8)) with
  | some x => rfl
  | none => simp [List.find?]
theorem pass_app {es : hE} {k : Nat} {m n : Int32} : h_pass (es ++ [(k, m)]) n = (h_pass es n || (m == n && (k == 8 || k == 0))) := by
  unfold h_pass
  simp [List.any_append]
/-- what stands in a block's scope -/
def Iblk (l es : hE) : Prop := ∀ n : Int32, (h_find es n).isSome = l.any (fun y => y.2 == n && !(y.1 == 0)) ∧ h_pass es n = l.any (fun y => y.2 == n && y.1 == 0)
theorem Iblk.nil : Iblk [] [] := fun _ => ⟨rfl, rfl⟩
theorem Iblk.var {l es : hE} {n : Int32} (h : Iblk l es) : Iblk (l ++ [(0, n)]) (bif h_pass es n then es else es ++ [(8, n)]) := by
  intro m
  obtain ⟨h1, h2⟩ := h m
  cases hp : h_pass es n with
  | true =>
    have e : l.any (fun y => y.2 == n && y.1 == 0) = true := (h n).2.symm.trans hp
    refine ⟨by rw [cond_true, h1]; simp [List.any_append], ?_⟩
    rw [cond_true, h2, List.any_append]
    cases hm : n == m with
    | true =>
      have : n = m := eq_of_beq hm
      subst this
      rw [e]; rfl
    | false => simp [hm]
  | false =>
    refine ⟨by rw [cond_false, find_app8, h1]; simp [List.any_append], ?_⟩
    rw [cond_false, pass_app, h2, List.any_append]
    simp
theorem Iblk.lex {l es : hE} {k : Nat} {n : Int32} (h : Iblk l es) (h0 : (k == 0) = false) (h8 : (k == 8) = false) : Iblk (l ++ [(k, n)]) (es ++ [(k, n)]) := by
  intro m
  obtain ⟨h1, h2⟩ := h m
  refine ⟨?_, by rw [pass_app, h2, List.any_append]; simp [h0, h8]⟩
  rw [find_app h8, List.any_append, ← h1]
  cases h_find es m with
  | some r => simp
  | none => cases hm : n == m <;> simp [hm, h0]
theorem any_mem {α : Type} {p q : α → Bool} : ∀ {l : List α}, (∀ y ∈ l, p y = q y) → l.any p = l.any q
  | [], _ => rfl
  | y :: t, h => by rw [List.any_cons, List.any_cons, h y List.mem_cons_self, any_mem (fun z hz => h z (List.mem_cons_of_mem _ hz))]
theorem any_or {α : Type} {p q : α → Bool} : ∀ {l : List α}, (l.any p || l.any q) = l.any (fun y => p y || q y)
  | [] => rfl
  | y :: t => by
    rw [List.any_cons, List.any_cons, List.any_cons, ← any_or (p := p) (q := q) (l := t)]
    cases p y <;> cases q y <;> cases t.any p <;> cases t.any q <;> rfl
theorem m_blk0 {a : Nat} (h : a < 3) : m_blk a 0 = !(a == 0) := by
  unfold m_blk
  have : (a == 4) = false := by rw [beq_eq_false_iff_ne]; omega
  rw [decide_eq_true h, this]
  cases a == 0 <;> rfl
theorem m_blkK {a k : Nat} (h : a < 3) (hk : k < 3) (h0 : (k == 0) = false) : m_blk a k = true := by
  unfold m_blk
  rw [decide_eq_true h, decide_eq_true hk, h0, Bool.and_false]; rfl
theorem s_hit0 {l : hE} {n : Int32} (hl : ∀ y ∈ l, y.1 < 3) : s_hit m_blk l (0, n) = l.any (fun y => y.2 == n && !(y.1 == 0)) := by
  unfold s_hit
  exact any_mem fun y hy => by rw [m_blk0 (hl y hy)]
theorem s_hitK {l : hE} {k : Nat} {n : Int32} (hl : ∀ y ∈ l, y.1 < 3) (h0 : (k == 0) = false) (h3 : k < 3) : s_hit m_blk l (k, n) = (l.any (fun y => y.2 == n && !(y.1 == 0)) || l.any (fun y => y.2 == n && y.1 == 0)) := by
  unfold s_hit
  rw [any_or]
  exact any_mem fun y hy => by rw [m_blkK (hl y hy) h3 h0]; cases y.2 == n <;> cases y.1 == 0 <;> rfl
theorem h_ev3 {k : Nat} {n : Int32} {L : hC} (h : k < 4) (hb : n_bad n = false) : h_ev k n L = h_dec0 k n L := by
  have h7 : (k == 7) = false := by rw [beq_eq_false_iff_ne]; omega
  have h9 : Nat.ble 9 k = false := by
    cases h : Nat.ble 9 k with
    | true => have := Nat.le_of_ble_eq_true h; omega
    | false => rfl
  rw [h_ev, h7, h9, h_dec, hb]; rfl
theorem h_run_c {k : Nat} {n : Int32} {t : hE} {L : hC} : h_run ((k, n) :: t) L = match h_ev k n L with | none => none | some L2 => h_run t L2 := rfl
theorem h_dec0_0 {n : Int32} {L : hC} : h_dec0 0 n L = h_var n L := by
  unfold h_dec0
  rfl
theorem h_dec0_n {k : Nat} {n w : Int32} {es : hE} {t : hC} (h0 : (k == 0) = false) : h_dec0 k n ((w, es) :: t) = bif k == 2 && h_top w && !(w == 0) then (match h_find es n with | none => some ((w, es ++ [(2, n)]) :: t) | some r => bif r == 0 || r == 3 || r == 2 then some ((w, es) :: t) else none) else bif (h_find es n).isSome || h_pass es n || ((w == 2 || w == 7) && h_has t n) then none else some ((w, es ++ [(k, n)]) :: t) := by
  rw [h_dec0, h0]; rfl
theorem h_has_c {n w : Int32} {es : hE} {t : hC} : h_has ((w, es) :: t) n = (h_find es n).isSome := rfl
/-- what a block's scope holds behind declarations -/
def blkE : hE → hE → hE
  | [], es => es
  | x :: t, es => blkE t (bif x.1 == 0 then (bif h_pass es x.2 then es else es ++ [(8, x.2)]) else es ++ [x])
def evOK (m : Nat) (l : hE) : Prop := ∀ x ∈ l, x.1 < m ∧ n_bad x.2 = false
theorem evOK.tl {m : Nat} {x : Nat × Int32} {t : hE} (h : evOK m (x :: t)) : evOK m t := fun y hy => h y (List.mem_cons_of_mem _ hy)
theorem lt_app {m : Nat} {l : hE} {x : Nat × Int32} (hl : ∀ y ∈ l, y.1 < m) (hx : x.1 < m) : ∀ y ∈ l ++ [x], y.1 < m := fun y hy => by
  rcases List.mem_append.mp hy with hy | hy
  · exact hl y hy
  · rw [List.mem_singleton.mp hy]; exact hx
theorem blk_run {c : Int32} (ct : h_top c = false) (c27 : (c == 2 || c == 7) = false) : ∀ (evs l es : hE) (L : hC), evOK 3 evs → (∀ y ∈ l, y.1 < 3) → Iblk l es →
    h_run evs ((c, es) :: L) = bif s_ok m_blk l evs then (h_run (evs.filter (fun x => x.1 == 0)) L).map (fun L2 => (c, blkE evs es) :: L2) else none
  | [], l, es, L, _, _, _ => rfl
  | (k, n) :: t, l, es, L, ho, hl, hi => by
    obtain ⟨hk, hb⟩ := ho (k, n) List.mem_cons_self
    have hk : k < 3 := hk
    have hb : n_bad n = false := hb
    obtain ⟨i1, i2⟩ := hi n
    rw [h_run_c, h_ev3 (by omega) hb]
    cases h0 : k == 0 with
    | true =>
      have : k = 0 := eq_of_beq h0
      subst this
      have e1 : s_ok m_blk l ((0, n) :: t) = (!(h_find es n).isSome && s_ok m_blk (l ++ [(0, n)]) t) := by rw [s_ok, s_hit0 hl, i1]
      have e2 : ((0, n) :: t).filter (fun x => x.1 == 0) = (0, n) :: t.filter (fun x => x.1 == 0) := rfl
      rw [e1, e2, h_run_c, h_dec0_0, h_var, ct, cond_false, h_ev3 (by omega) hb, h_dec0_0]
      cases hf : (h_find es n).isSome with
      | true => rfl
      | false =>
        rw [cond_false, Bool.not_false, Bool.true_and]
        cases hv : h_var n L with
        | none => cases s_ok m_blk (l ++ [(0, n)]) t <;> rfl
        | some L2 =>
          show h_run t ((c, bif h_pass es n then es else es ++ [(8, n)]) :: L2) = _
          exact blk_run ct c27 t (l ++ [(0, n)]) _ L2 ho.tl (lt_app hl (show 0 < 3 by decide)) hi.var
    | false =>
      have h8 : (k == 8) = false := by rw [beq_eq_false_iff_ne]; omega
      have e1 : s_ok m_blk l ((k, n) :: t) = (!((h_find es n).isSome || h_pass es n) && s_ok m_blk (l ++ [(k, n)]) t) := by rw [s_ok, s_hitK hl h0 hk, i1, i2]
      have e2 : ((k, n) :: t).filter (fun x => x.1 == 0) = t.filter (fun x => x.1 == 0) := by rw [List.filter_cons]; simp [h0]
      rw [e1, e2, h_dec0_n h0, ct, Bool.and_false, Bool.false_and, cond_false, c27, Bool.false_and, Bool.or_false]
      cases hf : ((h_find es n).isSome || h_pass es n) with
      | true => rfl
      | false =>
        show h_run t ((c, es ++ [(k, n)]) :: L) = _
        rw [blk_run ct c27 t (l ++ [(k, n)]) _ L ho.tl (lt_app hl hk) (hi.lex h0 h8)]
        have e3 : blkE ((k, n) :: t) es = blkE t (es ++ [(k, n)]) := by rw [blkE]; show blkE t (bif k == 0 then _ else _) = _; rw [h0]; rfl
        rw [e3]; rfl
/-- catch: the body's scope stands in that of the parameter -/
theorem cat_run : ∀ (evs l4 l7 es4 es7 : hE) (L : hC), evOK 3 evs → (∀ y ∈ l4, y.1 < 3 ∧ (y.1 == 0) = false) → (∀ y ∈ l7, y.1 < 3) → Iblk l7 es7 → (∀ n, (h_find es4 n).isSome = l4.any (fun y => y.2 == n)) →
    ∃ a4 a7 : hE, h_run evs ((7, es7) :: (4, es4) :: L) = bif s_ok m_blk (l4 ++ l7) evs then (h_run (evs.filter (fun x => x.1 == 0)) L).map (fun L2 => (7, a7) :: (4, a4) :: L2) else none
  | [], l4, l7, es4, es7, L, _, _, _, _, _ => ⟨es4, es7, rfl⟩
  | (k, n) :: t, l4, l7, es4, es7, L, ho, h4, h7, i7, i4 => by
    obtain ⟨hk, hb⟩ := ho (k, n) List.mem_cons_self
    have hk : k < 3 := hk
    have hb : n_bad n = false := hb
    obtain ⟨i1, i2⟩ := i7 n
    have hl : ∀ y ∈ l4 ++ l7, y.1 < 3 := fun y hy => by
      rcases List.mem_append.mp hy with hy | hy
      · exact (h4 y hy).1
      · exact h7 y hy
    have l4n : l4.any (fun y => y.2 == n && !(y.1 == 0)) = l4.any (fun y => y.2 == n) := any_mem fun y hy => by rw [(h4 y hy).2]; simp
    have l4v : l4.any (fun y => y.2 == n && y.1 == 0) = false := by
      rw [any_mem (q := fun _ => false) fun y hy => by rw [(h4 y hy).2, Bool.and_false]]
      induction l4 with
      | nil => rfl
      | cons y t ih => rw [List.any_cons, Bool.false_or]; exact List.any_eq_false.mpr fun _ _ => Bool.false_ne_true
    have top7 : h_top 7 = false := by decide
    have top4 : h_top 4 = false := by decide
    rw [h_run_c, h_ev3 (by omega) hb]
    cases h0 : k == 0 with
    | true =>
      have : k = 0 := eq_of_beq h0
      subst this
      have e1 : s_ok m_blk (l4 ++ l7) ((0, n) :: t) = (!((h_find es4 n).isSome || (h_find es7 n).isSome) && s_ok m_blk (l4 ++ (l7 ++ [(0, n)])) t) := by rw [s_ok, s_hit0 hl, List.any_append, l4n, ← i4, i1, List.append_assoc]
      have e2 : ((0, n) :: t).filter (fun x => x.1 == 0) = (0, n) :: t.filter (fun x => x.1 == 0) := rfl
      rw [e1, e2, h_run_c, h_dec0_0, h_var, top7, cond_false, h_ev3 (by omega) hb, h_dec0_0]
      cases hf : (h_find es7 n).isSome with
      | true => exact ⟨[], [], by rw [cond_true, Bool.or_true]; rfl⟩
      | false =>
        rw [cond_false, h_var, top4, cond_false, Bool.or_false]
        cases hf4 : (h_find es4 n).isSome with
        | true => exact ⟨[], [], rfl⟩
        | false =>
          rw [cond_false, Bool.not_false, Bool.true_and]
          cases hv : h_var n L with
          | none => exact ⟨[], [], by cases s_ok m_blk (l4 ++ (l7 ++ [(0, n)])) t <;> rfl⟩
          | some L2 =>
            refine cat_run t l4 (l7 ++ [(0, n)]) (bif h_pass es4 n then es4 else es4 ++ [(8, n)]) (bif h_pass es7 n then es7 else es7 ++ [(8, n)]) L2 ho.tl h4 (lt_app h7 (show 0 < 3 by decide)) i7.var (fun m => ?_)
            rw [← i4 m]
            cases h_pass es4 n with
            | true => rfl
            | false => rw [cond_false, find_app8]
    | false =>
      have h8 : (k == 8) = false := by rw [beq_eq_false_iff_ne]; omega
      have e1 : s_ok m_blk (l4 ++ l7) ((k, n) :: t) = (!((h_find es7 n).isSome || h_pass es7 n || (h_find es4 n).isSome) && s_ok m_blk (l4 ++ (l7 ++ [(k, n)])) t) := by
        rw [s_ok, s_hitK hl h0 hk, List.any_append, List.any_append, l4n, l4v, ← i4, i1, i2, List.append_assoc, Bool.false_or]
        cases (h_find es4 n).isSome <;> cases l7.any (fun y => y.2 == n && !(y.1 == 0)) <;> cases l7.any (fun y => y.2 == n && y.1 == 0) <;> rfl
      have e2 : ((k, n) :: t).filter (fun x => x.1 == 0) = t.filter (fun x => x.1 == 0) := by rw [List.filter_cons]; simp [h0]
      have c7 : ((7 : Int32) == 2 || (7 : Int32) == 7) = true := by decide
      rw [e1, e2, h_dec0_n h0, h_has_c, top7, Bool.and_false, Bool.false_and, cond_false, c7, Bool.true_and]
      cases hf : ((h_find es7 n).isSome || h_pass es7 n || (h_find es4 n).isSome) with
      | true => exact ⟨[], [], rfl⟩
      | false => exact cat_run t l4 (l7 ++ [(k, n)]) es4 (es7 ++ [(k, n)]) L ho.tl h4 (lt_app h7 hk) (i7.lex h0 h8) i4
/-- what stands in a function's scope -/
def Ifn (l es : hE) : Prop := ∀ n : Int32, (match h_find es n with | none => l.any (fun y => y.2 == n) = false | some r => l.any (fun y => y.2 == n) = true ∧ r < 4 ∧ (r == 1) = l.any (fun y => y.2 == n && y.1 == 1)) ∧ (h_pass es n = true → l.any (fun y => y.2 == n) = true)
theorem Ifn.nil : Ifn [] [] := fun _ => ⟨rfl, fun h => nomatch h⟩
theorem Ifn.isS {l es : hE} {n : Int32} (h : Ifn l es) : (h_find es n).isSome = l.any (fun y => y.2 == n) := by
  have := (h n).1
  cases hf : h_find es n with
  | none => rw [hf] at this; exact this.symm
  | some r => rw [hf] at this; exact this.1.symm
/-- a name that is there already, once more -/
theorem Ifn.again {l es : hE} {k r : Nat} {n : Int32} (h : Ifn l es) (hf : h_find es n = some r) (hk : (k == 1) = false) : Ifn (l ++ [(k, n)]) es := by
  intro m
  obtain ⟨h1, h2⟩ := h m
  have hr := (h n).1
  rw [hf] at hr
  refine ⟨?_, fun q => by rw [List.any_append, h2 q]; rfl⟩
  cases hm : h_find es m with
  | none =>
    rw [hm] at h1
    have : (n == m) = false := by
      cases c : n == m with
      | false => rfl
      | true => rw [eq_of_beq c, hm] at hf; exact nomatch hf
    show (l ++ [(k, n)]).any (fun y => y.2 == m) = false
    rw [List.any_append, h1]
    simp [this]
  | some r2 =>
    rw [hm] at h1
    obtain ⟨a1, a2, a3⟩ := h1
    refine ⟨by rw [List.any_append, a1]; rfl, a2, ?_⟩
    rw [a3, List.any_append]
    simp [hk]
/-- a new one -/
theorem Ifn.new {l es : hE} {k : Nat} {n : Int32} (h : Ifn l es) (hf : h_find es n = none) (hk : k < 4) : Ifn (l ++ [(k, n)]) (es ++ [(k, n)]) := by
  intro m
  obtain ⟨h1, h2⟩ := h m
  have h8 : (k == 8) = false := by rw [beq_eq_false_iff_ne]; omega
  have hn := (h n).1
  rw [hf] at hn
  refine ⟨?_, fun q => ?_⟩
  · rw [find_app h8]
    cases hm : h_find es m with
    | none =>
      rw [hm] at h1
      have h1 : l.any (fun y => y.2 == m) = false := h1
      cases c : n == m with
      | false =>
        show (l ++ [(k, n)]).any (fun y => y.2 == m) = false
        rw [List.any_append, h1]
        simp [c]
      | true =>
        show (l ++ [(k, n)]).any (fun y => y.2 == m) = true ∧ k < 4 ∧ (k == 1) = (l ++ [(k, n)]).any (fun y => y.2 == m && y.1 == 1)
        have e : l.any (fun y => y.2 == m && y.1 == 1) = false := by
          rw [List.any_eq_false] at h1 ⊢
          intro y hy q
          rw [Bool.and_eq_true] at q
          exact h1 y hy q.1
        refine ⟨by rw [List.any_append]; simp [c], hk, ?_⟩
        rw [List.any_append, e]
        simp [c]
    | some r2 =>
      rw [hm] at h1
      obtain ⟨a1, a2, a3⟩ := h1
      show (l ++ [(k, n)]).any (fun y => y.2 == m) = true ∧ r2 < 4 ∧ (r2 == 1) = (l ++ [(k, n)]).any (fun y => y.2 == m && y.1 == 1)
      have c : (n == m) = false := by
        cases c : n == m with
        | false => rfl
        | true => rw [eq_of_beq c, hm] at hf; exact nomatch hf
      refine ⟨by rw [List.any_append, a1]; rfl, a2, ?_⟩
      rw [a3, List.any_append]
      simp [c]
  · rw [pass_app] at q
    rw [List.any_append]
    cases hp : h_pass es m with
    | true => rw [h2 hp]; rfl
    | false =>
      rw [hp, Bool.false_or, Bool.and_eq_true] at q
      simp [q.1]
theorem s_hitF {l : hE} {k : Nat} {n : Int32} (hk : k = 0 ∨ k = 2) : s_hit m_fun l (k, n) = l.any (fun y => y.2 == n && y.1 == 1) := by
  unfold s_hit
  refine any_mem fun y _ => ?_
  unfold m_fun
  rcases hk with rfl | rfl
  · simp
  · simp
theorem s_hitL {l : hE} {n : Int32} (hl : ∀ y ∈ l, y.1 < 4) : s_hit m_fun l (1, n) = l.any (fun y => y.2 == n) := by
  unfold s_hit
  refine any_mem fun y hy => ?_
  unfold m_fun
  rw [decide_eq_true (hl y hy)]
  simp
theorem s_hitP {l : hE} {n : Int32} (hl : ∀ y ∈ l, y.1 = 3) : s_hit m_fun l (3, n) = l.any (fun y => y.2 == n) := by
  unfold s_hit
  refine any_mem fun y hy => ?_
  unfold m_fun
  rw [hl y hy]
  simp
theorem or_pass {l es : hE} {n : Int32} (h : Ifn l es) : ((h_find es n).isSome || h_pass es n) = l.any (fun y => y.2 == n) := by
  rw [h.isS]
  cases hp : h_pass es n with
  | false => rw [Bool.or_false]
  | true => rw [(h n).2 hp]; rfl
/-- parameters -/
theorem par_run : ∀ (evs l es : hE) (L : hC), (∀ x ∈ evs, x.1 = 3 ∧ n_bad x.2 = false) → (∀ y ∈ l, y.1 = 3) → Ifn l es →
    h_run evs ((1, es) :: L) = bif s_ok m_fun l evs then some ((1, es ++ evs) :: L) else none
  | [], l, es, L, _, _, _ => by rw [List.append_nil]; rfl
  | (k, n) :: t, l, es, L, ho, hl, hi => by
    obtain ⟨hk, hb⟩ := ho (k, n) List.mem_cons_self
    have hk : k = 3 := hk
    subst hk
    have hb : n_bad n = false := hb
    have c : ((1 : Int32) == 2 || (1 : Int32) == 7) = false := by decide
    have c32 : ((3 : Nat) == 2) = false := by decide
    rw [h_run_c, h_ev3 (by omega) hb, h_dec0_n (by decide), s_ok, s_hitP hl, ← or_pass hi, c, c32, Bool.false_and, Bool.false_and, cond_false, Bool.false_and, Bool.or_false]
    cases hf : ((h_find es n).isSome || h_pass es n) with
    | true => rfl
    | false =>
      rw [Bool.or_eq_false_iff] at hf
      show h_run t ((1, es ++ [(3, n)]) :: L) = _
      rw [par_run t (l ++ [(3, n)]) _ L (fun x hx => ho x (List.mem_cons_of_mem _ hx)) (fun y hy => by
        rcases List.mem_append.mp hy with hy | hy
        · exact hl y hy
        · rw [List.mem_singleton.mp hy]) (hi.new (by cases h : h_find es n with | none => rfl | some r => rw [h] at hf; exact nomatch hf.1) (by omega))]
      rw [List.append_assoc]; rfl
/-- a function's body, where it has no scope of its own, and where it has one -/
theorem bod_run {c : Int32} {C : hC} {P : Int32 → Bool} (hc : (c == 1 && C.isEmpty) || (c == 2 && !C.isEmpty)) (l1 : hE) (h1 : ∀ y ∈ l1, y.1 = 3) (hP : ∀ n, P n = l1.any (fun y => y.2 == n)) (hCC : ∀ (n : Int32) (L : hC), c = 2 → h_has (C ++ L) n = P n) (hC1 : c = 1 → l1 = []) : ∀ (evs l es : hE) (L : hC), evOK 3 evs → (∀ y ∈ l, y.1 < 4) → Ifn l es →
    ∃ a : hE, h_run evs ((c, es) :: (C ++ L)) = bif s_ok m_fun (l1 ++ l) evs then some ((c, a) :: (C ++ L)) else none
  | [], l, es, L, _, _, _ => ⟨es, rfl⟩
  | (k, n) :: t, l, es, L, ho, hl, hi => by
    have ct : h_top c = true ∧ (c == 0) = false ∧ (c = 1 ∨ c = 2) := by
      rw [Bool.or_eq_true, Bool.and_eq_true, Bool.and_eq_true] at hc
      rcases hc with hc | hc
      · rw [eq_of_beq hc.1]; exact ⟨by decide, by decide, Or.inl rfl⟩
      · rw [eq_of_beq hc.1]; exact ⟨by decide, by decide, Or.inr rfl⟩
    obtain ⟨ct, c0, c12⟩ := ct
    obtain ⟨hk, hb⟩ := ho (k, n) List.mem_cons_self
    have hk : k < 3 := hk
    have hb : n_bad n = false := hb
    have hl' : ∀ y ∈ l1 ++ l, y.1 < 4 := fun y hy => by
      rcases List.mem_append.mp hy with hy | hy
      · rw [h1 y hy]; decide
      · exact hl y hy
    have l1n : l1.any (fun y => y.2 == n && y.1 == 1) = false := by
      rw [List.any_eq_false]
      intro y hy q
      rw [h1 y hy, Bool.and_eq_true] at q
      exact absurd q.2 (by decide)
    rw [h_run_c, h_ev3 (by omega) hb]
    have fr : (k = 0 ∨ k = 2) → ∃ a : hE, (match (match h_find es n with | none => some ((c, es ++ [(k, n)]) :: (C ++ L)) | some r => bif r == 0 || r == 3 || r == 2 then some ((c, es) :: (C ++ L)) else none) with | none => none | some L2 => h_run t L2) = bif s_ok m_fun (l1 ++ l) ((k, n) :: t) then some ((c, a) :: (C ++ L)) else none := fun hk2 => by
      rw [s_ok, s_hitF hk2, List.any_append, l1n, Bool.false_or, List.append_assoc]
      have h1' := (hi n).1
      cases hf : h_find es n with
      | none =>
        rw [hf] at h1'
        have e : l.any (fun y => y.2 == n && y.1 == 1) = false := by
          have h1' : l.any (fun y => y.2 == n) = false := h1'
          rw [List.any_eq_false] at h1' ⊢
          intro y hy q
          rw [Bool.and_eq_true] at q
          exact h1' y hy q.1
        rw [e, Bool.not_false, Bool.true_and]
        exact bod_run hc l1 h1 hP hCC hC1 t (l ++ [(k, n)]) _ L ho.tl (lt_app hl (by show k < 4; omega)) (hi.new hf (by omega))
      | some r =>
        rw [hf] at h1'
        obtain ⟨a1, a2, a3⟩ := h1'
        rw [← a3]
        have hk1 : (k == 1) = false := by rw [beq_eq_false_iff_ne]; omega
        have hr : (r == 0 || r == 3 || r == 2) = !(r == 1) := by
          have : r = 0 ∨ r = 1 ∨ r = 2 ∨ r = 3 := by omega
          rcases this with rfl | rfl | rfl | rfl <;> rfl
        show ∃ a : hE, (match (bif r == 0 || r == 3 || r == 2 then some ((c, es) :: (C ++ L)) else none) with | none => none | some L2 => h_run t L2) = _
        rw [hr]
        cases r == 1 with
        | true => exact ⟨[], rfl⟩
        | false => exact bod_run hc l1 h1 hP hCC hC1 t (l ++ [(k, n)]) _ L ho.tl (lt_app hl (by show k < 4; omega)) (hi.again hf hk1)
    cases h0 : k == 0 with
    | true =>
      have : k = 0 := eq_of_beq h0
      subst this
      rw [h_dec0_0, h_var, ct, cond_true, c0, Bool.not_false]
      have e : ∀ r : Nat, (r == 0 || r == 3 || (r == 2 && true)) = (r == 0 || r == 3 || r == 2) := fun r => by rw [Bool.and_true]
      simp only [e]
      exact fr (Or.inl rfl)
    | false =>
      rw [h_dec0_n h0, ct, c0, Bool.not_false, Bool.and_true, Bool.and_true]
      cases h2 : k == 2 with
      | true =>
        have : k = 2 := eq_of_beq h2
        subst this
        exact fr (Or.inr rfl)
      | false =>
        have : k = 1 := by
          have a := beq_eq_false_iff_ne.mp h0
          have b := beq_eq_false_iff_ne.mp h2
          omega
        subst this
        rw [cond_false, or_pass hi, s_ok, s_hitL hl', List.any_append, List.append_assoc]
        have e : ((c == 2 || c == 7) && h_has (C ++ L) n) = l1.any (fun y => y.2 == n) := by
          rcases c12 with q | q
          · rw [q, hC1 q]; rfl
          · rw [hCC n L q, hP, q]; rfl
        rw [e, Bool.or_comm]
        cases hh : (l1.any (fun y => y.2 == n) || l.any (fun y => y.2 == n)) with
        | true => exact ⟨[], rfl⟩
        | false =>
          rw [Bool.or_eq_false_iff] at hh
          refine bod_run hc l1 h1 hP hCC hC1 t (l ++ [(1, n)]) _ L ho.tl (lt_app hl (show 1 < 4 by decide)) (hi.new ?_ (by omega))
          have := hi.isS (n := n)
          rw [hh.2] at this
          cases h : h_find es n with
          | none => rfl
          | some r => rw [h] at this; exact nomatch this
theorem s_ok_app {M : Nat → Nat → Bool} : ∀ (a b l : hE), s_ok M l (a ++ b) = (s_ok M l a && s_ok M (l ++ a) b)
  | [], b, l => by rw [List.nil_append, List.append_nil]; rfl
  | x :: t, b, l => by
    rw [List.cons_append, s_ok, s_ok, s_ok_app t b (l ++ [x]), Bool.and_assoc, List.append_assoc]; rfl
/-- private names -/
theorem prv_run {c : Int32} {L : hC} : ∀ (evs es : hE), (∀ x ∈ evs, x.1 = 7) → ∃ a : hE, h_run evs ((c, es) :: L) = some ((c, a) :: L) ∧ ∀ n, (h_find a n).isSome = ((h_find es n).isSome || evs.any (fun y => y.1 == 7 && y.2 == n))
  | [], es, _ => ⟨es, rfl, fun n => by rw [List.any_nil, Bool.or_false]⟩
  | (k, n) :: t, es, ho => by
    have hk : k = 7 := ho (k, n) List.mem_cons_self
    subst hk
    obtain ⟨a, a1, a2⟩ := prv_run (c := c) (L := L) t (bif (h_find es n).isSome then es else es ++ [(1, n)]) (fun x hx => ho x (List.mem_cons_of_mem _ hx))
    refine ⟨a, a1, fun m => ?_⟩
    rw [a2 m, List.any_cons]
    cases hf : (h_find es n).isSome with
    | true =>
      rw [cond_true]
      cases c : n == m with
      | false => simp [c]
      | true => rw [← eq_of_beq c, hf]; rfl
    | false =>
      rw [cond_false, find_app (by decide)]
      cases h_find es m with
      | some r => simp
      | none => cases c : n == m <;> simp [c]
