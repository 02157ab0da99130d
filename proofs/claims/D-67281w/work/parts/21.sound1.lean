/-- what holds all through a walk of a method -/
def so_C (X : so_X) (cc : ByteArray) (nL : Nat) (own mn : String) : Prop := match X with
  | (p, l, e, R, s, m, args, below, meth, c, D, cA, A, E, O, Q, QF) =>
    p.tables.exec = Jvm.exec ∧ c.code = cc ∧ c.maxLocals = nL ∧ s.vm.findClass own = some m.cls ∧ (∀ w ∈ lw_all, w.before args s = true) ∧ (∀ w ∈ so_nest, va_Nw w s) ∧
    va_K D so_cl (so_tys cA) s ∧ vk_S 113 E.1 E.2.1 E.2.2.1 E.2.2.2.1 A s s.heap ∧ (∀ q : Nat, s.heap.size ≤ q → A q) ∧ meth.locks = false ∧ meth.name = mn ∧
    ¬ A E.2.2.2.2.1 ∧ va_X E.2.2.2.2.1 E.2.2.2.2.2.1 E.2.2.2.2.2.2.1 s s.heap ∧
    l.stackTraces = false ∧ vx_Zq Bundle.tN "UNASSIGNED_STACK" Bundle.steD A s s.heap ∧ vx_Zq Bundle.tN "SUPPRESSED_SENTINEL" Bundle.listD A s s.heap ∧ so_P E A s s.heap

theorem so_nlt {x y : Int32} : ¬ x < y ↔ y ≤ x := by rw [Int32.lt_iff_toInt_lt, Int32.le_iff_toInt_le]; omega
theorem so_nle {x y : Int32} : ¬ y ≤ x ↔ x < y := by rw [Int32.lt_iff_toInt_lt, Int32.le_iff_toInt_le]; omega
theorem so_iv1 {v : mmV} {x : Int32} {N : Nat} {σ : mmS} {ws : List Value} {t : List mmV} (h : so_st N σ (.inl x :: t) ws) : ∃ r, ws = .int x :: r ∧ so_st N σ t r := by
  match ws, h with
  | w :: r, h => exact ⟨r, by rw [show w = .int x from h.1], h.2⟩
theorem so_iv2 {x : Int64} {N : Nat} {σ : mmS} {ws : List Value} {t : List mmV} (h : so_st N σ (.inr (.inl x) :: t) ws) : ∃ r, ws = .long x :: r ∧ so_st N σ t r := by
  match ws, h with
  | w :: r, h => exact ⟨r, by rw [show w = .long x from h.1], h.2⟩
theorem so_iv3 {v : mmV} {N : Nat} {σ : mmS} {ws : List Value} {t : List mmV} (h : so_st N σ (v :: t) ws) : ∃ w r, ws = w :: r ∧ so_rv N σ v w ∧ so_st N σ t r := by
  match ws, h with
  | w :: r, h => exact ⟨w, r, rfl, h.1, h.2⟩

theorem so_int1 {X : so_X} {cc : ByteArray} {nL pc : Nat} {own mn : String} (C : so_C X cc nL own mn) {n : Int} {v : Int32} (d : decode cc pc = .ok (.iconst n, 1)) (hv : Int32.ofInt n = v) : so_ok X nL pc (mo_int v 1) := by
  obtain ⟨p, l, e, R, s, m, args, below, meth, c, D, cA, A, E, O, Q, QF⟩ := X
  obtain ⟨hx, hb, -⟩ := C
  intro lv st σ K h hK
  intro H locs cells slots ls vs hW hS hA hc hs hl hv2
  exact lv_iconst hx hb d hv (hK _ _ h H locs cells slots ls _ hW hS hA hc hs hl ⟨rfl, hv2⟩)

theorem so_int2 {X : so_X} {cc : ByteArray} {nL pc : Nat} {own mn : String} (C : so_C X cc nL own mn) {n : Int} {v : Int32} (d : decode cc pc = .ok (.bipush n, 2)) (hv : (Int8.ofInt n).toInt32 = v) : so_ok X nL pc (mo_int v 2) := by
  obtain ⟨p, l, e, R, s, m, args, below, meth, c, D, cA, A, E, O, Q, QF⟩ := X
  obtain ⟨hx, hb, -⟩ := C
  intro lv st σ K h hK
  intro H locs cells slots ls vs hW hS hA hc hs hl hv2
  exact lv_bipush hx hb d hv (hK _ _ h H locs cells slots ls _ hW hS hA hc hs hl ⟨rfl, hv2⟩)

theorem so_int3 {X : so_X} {cc : ByteArray} {nL pc : Nat} {own mn : String} (C : so_C X cc nL own mn) {n : Int} {v : Int32} (d : decode cc pc = .ok (.sipush n, 3)) (hv : (Int16.ofInt n).toInt32 = v) : so_ok X nL pc (mo_int v 3) := by
  obtain ⟨p, l, e, R, s, m, args, below, meth, c, D, cA, A, E, O, Q, QF⟩ := X
  obtain ⟨hx, hb, -⟩ := C
  intro lv st σ K h hK
  intro H locs cells slots ls vs hW hS hA hc hs hl hv2
  exact lv_sipush hx hb d hv (hK _ _ h H locs cells slots ls _ hW hS hA hc hs hl ⟨rfl, hv2⟩)

theorem so_long1 {X : so_X} {cc : ByteArray} {nL pc : Nat} {own mn : String} (C : so_C X cc nL own mn) {n : Fin 2} {v : Int64} (d : decode cc pc = .ok (.lconst n, 1)) (hv : Int64.ofNat (n : Nat) = v) : so_ok X nL pc (mo_long v 1) := by
  obtain ⟨p, l, e, R, s, m, args, below, meth, c, D, cA, A, E, O, Q, QF⟩ := X
  obtain ⟨hx, hb, -⟩ := C
  intro lv st σ K h hK
  intro H locs cells slots ls vs hW hS hA hc hs hl hv2
  exact lv_lconst hx hb d hv (hK _ _ h H locs cells slots ls _ hW hS hA hc hs hl ⟨rfl, hv2⟩)

theorem so_long2 {X : so_X} {cc : ByteArray} {nL pc : Nat} {own mn : String} (C : so_C X cc nL own mn) {index : Nat} {v : Int64} (d : decode cc pc = .ok (.ldc2_w index, 3)) (hq : Jvm.Cond.constantLong own index v ∈ lw_all) : so_ok X nL pc (mo_long v 3) := by
  obtain ⟨p, l, e, R, s, m, args, below, meth, c, D, cA, A, E, O, Q, QF⟩ := X
  obtain ⟨hx, hb, -, hown, hts, -⟩ := C
  intro lv st σ K h hK
  intro H locs cells slots ls vs hW hS hA hc hs hl hv2
  exact lv_ldc2 hx hb hown (hts _ hq) d (hK _ _ h H locs cells slots ls _ hW hS hA hc hs hl ⟨rfl, hv2⟩)

theorem so_null {X : so_X} {cc : ByteArray} {nL pc : Nat} {own mn : String} (C : so_C X cc nL own mn) (d : decode cc pc = .ok (.aconst_null, 1)) : so_ok X nL pc mo_null := by
  obtain ⟨p, l, e, R, s, m, args, below, meth, c, D, cA, A, E, O, Q, QF⟩ := X
  obtain ⟨hx, hb, -⟩ := C
  intro lv st σ K h hK
  intro H locs cells slots ls vs hW hS hA hc hs hl hv
  exact lv_null hx hb d (hK _ _ h H locs cells slots ls _ hW hS hA hc hs hl ⟨show so_rr _ _ 0 0 _ by unfold so_rr; rw [if_pos rfl], hv⟩)

theorem so_iload1 {X : so_X} {cc : ByteArray} {nL pc : Nat} {own mn : String} (C : so_C X cc nL own mn) {k : Fin 4} {i : Nat} (d : decode cc pc = .ok (.iload_n k, 1)) (hi : (k : Nat) = i) : so_ok X nL pc (mo_iload i 1) := by
  obtain ⟨p, l, e, R, s, m, args, below, meth, c, D, cA, A, E, O, Q, QF⟩ := X
  obtain ⟨hx, hb, -⟩ := C
  intro lv st σ K h hK
  have h : (match mm_lk lv i with | some (.inl x) => K (pc + 1, lv, .inl x :: st) σ | _ => False) := h
  cases hk : mm_lk lv i with
  | none => rw [hk] at h; exact h.elim
  | some v =>
    rw [hk] at h
    match v, h, hk with
    | .inl x, h, hk =>
      intro H locs cells slots ls vs hW hS hA hc hs hl hv
      obtain ⟨w, h1, h2⟩ := hl.2.2.2 _ _ hk
      rw [show w = .int x from h1] at h2
      exact lv_iload_n hx hb d hi h2 (hK _ _ h H locs cells slots ls _ hW hS hA hc hs hl ⟨rfl, hv⟩)

theorem so_iload2 {X : so_X} {cc : ByteArray} {nL pc : Nat} {own mn : String} (C : so_C X cc nL own mn) {i : Nat} (d : decode cc pc = .ok (.iload i, 2)) : so_ok X nL pc (mo_iload i 2) := by
  obtain ⟨p, l, e, R, s, m, args, below, meth, c, D, cA, A, E, O, Q, QF⟩ := X
  obtain ⟨hx, hb, -⟩ := C
  intro lv st σ K h hK
  have h : (match mm_lk lv i with | some (.inl x) => K (pc + 2, lv, .inl x :: st) σ | _ => False) := h
  cases hk : mm_lk lv i with
  | none => rw [hk] at h; exact h.elim
  | some v =>
    rw [hk] at h
    match v, h, hk with
    | .inl x, h, hk =>
      intro H locs cells slots ls vs hW hS hA hc hs hl hv
      obtain ⟨w, h1, h2⟩ := hl.2.2.2 _ _ hk
      rw [show w = .int x from h1] at h2
      exact lv_iload hx hb d h2 (hK _ _ h H locs cells slots ls _ hW hS hA hc hs hl ⟨rfl, hv⟩)

theorem so_lload1 {X : so_X} {cc : ByteArray} {nL pc : Nat} {own mn : String} (C : so_C X cc nL own mn) {k : Fin 4} {i : Nat} (d : decode cc pc = .ok (.lload_n k, 1)) (hi : (k : Nat) = i) : so_ok X nL pc (mo_lload i 1) := by
  obtain ⟨p, l, e, R, s, m, args, below, meth, c, D, cA, A, E, O, Q, QF⟩ := X
  obtain ⟨hx, hb, -⟩ := C
  intro lv st σ K h hK
  have h : (match mm_lk lv i with | some (.inr (.inl x)) => K (pc + 1, lv, .inr (.inl x) :: st) σ | _ => False) := h
  cases hk : mm_lk lv i with
  | none => rw [hk] at h; exact h.elim
  | some v =>
    rw [hk] at h
    match v, h, hk with
    | .inr (.inl x), h, hk =>
      intro H locs cells slots ls vs hW hS hA hc hs hl hv
      obtain ⟨w, h1, h2⟩ := hl.2.2.2 _ _ hk
      rw [show w = .long x from h1] at h2
      exact lv_lload_n hx hb d hi h2 (hK _ _ h H locs cells slots ls _ hW hS hA hc hs hl ⟨rfl, hv⟩)

theorem so_lload2 {X : so_X} {cc : ByteArray} {nL pc : Nat} {own mn : String} (C : so_C X cc nL own mn) {i : Nat} (d : decode cc pc = .ok (.lload i, 2)) : so_ok X nL pc (mo_lload i 2) := by
  obtain ⟨p, l, e, R, s, m, args, below, meth, c, D, cA, A, E, O, Q, QF⟩ := X
  obtain ⟨hx, hb, -⟩ := C
  intro lv st σ K h hK
  have h : (match mm_lk lv i with | some (.inr (.inl x)) => K (pc + 2, lv, .inr (.inl x) :: st) σ | _ => False) := h
  cases hk : mm_lk lv i with
  | none => rw [hk] at h; exact h.elim
  | some v =>
    rw [hk] at h
    match v, h, hk with
    | .inr (.inl x), h, hk =>
      intro H locs cells slots ls vs hW hS hA hc hs hl hv
      obtain ⟨w, h1, h2⟩ := hl.2.2.2 _ _ hk
      rw [show w = .long x from h1] at h2
      exact lv_lload hx hb d h2 (hK _ _ h H locs cells slots ls _ hW hS hA hc hs hl ⟨rfl, hv⟩)

theorem so_aload1 {X : so_X} {cc : ByteArray} {nL pc : Nat} {own mn : String} (C : so_C X cc nL own mn) {k : Fin 4} {i : Nat} (d : decode cc pc = .ok (.aload_n k, 1)) (hi : (k : Nat) = i) : so_ok X nL pc (mo_aload i 1) := by
  obtain ⟨p, l, e, R, s, m, args, below, meth, c, D, cA, A, E, O, Q, QF⟩ := X
  obtain ⟨hx, hb, -⟩ := C
  intro lv st σ K h hK
  have h : (match mm_lk lv i with | some (.inr (.inr r)) => K (pc + 1, lv, .inr (.inr r) :: st) σ | _ => False) := h
  cases hk : mm_lk lv i with
  | none => rw [hk] at h; exact h.elim
  | some v =>
    rw [hk] at h
    match v, h, hk with
    | .inr (.inr r), h, hk =>
      intro H locs cells slots ls vs hW hS hA hc hs hl hv
      obtain ⟨w, h1, h2⟩ := hl.2.2.2 _ _ hk
      rcases h1.ref with e | e
      · rw [e] at h2
        exact lv_aload_nN hx hb d hi h2 (hK _ _ h H locs cells slots ls _ hW hS hA hc hs hl ⟨e ▸ h1, hv⟩)
      · rw [e] at h2
        exact lv_aload_n hx hb d hi h2 (hK _ _ h H locs cells slots ls _ hW hS hA hc hs hl ⟨e ▸ h1, hv⟩)

theorem so_aload2 {X : so_X} {cc : ByteArray} {nL pc : Nat} {own mn : String} (C : so_C X cc nL own mn) {i : Nat} (d : decode cc pc = .ok (.aload i, 2)) : so_ok X nL pc (mo_aload i 2) := by
  obtain ⟨p, l, e, R, s, m, args, below, meth, c, D, cA, A, E, O, Q, QF⟩ := X
  obtain ⟨hx, hb, -⟩ := C
  intro lv st σ K h hK
  have h : (match mm_lk lv i with | some (.inr (.inr r)) => K (pc + 2, lv, .inr (.inr r) :: st) σ | _ => False) := h
  cases hk : mm_lk lv i with
  | none => rw [hk] at h; exact h.elim
  | some v =>
    rw [hk] at h
    match v, h, hk with
    | .inr (.inr r), h, hk =>
      intro H locs cells slots ls vs hW hS hA hc hs hl hv
      obtain ⟨w, h1, h2⟩ := hl.2.2.2 _ _ hk
      rcases h1.ref with e | e
      · rw [e] at h2
        exact lv_aloadN hx hb d h2 (hK _ _ h H locs cells slots ls _ hW hS hA hc hs hl ⟨e ▸ h1, hv⟩)
      · rw [e] at h2
        exact lv_aload hx hb d h2 (hK _ _ h H locs cells slots ls _ hW hS hA hc hs hl ⟨e ▸ h1, hv⟩)

theorem so_iadd {X : so_X} {cc : ByteArray} {nL pc : Nat} {own mn : String} (C : so_C X cc nL own mn) (d : decode cc pc = .ok (.iadd, 1)) : so_ok X nL pc (mo_ib mf_iadd) := by
  obtain ⟨p, l, e, R, s, m, args, below, meth, c, D, cA, A, E, O, Q, QF⟩ := X
  obtain ⟨hx, hb, -⟩ := C
  intro lv st σ K h hK
  match st, h with
  | .inl y :: .inl x :: st, h =>
    intro H locs cells slots ls vs hW hS hA hc hs hl hv
    obtain ⟨r1, rfl, hv1⟩ := so_iv1 (v := .inl 0) hv
    obtain ⟨r, rfl, hv2⟩ := so_iv1 (v := .inl 0) hv1
    exact lv_iadd hx hb d (hK _ _ h H locs cells slots ls _ hW hS hA hc hs hl ⟨rfl, hv2⟩)

theorem so_isub {X : so_X} {cc : ByteArray} {nL pc : Nat} {own mn : String} (C : so_C X cc nL own mn) (d : decode cc pc = .ok (.isub, 1)) : so_ok X nL pc (mo_ib mf_isub) := by
  obtain ⟨p, l, e, R, s, m, args, below, meth, c, D, cA, A, E, O, Q, QF⟩ := X
  obtain ⟨hx, hb, -⟩ := C
  intro lv st σ K h hK
  match st, h with
  | .inl y :: .inl x :: st, h =>
    intro H locs cells slots ls vs hW hS hA hc hs hl hv
    obtain ⟨r1, rfl, hv1⟩ := so_iv1 (v := .inl 0) hv
    obtain ⟨r, rfl, hv2⟩ := so_iv1 (v := .inl 0) hv1
    exact lv_isub hx hb d (hK _ _ h H locs cells slots ls _ hW hS hA hc hs hl ⟨rfl, hv2⟩)

theorem so_imul {X : so_X} {cc : ByteArray} {nL pc : Nat} {own mn : String} (C : so_C X cc nL own mn) (d : decode cc pc = .ok (.imul, 1)) : so_ok X nL pc (mo_ib mf_imul) := by
  obtain ⟨p, l, e, R, s, m, args, below, meth, c, D, cA, A, E, O, Q, QF⟩ := X
  obtain ⟨hx, hb, -⟩ := C
  intro lv st σ K h hK
  match st, h with
  | .inl y :: .inl x :: st, h =>
    intro H locs cells slots ls vs hW hS hA hc hs hl hv
    obtain ⟨r1, rfl, hv1⟩ := so_iv1 (v := .inl 0) hv
    obtain ⟨r, rfl, hv2⟩ := so_iv1 (v := .inl 0) hv1
    exact lv_imul hx hb d (hK _ _ h H locs cells slots ls _ hW hS hA hc hs hl ⟨rfl, hv2⟩)

theorem so_iand {X : so_X} {cc : ByteArray} {nL pc : Nat} {own mn : String} (C : so_C X cc nL own mn) (d : decode cc pc = .ok (.iand, 1)) : so_ok X nL pc (mo_ib mf_iand) := by
  obtain ⟨p, l, e, R, s, m, args, below, meth, c, D, cA, A, E, O, Q, QF⟩ := X
  obtain ⟨hx, hb, -⟩ := C
  intro lv st σ K h hK
  match st, h with
  | .inl y :: .inl x :: st, h =>
    intro H locs cells slots ls vs hW hS hA hc hs hl hv
    obtain ⟨r1, rfl, hv1⟩ := so_iv1 (v := .inl 0) hv
    obtain ⟨r, rfl, hv2⟩ := so_iv1 (v := .inl 0) hv1
    exact lv_iand hx hb d (hK _ _ h H locs cells slots ls _ hW hS hA hc hs hl ⟨rfl, hv2⟩)

theorem so_ior {X : so_X} {cc : ByteArray} {nL pc : Nat} {own mn : String} (C : so_C X cc nL own mn) (d : decode cc pc = .ok (.ior, 1)) : so_ok X nL pc (mo_ib mf_ior) := by
  obtain ⟨p, l, e, R, s, m, args, below, meth, c, D, cA, A, E, O, Q, QF⟩ := X
  obtain ⟨hx, hb, -⟩ := C
  intro lv st σ K h hK
  match st, h with
  | .inl y :: .inl x :: st, h =>
    intro H locs cells slots ls vs hW hS hA hc hs hl hv
    obtain ⟨r1, rfl, hv1⟩ := so_iv1 (v := .inl 0) hv
    obtain ⟨r, rfl, hv2⟩ := so_iv1 (v := .inl 0) hv1
    exact lv_ior hx hb d (hK _ _ h H locs cells slots ls _ hW hS hA hc hs hl ⟨rfl, hv2⟩)

theorem so_ishl {X : so_X} {cc : ByteArray} {nL pc : Nat} {own mn : String} (C : so_C X cc nL own mn) (d : decode cc pc = .ok (.ishl, 1)) : so_ok X nL pc (mo_ib mf_ishl) := by
  obtain ⟨p, l, e, R, s, m, args, below, meth, c, D, cA, A, E, O, Q, QF⟩ := X
  obtain ⟨hx, hb, -⟩ := C
  intro lv st σ K h hK
  match st, h with
  | .inl y :: .inl x :: st, h =>
    intro H locs cells slots ls vs hW hS hA hc hs hl hv
    obtain ⟨r1, rfl, hv1⟩ := so_iv1 (v := .inl 0) hv
    obtain ⟨r, rfl, hv2⟩ := so_iv1 (v := .inl 0) hv1
    exact lv_ishl hx hb d (hK _ _ h H locs cells slots ls _ hW hS hA hc hs hl ⟨rfl, hv2⟩)

theorem so_ishr {X : so_X} {cc : ByteArray} {nL pc : Nat} {own mn : String} (C : so_C X cc nL own mn) (d : decode cc pc = .ok (.ishr, 1)) : so_ok X nL pc (mo_ib mf_ishr) := by
  obtain ⟨p, l, e, R, s, m, args, below, meth, c, D, cA, A, E, O, Q, QF⟩ := X
  obtain ⟨hx, hb, -⟩ := C
  intro lv st σ K h hK
  match st, h with
  | .inl y :: .inl x :: st, h =>
    intro H locs cells slots ls vs hW hS hA hc hs hl hv
    obtain ⟨r1, rfl, hv1⟩ := so_iv1 (v := .inl 0) hv
    obtain ⟨r, rfl, hv2⟩ := so_iv1 (v := .inl 0) hv1
    exact lv_ishr hx hb d (hK _ _ h H locs cells slots ls _ hW hS hA hc hs hl ⟨rfl, hv2⟩)

theorem so_iushr {X : so_X} {cc : ByteArray} {nL pc : Nat} {own mn : String} (C : so_C X cc nL own mn) (d : decode cc pc = .ok (.iushr, 1)) : so_ok X nL pc (mo_ib mf_iushr) := by
  obtain ⟨p, l, e, R, s, m, args, below, meth, c, D, cA, A, E, O, Q, QF⟩ := X
  obtain ⟨hx, hb, -⟩ := C
  intro lv st σ K h hK
  match st, h with
  | .inl y :: .inl x :: st, h =>
    intro H locs cells slots ls vs hW hS hA hc hs hl hv
    obtain ⟨r1, rfl, hv1⟩ := so_iv1 (v := .inl 0) hv
    obtain ⟨r, rfl, hv2⟩ := so_iv1 (v := .inl 0) hv1
    exact lv_iushr hx hb d rfl (hK _ _ h H locs cells slots ls _ hW hS hA hc hs hl ⟨rfl, hv2⟩)

theorem so_idiv {X : so_X} {cc : ByteArray} {nL pc : Nat} {own mn : String} (C : so_C X cc nL own mn) (d : decode cc pc = .ok (.idiv, 1)) : so_ok X nL pc (mo_id mf_idiv) := by
  obtain ⟨p, l, e, R, s, m, args, below, meth, c, D, cA, A, E, O, Q, QF⟩ := X
  obtain ⟨hx, hb, -⟩ := C
  intro lv st σ K h hK
  match st, h with
  | .inl y :: .inl x :: st, ⟨h0, h⟩ =>
    intro H locs cells slots ls vs hW hS hA hc hs hl hv
    obtain ⟨r1, rfl, hv1⟩ := so_iv1 (v := .inl 0) hv
    obtain ⟨r, rfl, hv2⟩ := so_iv1 (v := .inl 0) hv1
    exact lv_idiv hx hb d h0 (hK _ _ h H locs cells slots ls _ hW hS hA hc hs hl ⟨rfl, hv2⟩)

theorem so_irem {X : so_X} {cc : ByteArray} {nL pc : Nat} {own mn : String} (C : so_C X cc nL own mn) (d : decode cc pc = .ok (.irem, 1)) : so_ok X nL pc (mo_id mf_irem) := by
  obtain ⟨p, l, e, R, s, m, args, below, meth, c, D, cA, A, E, O, Q, QF⟩ := X
  obtain ⟨hx, hb, -⟩ := C
  intro lv st σ K h hK
  match st, h with
  | .inl y :: .inl x :: st, ⟨h0, h⟩ =>
    intro H locs cells slots ls vs hW hS hA hc hs hl hv
    obtain ⟨r1, rfl, hv1⟩ := so_iv1 (v := .inl 0) hv
    obtain ⟨r, rfl, hv2⟩ := so_iv1 (v := .inl 0) hv1
    exact lv_irem hx hb d h0 (hK _ _ h H locs cells slots ls _ hW hS hA hc hs hl ⟨rfl, hv2⟩)

theorem so_ineg {X : so_X} {cc : ByteArray} {nL pc : Nat} {own mn : String} (C : so_C X cc nL own mn) (d : decode cc pc = .ok (.ineg, 1)) : so_ok X nL pc (mo_iu mf_ineg) := by
  obtain ⟨p, l, e, R, s, m, args, below, meth, c, D, cA, A, E, O, Q, QF⟩ := X
  obtain ⟨hx, hb, -⟩ := C
  intro lv st σ K h hK
  match st, h with
  | .inl x :: st, h =>
    intro H locs cells slots ls vs hW hS hA hc hs hl hv
    obtain ⟨r, rfl, hv1⟩ := so_iv1 (v := .inl 0) hv
    exact lv_ineg hx hb d (hK _ _ h H locs cells slots ls _ hW hS hA hc hs hl ⟨rfl, hv1⟩)

theorem so_i2b {X : so_X} {cc : ByteArray} {nL pc : Nat} {own mn : String} (C : so_C X cc nL own mn) (d : decode cc pc = .ok (.i2b, 1)) : so_ok X nL pc (mo_iu mf_i2b) := by
  obtain ⟨p, l, e, R, s, m, args, below, meth, c, D, cA, A, E, O, Q, QF⟩ := X
  obtain ⟨hx, hb, -⟩ := C
  intro lv st σ K h hK
  match st, h with
  | .inl x :: st, h =>
    intro H locs cells slots ls vs hW hS hA hc hs hl hv
    obtain ⟨r, rfl, hv1⟩ := so_iv1 (v := .inl 0) hv
    exact lv_i2b hx hb d rfl (hK _ _ h H locs cells slots ls _ hW hS hA hc hs hl ⟨rfl, hv1⟩)

theorem so_i2c {X : so_X} {cc : ByteArray} {nL pc : Nat} {own mn : String} (C : so_C X cc nL own mn) (d : decode cc pc = .ok (.i2c, 1)) : so_ok X nL pc (mo_iu mf_i2c) := by
  obtain ⟨p, l, e, R, s, m, args, below, meth, c, D, cA, A, E, O, Q, QF⟩ := X
  obtain ⟨hx, hb, -⟩ := C
  intro lv st σ K h hK
  match st, h with
  | .inl x :: st, h =>
    intro H locs cells slots ls vs hW hS hA hc hs hl hv
    obtain ⟨r, rfl, hv1⟩ := so_iv1 (v := .inl 0) hv
    exact lv_i2c hx hb d rfl (hK _ _ h H locs cells slots ls _ hW hS hA hc hs hl ⟨rfl, hv1⟩)

theorem so_i2l {X : so_X} {cc : ByteArray} {nL pc : Nat} {own mn : String} (C : so_C X cc nL own mn) (d : decode cc pc = .ok (.i2l, 1)) : so_ok X nL pc mo_i2l := by
  obtain ⟨p, l, e, R, s, m, args, below, meth, c, D, cA, A, E, O, Q, QF⟩ := X
  obtain ⟨hx, hb, -⟩ := C
  intro lv st σ K h hK
  match st, h with
  | .inl x :: st, h =>
    intro H locs cells slots ls vs hW hS hA hc hs hl hv
    obtain ⟨r, rfl, hv1⟩ := so_iv1 (v := .inl 0) hv
    exact lv_i2l hx hb d rfl (hK _ _ h H locs cells slots ls _ hW hS hA hc hs hl ⟨rfl, hv1⟩)
theorem so_l2i {X : so_X} {cc : ByteArray} {nL pc : Nat} {own mn : String} (C : so_C X cc nL own mn) (d : decode cc pc = .ok (.l2i, 1)) : so_ok X nL pc mo_l2i := by
  obtain ⟨p, l, e, R, s, m, args, below, meth, c, D, cA, A, E, O, Q, QF⟩ := X
  obtain ⟨hx, hb, -⟩ := C
  intro lv st σ K h hK
  match st, h with
  | .inr (.inl x) :: st, h =>
    intro H locs cells slots ls vs hW hS hA hc hs hl hv
    obtain ⟨r, rfl, hv1⟩ := so_iv2 hv
    exact lv_l2i hx hb d rfl (hK _ _ h H locs cells slots ls _ hW hS hA hc hs hl ⟨rfl, hv1⟩)

theorem so_ladd {X : so_X} {cc : ByteArray} {nL pc : Nat} {own mn : String} (C : so_C X cc nL own mn) (d : decode cc pc = .ok (.ladd, 1)) : so_ok X nL pc (mo_lb mf_ladd) := by
  obtain ⟨p, l, e, R, s, m, args, below, meth, c, D, cA, A, E, O, Q, QF⟩ := X
  obtain ⟨hx, hb, -⟩ := C
  intro lv st σ K h hK
  match st, h with
  | .inr (.inl y) :: .inr (.inl x) :: st, h =>
    intro H locs cells slots ls vs hW hS hA hc hs hl hv
    obtain ⟨r1, rfl, hv1⟩ := so_iv2 hv
    obtain ⟨r, rfl, hv2⟩ := so_iv2 hv1
    exact lv_ladd hx hb d (hK _ _ h H locs cells slots ls _ hW hS hA hc hs hl ⟨rfl, hv2⟩)

theorem so_lmul {X : so_X} {cc : ByteArray} {nL pc : Nat} {own mn : String} (C : so_C X cc nL own mn) (d : decode cc pc = .ok (.lmul, 1)) : so_ok X nL pc (mo_lb mf_lmul) := by
  obtain ⟨p, l, e, R, s, m, args, below, meth, c, D, cA, A, E, O, Q, QF⟩ := X
  obtain ⟨hx, hb, -⟩ := C
  intro lv st σ K h hK
  match st, h with
  | .inr (.inl y) :: .inr (.inl x) :: st, h =>
    intro H locs cells slots ls vs hW hS hA hc hs hl hv
    obtain ⟨r1, rfl, hv1⟩ := so_iv2 hv
    obtain ⟨r, rfl, hv2⟩ := so_iv2 hv1
    exact lv_lmul hx hb d (hK _ _ h H locs cells slots ls _ hW hS hA hc hs hl ⟨rfl, hv2⟩)

theorem so_land {X : so_X} {cc : ByteArray} {nL pc : Nat} {own mn : String} (C : so_C X cc nL own mn) (d : decode cc pc = .ok (.land, 1)) : so_ok X nL pc (mo_lb mf_land) := by
  obtain ⟨p, l, e, R, s, m, args, below, meth, c, D, cA, A, E, O, Q, QF⟩ := X
  obtain ⟨hx, hb, -⟩ := C
  intro lv st σ K h hK
  match st, h with
  | .inr (.inl y) :: .inr (.inl x) :: st, h =>
    intro H locs cells slots ls vs hW hS hA hc hs hl hv
    obtain ⟨r1, rfl, hv1⟩ := so_iv2 hv
    obtain ⟨r, rfl, hv2⟩ := so_iv2 hv1
    exact lv_land hx hb d (hK _ _ h H locs cells slots ls _ hW hS hA hc hs hl ⟨rfl, hv2⟩)

theorem so_lor {X : so_X} {cc : ByteArray} {nL pc : Nat} {own mn : String} (C : so_C X cc nL own mn) (d : decode cc pc = .ok (.lor, 1)) : so_ok X nL pc (mo_lb mf_lor) := by
  obtain ⟨p, l, e, R, s, m, args, below, meth, c, D, cA, A, E, O, Q, QF⟩ := X
  obtain ⟨hx, hb, -⟩ := C
  intro lv st σ K h hK
  match st, h with
  | .inr (.inl y) :: .inr (.inl x) :: st, h =>
    intro H locs cells slots ls vs hW hS hA hc hs hl hv
    obtain ⟨r1, rfl, hv1⟩ := so_iv2 hv
    obtain ⟨r, rfl, hv2⟩ := so_iv2 hv1
    exact lv_lor hx hb d (hK _ _ h H locs cells slots ls _ hW hS hA hc hs hl ⟨rfl, hv2⟩)

theorem so_lshl {X : so_X} {cc : ByteArray} {nL pc : Nat} {own mn : String} (C : so_C X cc nL own mn) (d : decode cc pc = .ok (.lshl, 1)) : so_ok X nL pc (mo_ls mf_lshl) := by
  obtain ⟨p, l, e, R, s, m, args, below, meth, c, D, cA, A, E, O, Q, QF⟩ := X
  obtain ⟨hx, hb, -⟩ := C
  intro lv st σ K h hK
  match st, h with
  | .inl y :: .inr (.inl x) :: st, h =>
    intro H locs cells slots ls vs hW hS hA hc hs hl hv
    obtain ⟨r1, rfl, hv1⟩ := so_iv1 (v := .inl 0) hv
    obtain ⟨r, rfl, hv2⟩ := so_iv2 hv1
    exact lv_lshl hx hb d rfl (hK _ _ h H locs cells slots ls _ hW hS hA hc hs hl ⟨rfl, hv2⟩)

theorem so_lshr {X : so_X} {cc : ByteArray} {nL pc : Nat} {own mn : String} (C : so_C X cc nL own mn) (d : decode cc pc = .ok (.lshr, 1)) : so_ok X nL pc (mo_ls mf_lshr) := by
  obtain ⟨p, l, e, R, s, m, args, below, meth, c, D, cA, A, E, O, Q, QF⟩ := X
  obtain ⟨hx, hb, -⟩ := C
  intro lv st σ K h hK
  match st, h with
  | .inl y :: .inr (.inl x) :: st, h =>
    intro H locs cells slots ls vs hW hS hA hc hs hl hv
    obtain ⟨r1, rfl, hv1⟩ := so_iv1 (v := .inl 0) hv
    obtain ⟨r, rfl, hv2⟩ := so_iv2 hv1
    exact lv_lshr hx hb d rfl (hK _ _ h H locs cells slots ls _ hW hS hA hc hs hl ⟨rfl, hv2⟩)

theorem so_lushr {X : so_X} {cc : ByteArray} {nL pc : Nat} {own mn : String} (C : so_C X cc nL own mn) (d : decode cc pc = .ok (.lushr, 1)) : so_ok X nL pc (mo_ls mf_lushr) := by
  obtain ⟨p, l, e, R, s, m, args, below, meth, c, D, cA, A, E, O, Q, QF⟩ := X
  obtain ⟨hx, hb, -⟩ := C
  intro lv st σ K h hK
  match st, h with
  | .inl y :: .inr (.inl x) :: st, h =>
    intro H locs cells slots ls vs hW hS hA hc hs hl hv
    obtain ⟨r1, rfl, hv1⟩ := so_iv1 (v := .inl 0) hv
    obtain ⟨r, rfl, hv2⟩ := so_iv2 hv1
    exact lv_lushr hx hb d rfl (hK _ _ h H locs cells slots ls _ hW hS hA hc hs hl ⟨rfl, hv2⟩)

theorem so_goto {X : so_X} {cc : ByteArray} {nL pc : Nat} {own mn : String} (C : so_C X cc nL own mn) {off : Int} {t : Nat} (d : decode cc pc = .ok (.goto off, 3)) (ht : (pc : Int) + off = (t : Int)) : so_ok X nL pc (mo_goto t) := by
  obtain ⟨p, l, e, R, s, m, args, below, meth, c, D, cA, A, E, O, Q, QF⟩ := X
  obtain ⟨hx, hb, -⟩ := C
  intro lv st σ K h hK
  intro H locs cells slots ls vs hW hS hA hc hs hl hv
  exact lv_goto hx hb d ht (hK _ _ h H locs cells slots ls _ hW hS hA hc hs hl hv)

theorem so_if_eq {X : so_X} {cc : ByteArray} {nL pc : Nat} {own mn : String} (C : so_C X cc nL own mn) {off : Int} {t : Nat} (d : decode cc pc = .ok (.ifCond .eq off, 3)) (ht : (pc : Int) + off = (t : Int)) : so_ok X nL pc (mo_if mc_eq t) := by
  obtain ⟨p, l, e, R, s, m, args, below, meth, c, D, cA, A, E, O, Q, QF⟩ := X
  obtain ⟨hx, hb, -⟩ := C
  intro lv st σ K h hK
  match st, h with
  | .inl x :: st, h =>
    intro H locs cells slots ls vs hW hS hA hc hs hl hv
    obtain ⟨r, rfl, hv1⟩ := so_iv1 (v := .inl 0) hv
    exact lv_if_eq hx hb d ht (fun c9 => hK _ _ (h.1 c9) H locs cells slots ls _ hW hS hA hc hs hl hv1) (fun c9 => hK _ _ (h.2 c9) H locs cells slots ls _ hW hS hA hc hs hl hv1)
theorem so_icmp_eq {X : so_X} {cc : ByteArray} {nL pc : Nat} {own mn : String} (C : so_C X cc nL own mn) {off : Int} {t : Nat} (d : decode cc pc = .ok (.if_icmp .eq off, 3)) (ht : (pc : Int) + off = (t : Int)) : so_ok X nL pc (mo_icmp mc_eq t) := by
  obtain ⟨p, l, e, R, s, m, args, below, meth, c, D, cA, A, E, O, Q, QF⟩ := X
  obtain ⟨hx, hb, -⟩ := C
  intro lv st σ K h hK
  match st, h with
  | .inl y :: .inl x :: st, h =>
    intro H locs cells slots ls vs hW hS hA hc hs hl hv
    obtain ⟨r1, rfl, hv1⟩ := so_iv1 (v := .inl 0) hv
    obtain ⟨r, rfl, hv2⟩ := so_iv1 (v := .inl 0) hv1
    exact lv_icmp_eq hx hb d ht (fun c9 => hK _ _ (h.1 c9) H locs cells slots ls _ hW hS hA hc hs hl hv2) (fun c9 => hK _ _ (h.2 c9) H locs cells slots ls _ hW hS hA hc hs hl hv2)

theorem so_if_ne {X : so_X} {cc : ByteArray} {nL pc : Nat} {own mn : String} (C : so_C X cc nL own mn) {off : Int} {t : Nat} (d : decode cc pc = .ok (.ifCond .ne off, 3)) (ht : (pc : Int) + off = (t : Int)) : so_ok X nL pc (mo_ifn mc_eq t) := by
  obtain ⟨p, l, e, R, s, m, args, below, meth, c, D, cA, A, E, O, Q, QF⟩ := X
  obtain ⟨hx, hb, -⟩ := C
  intro lv st σ K h hK
  match st, h with
  | .inl x :: st, h =>
    intro H locs cells slots ls vs hW hS hA hc hs hl hv
    obtain ⟨r, rfl, hv1⟩ := so_iv1 (v := .inl 0) hv
    exact lv_if_ne hx hb d ht (fun c9 => hK _ _ (h.2 c9) H locs cells slots ls _ hW hS hA hc hs hl hv1) (fun c9 => hK _ _ (h.1 c9) H locs cells slots ls _ hW hS hA hc hs hl hv1)
theorem so_icmp_ne {X : so_X} {cc : ByteArray} {nL pc : Nat} {own mn : String} (C : so_C X cc nL own mn) {off : Int} {t : Nat} (d : decode cc pc = .ok (.if_icmp .ne off, 3)) (ht : (pc : Int) + off = (t : Int)) : so_ok X nL pc (mo_icmpn mc_eq t) := by
  obtain ⟨p, l, e, R, s, m, args, below, meth, c, D, cA, A, E, O, Q, QF⟩ := X
  obtain ⟨hx, hb, -⟩ := C
  intro lv st σ K h hK
  match st, h with
  | .inl y :: .inl x :: st, h =>
    intro H locs cells slots ls vs hW hS hA hc hs hl hv
    obtain ⟨r1, rfl, hv1⟩ := so_iv1 (v := .inl 0) hv
    obtain ⟨r, rfl, hv2⟩ := so_iv1 (v := .inl 0) hv1
    exact lv_icmp_ne hx hb d ht (fun c9 => hK _ _ (h.2 c9) H locs cells slots ls _ hW hS hA hc hs hl hv2) (fun c9 => hK _ _ (h.1 c9) H locs cells slots ls _ hW hS hA hc hs hl hv2)

theorem so_if_lt {X : so_X} {cc : ByteArray} {nL pc : Nat} {own mn : String} (C : so_C X cc nL own mn) {off : Int} {t : Nat} (d : decode cc pc = .ok (.ifCond .lt off, 3)) (ht : (pc : Int) + off = (t : Int)) : so_ok X nL pc (mo_if mc_lt t) := by
  obtain ⟨p, l, e, R, s, m, args, below, meth, c, D, cA, A, E, O, Q, QF⟩ := X
  obtain ⟨hx, hb, -⟩ := C
  intro lv st σ K h hK
  match st, h with
  | .inl x :: st, h =>
    intro H locs cells slots ls vs hW hS hA hc hs hl hv
    obtain ⟨r, rfl, hv1⟩ := so_iv1 (v := .inl 0) hv
    exact lv_if_lt hx hb d ht (fun c9 => hK _ _ (h.1 c9) H locs cells slots ls _ hW hS hA hc hs hl hv1) (fun c9 => hK _ _ (h.2 c9) H locs cells slots ls _ hW hS hA hc hs hl hv1)
theorem so_icmp_lt {X : so_X} {cc : ByteArray} {nL pc : Nat} {own mn : String} (C : so_C X cc nL own mn) {off : Int} {t : Nat} (d : decode cc pc = .ok (.if_icmp .lt off, 3)) (ht : (pc : Int) + off = (t : Int)) : so_ok X nL pc (mo_icmp mc_lt t) := by
  obtain ⟨p, l, e, R, s, m, args, below, meth, c, D, cA, A, E, O, Q, QF⟩ := X
  obtain ⟨hx, hb, -⟩ := C
  intro lv st σ K h hK
  match st, h with
  | .inl y :: .inl x :: st, h =>
    intro H locs cells slots ls vs hW hS hA hc hs hl hv
    obtain ⟨r1, rfl, hv1⟩ := so_iv1 (v := .inl 0) hv
    obtain ⟨r, rfl, hv2⟩ := so_iv1 (v := .inl 0) hv1
    exact lv_icmp_lt hx hb d ht (fun c9 => hK _ _ (h.1 c9) H locs cells slots ls _ hW hS hA hc hs hl hv2) (fun c9 => hK _ _ (h.2 c9) H locs cells slots ls _ hW hS hA hc hs hl hv2)

theorem so_if_ge {X : so_X} {cc : ByteArray} {nL pc : Nat} {own mn : String} (C : so_C X cc nL own mn) {off : Int} {t : Nat} (d : decode cc pc = .ok (.ifCond .ge off, 3)) (ht : (pc : Int) + off = (t : Int)) : so_ok X nL pc (mo_ifn mc_lt t) := by
  obtain ⟨p, l, e, R, s, m, args, below, meth, c, D, cA, A, E, O, Q, QF⟩ := X
  obtain ⟨hx, hb, -⟩ := C
  intro lv st σ K h hK
  match st, h with
  | .inl x :: st, h =>
    intro H locs cells slots ls vs hW hS hA hc hs hl hv
    obtain ⟨r, rfl, hv1⟩ := so_iv1 (v := .inl 0) hv
    exact lv_if_ge hx hb d ht (fun c9 => hK _ _ (h.2 (so_nlt.mpr c9)) H locs cells slots ls _ hW hS hA hc hs hl hv1) (fun c9 => hK _ _ (h.1 (so_nle.mp c9)) H locs cells slots ls _ hW hS hA hc hs hl hv1)
theorem so_icmp_ge {X : so_X} {cc : ByteArray} {nL pc : Nat} {own mn : String} (C : so_C X cc nL own mn) {off : Int} {t : Nat} (d : decode cc pc = .ok (.if_icmp .ge off, 3)) (ht : (pc : Int) + off = (t : Int)) : so_ok X nL pc (mo_icmpn mc_lt t) := by
  obtain ⟨p, l, e, R, s, m, args, below, meth, c, D, cA, A, E, O, Q, QF⟩ := X
  obtain ⟨hx, hb, -⟩ := C
  intro lv st σ K h hK
  match st, h with
  | .inl y :: .inl x :: st, h =>
    intro H locs cells slots ls vs hW hS hA hc hs hl hv
    obtain ⟨r1, rfl, hv1⟩ := so_iv1 (v := .inl 0) hv
    obtain ⟨r, rfl, hv2⟩ := so_iv1 (v := .inl 0) hv1
    exact lv_icmp_ge hx hb d ht (fun c9 => hK _ _ (h.2 (so_nlt.mpr c9)) H locs cells slots ls _ hW hS hA hc hs hl hv2) (fun c9 => hK _ _ (h.1 (so_nle.mp c9)) H locs cells slots ls _ hW hS hA hc hs hl hv2)

theorem so_if_gt {X : so_X} {cc : ByteArray} {nL pc : Nat} {own mn : String} (C : so_C X cc nL own mn) {off : Int} {t : Nat} (d : decode cc pc = .ok (.ifCond .gt off, 3)) (ht : (pc : Int) + off = (t : Int)) : so_ok X nL pc (mo_if mc_gt t) := by
  obtain ⟨p, l, e, R, s, m, args, below, meth, c, D, cA, A, E, O, Q, QF⟩ := X
  obtain ⟨hx, hb, -⟩ := C
  intro lv st σ K h hK
  match st, h with
  | .inl x :: st, h =>
    intro H locs cells slots ls vs hW hS hA hc hs hl hv
    obtain ⟨r, rfl, hv1⟩ := so_iv1 (v := .inl 0) hv
    exact lv_if_gt hx hb d ht (fun c9 => hK _ _ (h.1 c9) H locs cells slots ls _ hW hS hA hc hs hl hv1) (fun c9 => hK _ _ (h.2 c9) H locs cells slots ls _ hW hS hA hc hs hl hv1)
theorem so_icmp_gt {X : so_X} {cc : ByteArray} {nL pc : Nat} {own mn : String} (C : so_C X cc nL own mn) {off : Int} {t : Nat} (d : decode cc pc = .ok (.if_icmp .gt off, 3)) (ht : (pc : Int) + off = (t : Int)) : so_ok X nL pc (mo_icmp mc_gt t) := by
  obtain ⟨p, l, e, R, s, m, args, below, meth, c, D, cA, A, E, O, Q, QF⟩ := X
  obtain ⟨hx, hb, -⟩ := C
  intro lv st σ K h hK
  match st, h with
  | .inl y :: .inl x :: st, h =>
    intro H locs cells slots ls vs hW hS hA hc hs hl hv
    obtain ⟨r1, rfl, hv1⟩ := so_iv1 (v := .inl 0) hv
    obtain ⟨r, rfl, hv2⟩ := so_iv1 (v := .inl 0) hv1
    exact lv_icmp_gt hx hb d ht (fun c9 => hK _ _ (h.1 c9) H locs cells slots ls _ hW hS hA hc hs hl hv2) (fun c9 => hK _ _ (h.2 c9) H locs cells slots ls _ hW hS hA hc hs hl hv2)

theorem so_if_le {X : so_X} {cc : ByteArray} {nL pc : Nat} {own mn : String} (C : so_C X cc nL own mn) {off : Int} {t : Nat} (d : decode cc pc = .ok (.ifCond .le off, 3)) (ht : (pc : Int) + off = (t : Int)) : so_ok X nL pc (mo_ifn mc_gt t) := by
  obtain ⟨p, l, e, R, s, m, args, below, meth, c, D, cA, A, E, O, Q, QF⟩ := X
  obtain ⟨hx, hb, -⟩ := C
  intro lv st σ K h hK
  match st, h with
  | .inl x :: st, h =>
    intro H locs cells slots ls vs hW hS hA hc hs hl hv
    obtain ⟨r, rfl, hv1⟩ := so_iv1 (v := .inl 0) hv
    exact lv_if_le hx hb d ht (fun c9 => hK _ _ (h.2 (so_nlt.mpr c9)) H locs cells slots ls _ hW hS hA hc hs hl hv1) (fun c9 => hK _ _ (h.1 (so_nle.mp c9)) H locs cells slots ls _ hW hS hA hc hs hl hv1)
theorem so_icmp_le {X : so_X} {cc : ByteArray} {nL pc : Nat} {own mn : String} (C : so_C X cc nL own mn) {off : Int} {t : Nat} (d : decode cc pc = .ok (.if_icmp .le off, 3)) (ht : (pc : Int) + off = (t : Int)) : so_ok X nL pc (mo_icmpn mc_gt t) := by
  obtain ⟨p, l, e, R, s, m, args, below, meth, c, D, cA, A, E, O, Q, QF⟩ := X
  obtain ⟨hx, hb, -⟩ := C
  intro lv st σ K h hK
  match st, h with
  | .inl y :: .inl x :: st, h =>
    intro H locs cells slots ls vs hW hS hA hc hs hl hv
    obtain ⟨r1, rfl, hv1⟩ := so_iv1 (v := .inl 0) hv
    obtain ⟨r, rfl, hv2⟩ := so_iv1 (v := .inl 0) hv1
    exact lv_icmp_le hx hb d ht (fun c9 => hK _ _ (h.2 (so_nlt.mpr c9)) H locs cells slots ls _ hW hS hA hc hs hl hv2) (fun c9 => hK _ _ (h.1 (so_nle.mp c9)) H locs cells slots ls _ hW hS hA hc hs hl hv2)

theorem so_pop {X : so_X} {cc : ByteArray} {nL pc : Nat} {own mn : String} (C : so_C X cc nL own mn) (d : decode cc pc = .ok (.pop, 1)) : so_ok X nL pc mo_pop := by
  obtain ⟨p, l, e, R, s, m, args, below, meth, c, D, cA, A, E, O, Q, QF⟩ := X
  obtain ⟨hx, hb, -⟩ := C
  intro lv st σ K h hK
  match st, h with
  | v :: st, ⟨h0, h⟩ =>
    intro H locs cells slots ls vs hW hS hA hc hs hl hv
    obtain ⟨w, r, rfl, h1, hv1⟩ := so_iv3 hv
    exact lv_pop hx hb d (by rw [h1.cat, h0]; rfl) (hK _ _ h H locs cells slots ls _ hW hS hA hc hs hl hv1)
theorem so_dup {X : so_X} {cc : ByteArray} {nL pc : Nat} {own mn : String} (C : so_C X cc nL own mn) (d : decode cc pc = .ok (.dup, 1)) : so_ok X nL pc mo_dup := by
  obtain ⟨p, l, e, R, s, m, args, below, meth, c, D, cA, A, E, O, Q, QF⟩ := X
  obtain ⟨hx, hb, -⟩ := C
  intro lv st σ K h hK
  match st, h with
  | .inl x :: st, h =>
    intro H locs cells slots ls vs hW hS hA hc hs hl hv
    obtain ⟨w, r, rfl, h1, hv1⟩ := so_iv3 hv
    exact lv_dup hx hb d (by rw [h1.cat]; rfl) (hK _ _ h H locs cells slots ls _ hW hS hA hc hs hl ⟨h1, h1, hv1⟩)
  | .inr (.inr x) :: st, h =>
    intro H locs cells slots ls vs hW hS hA hc hs hl hv
    obtain ⟨w, r, rfl, h1, hv1⟩ := so_iv3 hv
    exact lv_dup hx hb d (by rw [h1.cat]; rfl) (hK _ _ h H locs cells slots ls _ hW hS hA hc hs hl ⟨h1, h1, hv1⟩)
theorem so_dup_x1 {X : so_X} {cc : ByteArray} {nL pc : Nat} {own mn : String} (C : so_C X cc nL own mn) (d : decode cc pc = .ok (.dup_x1, 1)) : so_ok X nL pc mo_dup_x1 := by
  obtain ⟨p, l, e, R, s, m, args, below, meth, c, D, cA, A, E, O, Q, QF⟩ := X
  obtain ⟨hx, hb, -⟩ := C
  intro lv st σ K h hK
  match st, h with
  | .inl x :: .inr (.inr y) :: st, h =>
    intro H locs cells slots ls vs hW hS hA hc hs hl hv
    obtain ⟨w, r1, rfl, h1, hv1⟩ := so_iv3 hv
    obtain ⟨w2, r, rfl, h2, hv2⟩ := so_iv3 hv1
    exact lv_dup_x1 hx hb d (by rw [h1.cat]; rfl) (by rw [h2.cat]; rfl) (hK _ _ h H locs cells slots ls _ hW hS hA hc hs hl ⟨h1, h2, h1, hv2⟩)
theorem so_dup2 {X : so_X} {cc : ByteArray} {nL pc : Nat} {own mn : String} (C : so_C X cc nL own mn) (d : decode cc pc = .ok (.dup2, 1)) : so_ok X nL pc mo_dup2 := by
  obtain ⟨p, l, e, R, s, m, args, below, meth, c, D, cA, A, E, O, Q, QF⟩ := X
  obtain ⟨hx, hb, -⟩ := C
  intro lv st σ K h hK
  match st, h with
  | .inl x :: .inr (.inr y) :: st, h =>
    intro H locs cells slots ls vs hW hS hA hc hs hl hv
    obtain ⟨w, r1, rfl, h1, hv1⟩ := so_iv3 hv
    obtain ⟨w2, r, rfl, h2, hv2⟩ := so_iv3 hv1
    exact lv_dup2_11 hx hb d (by rw [h1.cat]; rfl) (by rw [h2.cat]; rfl) (hK _ _ h H locs cells slots ls _ hW hS hA hc hs hl ⟨h1, h2, h1, h2, hv2⟩)

theorem so_lk1 : ∀ {i : Nat} {v : mmV} {lv : List (Option mmV)} {j : Nat} {u : mmV}, mm_lk (mm_ins1 i v lv) j = some u → (j = i ∧ u = v) ∨ (j ≠ i ∧ mm_lk lv j = some u ∧ ¬ (j + 1 = i ∧ mm_long u = true))
  | _, _, [], _, _, h => by simp [mm_ins1, mm_lk] at h
  | 0, v, x :: t, 0, u, h => by simp [mm_ins1, mm_lk] at h; exact Or.inl ⟨rfl, h.symm⟩
  | 0, v, x :: t, j + 1, u, h => by
    simp only [mm_ins1, mm_lk] at h
    exact Or.inr ⟨by omega, h, by omega⟩
  | 1, v, x :: t, 0, u, h => by
    simp only [mm_ins1, mm_lk] at h
    refine Or.inr ⟨by omega, ?_, fun q => ?_⟩
    · rcases x with _ | x | x | x <;> simp [mm_lost] at h <;> simp [mm_lk, h]
    · rcases x with _ | x | x | x <;> simp [mm_lost] at h
      · rw [← h] at q; simp [mm_long] at q
      · rw [← h] at q; simp [mm_long] at q
  | 1, v, x :: t, j + 1, u, h => by
    have h1 : mm_lk (mm_ins1 0 v t) j = some u := h
    rcases so_lk1 h1 with ⟨rfl, h2⟩ | ⟨h2, h3, h4⟩
    · exact Or.inl ⟨rfl, h2⟩
    · exact Or.inr ⟨by omega, h3, by omega⟩
  | i + 2, v, x :: t, 0, u, h => by
    simp only [mm_ins1, mm_lk] at h
    exact Or.inr ⟨by omega, h, by omega⟩
  | i + 2, v, x :: t, j + 1, u, h => by
    have h1 : mm_lk (mm_ins1 (i + 1) v t) j = some u := h
    rcases so_lk1 h1 with ⟨rfl, h2⟩ | ⟨h2, h3, h4⟩
    · exact Or.inl ⟨rfl, h2⟩
    · exact Or.inr ⟨by omega, h3, fun q => h4 ⟨by omega, q.2⟩⟩
theorem so_lk2 : ∀ {i : Nat} {v : mmV} {lv : List (Option mmV)} {j : Nat} {u : mmV}, mm_lk (mm_ins2 i v lv) j = some u → (j = i ∧ u = v) ∨ (j ≠ i ∧ j ≠ i + 1 ∧ mm_lk lv j = some u ∧ ¬ (j + 1 = i ∧ mm_long u = true))
  | _, _, [], _, _, h => by simp [mm_ins2, mm_lk] at h
  | 0, v, [x], 0, u, h => by simp [mm_ins2, mm_lk] at h; exact Or.inl ⟨rfl, h.symm⟩
  | 0, v, [x], j + 1, u, h => by simp [mm_ins2, mm_lk] at h
  | 0, v, x :: y :: t, 0, u, h => by simp [mm_ins2, mm_lk] at h; exact Or.inl ⟨rfl, h.symm⟩
  | 0, v, x :: y :: t, 1, u, h => by simp [mm_ins2, mm_lk] at h
  | 0, v, x :: y :: t, j + 2, u, h => by
    simp only [mm_ins2, mm_lk] at h
    exact Or.inr ⟨by omega, by omega, h, by omega⟩
  | 1, v, x :: t, 0, u, h => by
    simp only [mm_ins2, mm_lk] at h
    refine Or.inr ⟨by omega, by omega, ?_, fun q => ?_⟩
    · rcases x with _ | x | x | x <;> simp [mm_lost] at h <;> simp [mm_lk, h]
    · rcases x with _ | x | x | x <;> simp [mm_lost] at h
      · rw [← h] at q; simp [mm_long] at q
      · rw [← h] at q; simp [mm_long] at q
  | 1, v, x :: t, j + 1, u, h => by
    have h1 : mm_lk (mm_ins2 0 v t) j = some u := by simpa [mm_ins2, mm_lk] using h
    rcases so_lk2 h1 with ⟨rfl, h2⟩ | ⟨h2, h2', h3, h4⟩
    · exact Or.inl ⟨rfl, h2⟩
    · exact Or.inr ⟨by omega, by omega, by simpa [mm_lk] using h3, by omega⟩
  | i + 2, v, x :: t, 0, u, h => by
    simp only [mm_ins2, mm_lk] at h
    exact Or.inr ⟨by omega, by omega, h, by omega⟩
  | i + 2, v, x :: t, j + 1, u, h => by
    have h1 : mm_lk (mm_ins2 (i + 1) v t) j = some u := by simpa [mm_ins2, mm_lk] using h
    rcases so_lk2 h1 with ⟨rfl, h2⟩ | ⟨h2, h2', h3, h4⟩
    · exact Or.inl ⟨rfl, h2⟩
    · exact Or.inr ⟨by omega, by omega, by simpa [mm_lk] using h3, fun q => h4 ⟨by omega, q.2⟩⟩
theorem so_len1 : ∀ {i : Nat} {v : mmV} {lv : List (Option mmV)}, (mm_ins1 i v lv).length = lv.length
  | _, _, [] => by simp [mm_ins1]
  | 0, _, _ :: _ => rfl
  | 1, v, x :: t => by
    have := @so_len1 0 v t
    simp only [mm_ins1, List.length_cons, this]
  | i + 2, v, x :: t => by
    have := @so_len1 (i + 1) v t
    simp only [mm_ins1, List.length_cons, this]
theorem so_len2 : ∀ {i : Nat} {v : mmV} {lv : List (Option mmV)}, (mm_ins2 i v lv).length = lv.length
  | _, _, [] => by simp [mm_ins2]
  | 0, _, [_] => rfl
  | 0, _, _ :: _ :: _ => rfl
  | 1, v, x :: t => by
    have := @so_len2 0 v t
    simp only [mm_ins2, List.length_cons, this]
  | i + 2, v, x :: t => by
    have := @so_len2 (i + 1) v t
    simp only [mm_ins2, List.length_cons, this]
/-- all locals that hold a value, as a list -/
def so_all (ls : Array Slot) (nL : Nat) : List (Nat × Value) := (List.range nL).filterMap fun j => match (ls[j]? : Option Slot) with | some (Slot.val w) => some (j, w) | _ => none
theorem so_all_mem {ls : Array Slot} {nL : Nat} (hs : ls.size = nL) {j : Nat} {w : Value} : (j, w) ∈ so_all ls nL ↔ ls[j]? = some (.val w) := by
  unfold so_all
  rw [List.mem_filterMap]
  constructor
  · rintro ⟨k, -, hk⟩
    split at hk
    · rename_i w' he
      cases hk
      exact he
    · cases hk
  · intro h
    refine ⟨j, List.mem_range.mpr (by rw [← hs]; exact (Array.getElem?_eq_some_iff.mp h).1), ?_⟩
    rw [h]
theorem so_lv.has {N : Nat} {σ : mmS} {nL : Nat} {lv : List (Option mmV)} {ls : Array Slot} (h : so_lv N σ nL lv ls) : lv_has ls nL (so_all ls nL) := ⟨h.1, h.2.1, fun q hq => (so_all_mem h.1).mp hq⟩
theorem so_put1 {N : Nat} {σ : mmS} {nL i : Nat} {lv : List (Option mmV)} {ls ls' : Array Slot} {v : mmV} {w : Value} (h : so_lv N σ nL lv ls) (hv : so_rv N σ v w)
    (g : lv_has ls' nL ((i, w) :: (so_all ls nL).filter (fun q => !(q.1 == i) && !(q.1 + 1 == i && q.2.category == 2)))) : so_lv N σ nL (mm_ins1 i v lv) ls' := by
  refine ⟨g.1, g.2.1, so_len1.trans h.2.2.1, fun j u hj => ?_⟩
  rcases so_lk1 hj with ⟨rfl, rfl⟩ | ⟨h1, h2, h3⟩
  · exact ⟨w, hv, g.2.2 (j, w) List.mem_cons_self⟩
  · obtain ⟨w', h4, h5⟩ := h.2.2.2 j u h2
    refine ⟨w', h4, g.2.2 (j, w') (List.mem_cons_of_mem _ (List.mem_filter.mpr ⟨(so_all_mem h.1).mpr h5, ?_⟩))⟩
    have hc := h4.cat
    have e1 : (j == i) = false := by simpa using h1
    show (!(j == i) && !(j + 1 == i && w'.category == 2)) = true
    rw [e1, hc]
    by_cases q : j + 1 = i
    · have : mm_long u = false := by
        cases hu : mm_long u with
        | false => rfl
        | true => exact absurd ⟨q, hu⟩ h3
      rw [this]; simp
    · have e2 : (j + 1 == i) = false := by simpa using q
      rw [e2]; rfl
theorem so_put2 {N : Nat} {σ : mmS} {nL i : Nat} {lv : List (Option mmV)} {ls ls' : Array Slot} {v : mmV} {w : Value} (h : so_lv N σ nL lv ls) (hv : so_rv N σ v w)
    (g : lv_has ls' nL ((i, w) :: (so_all ls nL).filter (fun q => !(q.1 == i) && (!(q.1 == i + 1) && !(q.1 + 1 == i && q.2.category == 2))))) : so_lv N σ nL (mm_ins2 i v lv) ls' := by
  refine ⟨g.1, g.2.1, so_len2.trans h.2.2.1, fun j u hj => ?_⟩
  rcases so_lk2 hj with ⟨rfl, rfl⟩ | ⟨h1, h1', h2, h3⟩
  · exact ⟨w, hv, g.2.2 (j, w) List.mem_cons_self⟩
  · obtain ⟨w', h4, h5⟩ := h.2.2.2 j u h2
    refine ⟨w', h4, g.2.2 (j, w') (List.mem_cons_of_mem _ (List.mem_filter.mpr ⟨(so_all_mem h.1).mpr h5, ?_⟩))⟩
    have hc := h4.cat
    have e1 : (j == i) = false := by simpa using h1
    have e3 : (j == i + 1) = false := by simpa using h1'
    show (!(j == i) && (!(j == i + 1) && !(j + 1 == i && w'.category == 2))) = true
    rw [e1, e3, hc]
    by_cases q : j + 1 = i
    · have : mm_long u = false := by
        cases hu : mm_long u with
        | false => rfl
        | true => exact absurd ⟨q, hu⟩ h3
      rw [this]; simp
    · have e2 : (j + 1 == i) = false := by simpa using q
      rw [e2]; rfl

theorem so_istore1 {X : so_X} {cc : ByteArray} {nL pc : Nat} {own mn : String} (C : so_C X cc nL own mn) {k : Fin 4} {i : Nat} (hn : i < nL) (d : decode cc pc = .ok (.istore_n k, 1)) (hi : (k : Nat) = i) : so_ok X nL pc (mo_istore i 1) := by
  obtain ⟨p, l, e, R, s, m, args, below, meth, c, D, cA, A, E, O, Q, QF⟩ := X
  obtain ⟨hx, hb, -⟩ := C
  intro lv st σ K h hK
  match st, h with
  | .inl x :: st, h =>
    intro H locs cells slots ls vs hW hS hA hc hs hl hv
    obtain ⟨w, r, rfl, h1, hv1⟩ := so_iv3 hv
    rw [show w = .int x from h1]
    exact lv_istore_n hx hb d hi hl.has hn rfl (fun ls' g => hK _ _ h H locs cells slots ls' _ hW hS hA hc hs (so_put1 hl rfl g) hv1)
theorem so_astore1 {X : so_X} {cc : ByteArray} {nL pc : Nat} {own mn : String} (C : so_C X cc nL own mn) {k : Fin 4} {i : Nat} (hn : i < nL) (d : decode cc pc = .ok (.astore_n k, 1)) (hi : (k : Nat) = i) : so_ok X nL pc (mo_astore i 1) := by
  obtain ⟨p, l, e, R, s, m, args, below, meth, c, D, cA, A, E, O, Q, QF⟩ := X
  obtain ⟨hx, hb, -⟩ := C
  intro lv st σ K h hK
  match st, h with
  | .inr (.inr x) :: st, h =>
    intro H locs cells slots ls vs hW hS hA hc hs hl hv
    obtain ⟨w, r, rfl, h1, hv1⟩ := so_iv3 hv
    rcases h1.ref with e | e
    · rw [e]
      exact lv_astore_nN hx hb d hi hl.has hn rfl (fun ls' g => hK _ _ h H locs cells slots ls' _ hW hS hA hc hs (so_put1 hl (e ▸ h1) g) hv1)
    · rw [e]
      exact lv_astore_n hx hb d hi hl.has hn rfl (fun ls' g => hK _ _ h H locs cells slots ls' _ hW hS hA hc hs (so_put1 hl (e ▸ h1) g) hv1)
theorem so_lstore1 {X : so_X} {cc : ByteArray} {nL pc : Nat} {own mn : String} (C : so_C X cc nL own mn) {k : Fin 4} {i : Nat} (hn : i + 1 < nL) (d : decode cc pc = .ok (.lstore_n k, 1)) (hi : (k : Nat) = i) : so_ok X nL pc (mo_lstore i 1) := by
  obtain ⟨p, l, e, R, s, m, args, below, meth, c, D, cA, A, E, O, Q, QF⟩ := X
  obtain ⟨hx, hb, -⟩ := C
  intro lv st σ K h hK
  match st, h with
  | .inr (.inl x) :: st, h =>
    intro H locs cells slots ls vs hW hS hA hc hs hl hv
    obtain ⟨w, r, rfl, h1, hv1⟩ := so_iv3 hv
    rw [show w = .long x from h1]
    exact lv_lstore_n hx hb d hi hl.has hn rfl (fun ls' g => hK _ _ h H locs cells slots ls' _ hW hS hA hc hs (so_put2 hl rfl g) hv1)

theorem so_istore2 {X : so_X} {cc : ByteArray} {nL pc : Nat} {own mn : String} (C : so_C X cc nL own mn) {i : Nat} (hn : i < nL) (d : decode cc pc = .ok (.istore i, 2)) : so_ok X nL pc (mo_istore i 2) := by
  obtain ⟨p, l, e, R, s, m, args, below, meth, c, D, cA, A, E, O, Q, QF⟩ := X
  obtain ⟨hx, hb, -⟩ := C
  intro lv st σ K h hK
  match st, h with
  | .inl x :: st, h =>
    intro H locs cells slots ls vs hW hS hA hc hs hl hv
    obtain ⟨w, r, rfl, h1, hv1⟩ := so_iv3 hv
    rw [show w = .int x from h1]
    exact lv_istore hx hb d hl.has hn rfl (fun ls' g => hK _ _ h H locs cells slots ls' _ hW hS hA hc hs (so_put1 hl rfl g) hv1)
theorem so_astore2 {X : so_X} {cc : ByteArray} {nL pc : Nat} {own mn : String} (C : so_C X cc nL own mn) {i : Nat} (hn : i < nL) (d : decode cc pc = .ok (.astore i, 2)) : so_ok X nL pc (mo_astore i 2) := by
  obtain ⟨p, l, e, R, s, m, args, below, meth, c, D, cA, A, E, O, Q, QF⟩ := X
  obtain ⟨hx, hb, -⟩ := C
  intro lv st σ K h hK
  match st, h with
  | .inr (.inr x) :: st, h =>
    intro H locs cells slots ls vs hW hS hA hc hs hl hv
    obtain ⟨w, r, rfl, h1, hv1⟩ := so_iv3 hv
    rcases h1.ref with e | e
    · rw [e]
      exact lv_astoreN hx hb d hl.has hn rfl (fun ls' g => hK _ _ h H locs cells slots ls' _ hW hS hA hc hs (so_put1 hl (e ▸ h1) g) hv1)
    · rw [e]
      exact lv_astore hx hb d hl.has hn rfl (fun ls' g => hK _ _ h H locs cells slots ls' _ hW hS hA hc hs (so_put1 hl (e ▸ h1) g) hv1)
theorem so_lstore2 {X : so_X} {cc : ByteArray} {nL pc : Nat} {own mn : String} (C : so_C X cc nL own mn) {i : Nat} (hn : i + 1 < nL) (d : decode cc pc = .ok (.lstore i, 2)) : so_ok X nL pc (mo_lstore i 2) := by
  obtain ⟨p, l, e, R, s, m, args, below, meth, c, D, cA, A, E, O, Q, QF⟩ := X
  obtain ⟨hx, hb, -⟩ := C
  intro lv st σ K h hK
  match st, h with
  | .inr (.inl x) :: st, h =>
    intro H locs cells slots ls vs hW hS hA hc hs hl hv
    obtain ⟨w, r, rfl, h1, hv1⟩ := so_iv3 hv
    rw [show w = .long x from h1]
    exact lv_lstore hx hb d hl.has hn rfl (fun ls' g => hK _ _ h H locs cells slots ls' _ hW hS hA hc hs (so_put2 hl rfl g) hv1)

theorem so_iinc {X : so_X} {cc : ByteArray} {nL pc : Nat} {own mn : String} (C : so_C X cc nL own mn) {i : Nat} {n : Int} {v : Int32} (hn : i < nL) (d : decode cc pc = .ok (.iinc i n, 3)) (hv0 : Int32.ofInt n = v) : so_ok X nL pc (mo_iinc i v) := by
  obtain ⟨p, l, e, R, s, m, args, below, meth, c, D, cA, A, E, O, Q, QF⟩ := X
  obtain ⟨hx, hb, -⟩ := C
  intro lv st σ K h hK
  have h : (match mm_lk lv i with | some (.inl x) => K (pc + 3, mm_ins1 i (.inl (x + v)) lv, st) σ | _ => False) := h
  cases hk : mm_lk lv i with
  | none => rw [hk] at h; exact h.elim
  | some u =>
    rw [hk] at h
    match u, h, hk with
    | .inl x, h, hk =>
      intro H locs cells slots ls vs hW hS hA hc hs hl hv
      obtain ⟨w, h1, h2⟩ := hl.2.2.2 _ _ hk
      rw [show w = .int x from h1] at h2
      obtain ⟨k, hk2⟩ := List.getElem?_of_mem ((so_all_mem hl.1).mpr h2)
      exact lv_iinc hx hb d hl.has (k := k) hk2 (v := x + v) (by rw [hv0]) hn rfl (fun ls' g => hK _ _ h H locs cells slots ls' _ hW hS hA hc hs (so_put1 hl rfl g) hv)
