/-! contracts out of the mini machine; how methods end -/
def so_xn (k : Nat) : String := match k with | 5 => "ModuleGateModel$Bad" | 6 => "java/lang/IndexOutOfBoundsException" | _ => "java/lang/IllegalArgumentException"
/-- what is told at a method's end of world and costs -/
def so_T (D : va_G) (cA : Nat → ClassId) (E : so_E9) (A : Nat → Prop) (σ : mmS) (N : Nat) (u : mmS) (st t : State) (k n : Nat) : Prop :=
  so_W D cA A u t.heap ∧ so_S E u ∧ k + mm_bc u ≤ mm_bc σ ∧ n + mm_bs u ≤ mm_bs σ ∧ N ≤ t.heap.size ∧ ∀ q : Nat, q < N → ¬ A q → t.heap[q]? = st.heap[q]?
def so_rvo (N : Nat) (u : mmS) (ov : Option mmV) (v : Option Value) : Prop := match ov, v with
  | none, none => True
  | some a, some w => so_rv N u a w
  | _, _ => False
def so_R1 (D : va_G) (cA : Nat → ClassId) (E : so_E9) (A : Nat → Prop) (σ : mmS) (N : Nat) (Q : mmQ) : State → Option Value → State → Nat → Nat → Prop := fun st v t k n =>
  ∃ (ov : Option mmV) (u : mmS), Q (.inl ov) u ∧ so_rvo t.heap.size u ov v ∧ so_T D cA E A σ N u st t k n
def so_X1 (D : va_G) (cA : Nat → ClassId) (E : so_E9) (A : Nat → Prop) (σ : mmS) (N : Nat) (Q : mmQ) : String → State → Addr → State → Nat → Nat → Prop := fun X st q t k n =>
  ∃ (e : Nat) (u : mmS), Q (.inr e) u ∧ X = so_xn e ∧ 4 < e ∧ e < 8 ∧ (e = 5 → 0 < mm_n u 5 ∧ q = mm_v u 5) ∧ so_T D cA E A σ N u st t k n
/-- the end of a walk -/
def so_MQ (below : List Frame) (D : va_G) (cA : Nat → ClassId) (E : so_E9) (A : Nat → Prop) (σ : mmS) (Q : mmQ) (args : Array Value) (s : State) : State → Prop := fun t =>
  ∃ o, t.status = .running ∧ Ended t below o ∧ so_Qd (so_R1 D cA E A σ s.heap.size Q) (so_X1 D cA E A σ s.heap.size Q) A args s o t
theorem so_mono {p : Program} {l : Launch} {e : Env} {R : Room} {s : State} {m : MethodId} {args : Array Value} {below : List Frame} {meth : Method} {c : Code} {H : Heap} {locs : List Loc} {cells slots : Nat} {Q Q' : State → Prop} {g : JFrame} (h : ∀ t, Q t → Q' t) (k : W p l e R s m args below meth c H locs cells slots Q g) : W p l e R s m args below meth c H locs cells slots Q' g := by
  intro T hT X
  obtain ⟨t, a, b⟩ := k T hT X
  exact ⟨t, a, h t b⟩
/-- the walk ends as its contract says, in the room that the contract has -/
def so_F9 (X : so_X) (σ0 : mmS) (ret : Option FieldType) : Prop := match X with
  | (_, _, _, R, s, _, args, below, meth, _, D, cA, A, E, _, Q, QF) => QF = so_MQ below D cA E A σ0 Q args s ∧ R.cells = mm_bc σ0 ∧ R.slots = mm_bs σ0 ∧ meth.sig.returnType = ret
theorem so_endR {p : Program} {l : Launch} {e : Env} {R : Room} {s : State} {m : MethodId} {args : Array Value} {below : List Frame} {meth : Method} {c : Code} {H : Heap} {locs : List Loc} {cells slots : Nat} {D : va_G} {cA : Nat → ClassId} {E : so_E9} {A : Nat → Prop} {σ σ0 : mmS} {Q : mmQ} {g : JFrame} {ov : Option mmV} {v : Option Value}
    (hW : so_W D cA A σ H) (hS : so_S E σ) (hA : va_S A s.heap H locs) (hc : cells + mm_bc σ ≤ R.cells) (hs : slots + mm_bs σ ≤ R.slots) (hRc : R.cells = mm_bc σ0) (hRs : R.slots = mm_bs σ0) (hQ : Q (.inl ov) σ) (hv : so_rvo H.size σ ov v)
    (k : W p l e R s m args below meth c H locs cells slots (MQ below (fun _ _ o t => o = .returned v ∧ t.heap = H) args s cells slots A) g) :
    W p l e R s m args below meth c H locs cells slots (so_MQ below D cA E A σ0 Q args s) g := by
  refine so_mono (fun t ht => ?_) k
  obtain ⟨o, h1, h2, ⟨h3, h4⟩, L, h5, h6⟩ := ht
  refine ⟨o, h1, h2, Or.inl ⟨v, cells, slots, L, h3, ⟨ov, σ, hQ, by rw [h4]; exact hv, by rw [h4]; exact hW, hS, by omega, by omega, by rw [h4]; exact hA.1, fun q q1 q2 => ?_⟩, h5, h6⟩⟩
  rw [h4]
  exact hA.2.1 q q1 q2
theorem so_nil {N : Nat} {σ : mmS} {ws : List Value} (h : so_st N σ [] ws) : ws = [] := by
  cases ws with
  | nil => rfl
  | cons a t => exact h.elim
theorem so_nar_c {x : Int32} (h : 0 ≤ x ∧ x < 65536) : narrow .char (.int x) = .int x := by
  have h0 : (0 : Int) ≤ x.toInt := by simpa using Int32.le_iff_toInt_le.mp h.1
  have h1 : x.toInt < 65536 := by simpa using Int32.lt_iff_toInt_lt.mp h.2
  show Value.int (x.toUInt32 % 65536).toInt32 = .int x
  congr 1
  apply Int32.toBitVec_inj.mp
  apply BitVec.eq_of_toNat_eq
  have e1 : x.toBitVec.toInt = x.toInt := rfl
  have e2 : x.toBitVec.toNat < 65536 := by
    have := BitVec.toInt_eq_toNat_cond x.toBitVec
    have := x.toBitVec.isLt
    omega
  show (x.toUInt32 % 65536).toBitVec.toNat = x.toBitVec.toNat
  rw [UInt32.toBitVec_mod, BitVec.toNat_umod]
  show x.toBitVec.toNat % 65536 = _
  exact Nat.mod_eq_of_lt e2
theorem so_nar_b {x : Int32} (h : -128 ≤ x ∧ x < 128) : narrow .byte (.int x) = .int x := by
  have h0 : (-128 : Int) ≤ x.toInt := by simpa using Int32.le_iff_toInt_le.mp h.1
  have h1 : x.toInt < 128 := by simpa using Int32.lt_iff_toInt_lt.mp h.2
  show Value.int x.toInt8.toInt32 = .int x
  congr 1
  apply Int32.toInt_inj.mp
  rw [Int8.toInt_toInt32, Int32.toInt_toInt8]
  rw [Int.bmod_eq_of_le (by omega) (by omega)]
section SOR
variable {X : so_X} {cc : ByteArray} {nL pc : Nat} {own mn : String} {σ0 : mmS}
theorem so_retI (C : so_C X cc nL own mn) (F : so_F9 X σ0 (some .int)) (d : decode cc pc = .ok (.ireturn, 1)) : so_ok X nL pc mo_retI := by
  obtain ⟨p, l, e, R, s, m, args, below, meth, c, D, cA, A, E, O, Q, QF⟩ := X
  obtain ⟨hx, hb, hml, hown, hts, hnest, hKK, hvk, hAq, hlk, hmn, hsc⟩ := C
  obtain ⟨hQF, hRc, hRs, hr⟩ := F
  subst hQF
  intro lv st σ K h hK
  match st, h with
  | [.inl x], h =>
    intro H locs cells slots ls vs hW hS hA hc hs hl hv
    obtain ⟨w, r, rfl, h1, hv1⟩ := so_iv3 hv
    obtain rfl := so_nil hv1
    rw [show w = .int x from h1]
    refine so_endR hW hS hA hc hs hRc hRs h (v := some (.int x)) rfl ?_
    exact W.iret hx hb hr (fun t ht _ => ⟨rfl, ht⟩) hA.2.2 d hlk
theorem so_retZ {ty : FieldType} (C : so_C X cc nL own mn) (F : so_F9 X σ0 (some ty)) (hty : ty = .boolean) (d : decode cc pc = .ok (.ireturn, 1)) : so_ok X nL pc mo_retZ := by
  subst hty
  obtain ⟨p, l, e, R, s, m, args, below, meth, c, D, cA, A, E, O, Q, QF⟩ := X
  obtain ⟨hx, hb, hml, hown, hts, hnest, hKK, hvk, hAq, hlk, hmn, hsc⟩ := C
  obtain ⟨hQF, hRc, hRs, hr⟩ := F
  subst hQF
  intro lv st σ K h hK
  match st, h with
  | [.inl x], ⟨h01, h⟩ =>
    intro H locs cells slots ls vs hW hS hA hc hs hl hv
    obtain ⟨w, r, rfl, h1, hv1⟩ := so_iv3 hv
    obtain rfl := so_nil hv1
    rw [show w = .int x from h1]
    refine so_endR hW hS hA hc hs hRc hRs h (v := some (.int x)) rfl ?_
    exact W.zret hx hb hr (by rcases h01 with rfl | rfl <;> rfl) (fun t ht _ => ⟨rfl, ht⟩) hA.2.2 d hlk
theorem so_retC {ty : FieldType} (C : so_C X cc nL own mn) (F : so_F9 X σ0 (some ty)) (hty : ty = .char) (d : decode cc pc = .ok (.ireturn, 1)) : so_ok X nL pc mo_retC := by
  subst hty
  obtain ⟨p, l, e, R, s, m, args, below, meth, c, D, cA, A, E, O, Q, QF⟩ := X
  obtain ⟨hx, hb, hml, hown, hts, hnest, hKK, hvk, hAq, hlk, hmn, hsc⟩ := C
  obtain ⟨hQF, hRc, hRs, hr⟩ := F
  subst hQF
  intro lv st σ K h hK
  match st, h with
  | [.inl x], ⟨h01, h⟩ =>
    intro H locs cells slots ls vs hW hS hA hc hs hl hv
    obtain ⟨w, r, rfl, h1, hv1⟩ := so_iv3 hv
    obtain rfl := so_nil hv1
    rw [show w = .int x from h1]
    refine so_endR hW hS hA hc hs hRc hRs h (v := some (.int x)) rfl ?_
    exact W.zret hx hb hr (so_nar_c h01) (fun t ht _ => ⟨rfl, ht⟩) hA.2.2 d hlk
theorem so_retB {ty : FieldType} (C : so_C X cc nL own mn) (F : so_F9 X σ0 (some ty)) (hty : ty = .byte) (d : decode cc pc = .ok (.ireturn, 1)) : so_ok X nL pc mo_retB := by
  subst hty
  obtain ⟨p, l, e, R, s, m, args, below, meth, c, D, cA, A, E, O, Q, QF⟩ := X
  obtain ⟨hx, hb, hml, hown, hts, hnest, hKK, hvk, hAq, hlk, hmn, hsc⟩ := C
  obtain ⟨hQF, hRc, hRs, hr⟩ := F
  subst hQF
  intro lv st σ K h hK
  match st, h with
  | [.inl x], ⟨h01, h⟩ =>
    intro H locs cells slots ls vs hW hS hA hc hs hl hv
    obtain ⟨w, r, rfl, h1, hv1⟩ := so_iv3 hv
    obtain rfl := so_nil hv1
    rw [show w = .int x from h1]
    refine so_endR hW hS hA hc hs hRc hRs h (v := some (.int x)) rfl ?_
    exact W.zret hx hb hr (so_nar_b h01) (fun t ht _ => ⟨rfl, ht⟩) hA.2.2 d hlk
theorem so_retL (C : so_C X cc nL own mn) (F : so_F9 X σ0 (some .long)) (d : decode cc pc = .ok (.lreturn, 1)) : so_ok X nL pc mo_retL := by
  obtain ⟨p, l, e, R, s, m, args, below, meth, c, D, cA, A, E, O, Q, QF⟩ := X
  obtain ⟨hx, hb, hml, hown, hts, hnest, hKK, hvk, hAq, hlk, hmn, hsc⟩ := C
  obtain ⟨hQF, hRc, hRs, hr⟩ := F
  subst hQF
  intro lv st σ K h hK
  match st, h with
  | [.inr (.inl x)], h =>
    intro H locs cells slots ls vs hW hS hA hc hs hl hv
    obtain ⟨w, r, rfl, h1, hv1⟩ := so_iv3 hv
    obtain rfl := so_nil hv1
    rw [show w = .long x from h1]
    refine so_endR hW hS hA hc hs hRc hRs h (v := some (.long x)) rfl ?_
    exact W.lret hx hb hr (fun t ht _ => ⟨rfl, ht⟩) hA.2.2 d hlk
theorem so_retR {rt : FieldType} (C : so_C X cc nL own mn) (F : so_F9 X σ0 (some rt)) (hty : (∃ n, rt = .object n) ∨ ∃ t, rt = .array t) (d : decode cc pc = .ok (.areturn, 1)) : so_ok X nL pc mo_retR := by
  obtain ⟨p, l, e, R, s, m, args, below, meth, c, D, cA, A, E, O, Q, QF⟩ := X
  obtain ⟨hx, hb, hml, hown, hts, hnest, hKK, hvk, hAq, hlk, hmn, hsc⟩ := C
  obtain ⟨hQF, hRc, hRs, hr⟩ := F
  subst hQF
  intro lv st σ K h hK
  match st, h with
  | [.inr (.inr x)], h =>
    intro H locs cells slots ls vs hW hS hA hc hs hl hv
    obtain ⟨w, r, rfl, h1, hv1⟩ := so_iv3 hv
    obtain rfl := so_nil hv1
    refine so_endR hW hS hA hc hs hRc hRs h (v := some w) h1 ?_
    exact W.aret hx hb hr hty (by rcases h1.ref with e9 | e9; exact Or.inl e9; exact Or.inr ⟨_, e9⟩) (fun t ht _ => ⟨rfl, ht⟩) hA.2.2 d hlk
theorem so_retV (C : so_C X cc nL own mn) (F : so_F9 X σ0 none) (d : decode cc pc = .ok (.return_, 1)) : so_ok X nL pc mo_retV := by
  obtain ⟨p, l, e, R, s, m, args, below, meth, c, D, cA, A, E, O, Q, QF⟩ := X
  obtain ⟨hx, hb, hml, hown, hts, hnest, hKK, hvk, hAq, hlk, hmn, hsc⟩ := C
  obtain ⟨hQF, hRc, hRs, hr⟩ := F
  subst hQF
  intro lv st σ K h hK
  match st, h with
  | [], h =>
  intro H locs cells slots ls vs hW hS hA hc hs hl hv
  obtain rfl := so_nil hv
  refine so_endR hW hS hA hc hs hRc hRs h (v := none) trivial ?_
  exact W.vret hx hb hr (fun t ht _ => ⟨rfl, ht⟩) hA.2.2 d hlk
end SOR
