/-! contracts and calls -/
def so_rm (d b n : Nat) : Room := { frames := d + 8, cells := b, slots := n, locals := 40 * d + 512 }
/-- the world at a method's start -/
def so_U (D : va_G) (cA : Nat → ClassId) (E : so_E9) (A : Nat → Prop) (σ : mmS) (U : State) : Prop :=
  so_W D cA A σ U.heap ∧ so_S E σ ∧ (∀ w ∈ so_nest, va_Nw w U) ∧ va_K D so_cl (so_tys cA) U ∧ vk_S 113 E.1 E.2.1 E.2.2.1 E.2.2.2.1 A U U.heap ∧ (∀ q : Nat, U.heap.size ≤ q → A q) ∧
  ¬ A E.2.2.2.2.1 ∧ va_X E.2.2.2.2.1 E.2.2.2.2.2.1 E.2.2.2.2.2.2.1 U U.heap ∧ vx_Zq Bundle.tN "UNASSIGNED_STACK" Bundle.steD A U U.heap ∧ vx_Zq Bundle.tN "SUPPRESSED_SENTINEL" Bundle.listD A U U.heap ∧ so_P E A U U.heap
def so_Pre (D : va_G) (cA : Nat → ClassId) (E : so_E9) (σ : mmS) (vs : List Value) (N : Nat) : Array Value → State → Prop := fun a U => a = vs.toArray ∧ U.heap.size = N ∧ so_U D cA E (so_A σ N) σ U
theorem so_U.same {D : va_G} {cA : Nat → ClassId} {E : so_E9} {A : Nat → Prop} {σ : mmS} {U V : State} (hv : U.vm = V.vm) (hh : V.heap = U.heap) (h : so_U D cA E A σ U) : so_U D cA E A σ V := by
  obtain ⟨h1, h2, h3, h4, h5, h6, h7, h8, h9, h10, h11⟩ := h
  have hal : U.vm.Alike V.vm := by rw [hv]; exact Vm.Alike.refl _
  refine ⟨by rw [hh]; exact h1, h2, fun w hw => (h3 w hw).same (so_nest_tabs w hw) hv, h4.moved hal, by rw [hh]; exact h5.moved hal, by rw [hh]; exact h6, h7, by rw [hh]; exact h8.moved hal, by rw [hh]; exact h9.moved hal, by rw [hh]; exact h10.moved hal, by rw [hh]; exact h11.same hv.symm⟩
theorem so_Pre.blind {D : va_G} {cA : Nat → ClassId} {E : so_E9} {σ : mmS} {vs : List Value} {N : Nat} : FrameBlind (so_Pre D cA E σ vs N) := fun a U g mk h => ⟨h.1, h.2.1, so_U.same (U := U) (V := U.calling g mk a) rfl rfl h.2.2⟩
/-- a contract -/
def so_Met (l : Launch) (y : MethodName) (w0 : Cond) (d : Nat) (as : List mmV) (σ : mmS) (Q : mmQ) : Prop :=
  ∀ (D : va_G) (cA : Nat → ClassId) (E : so_E9) (N : Nat) (vs : List Value), so_st N σ as vs →
    MetFree l y (headSpec (w0 :: lw_all) (so_rm d (mm_bc σ) (mm_bs σ))) (so_Pre D cA E σ vs N) (fun _ _ _ _ _ => True) (so_Qd (so_R1 D cA E (so_A σ N) σ N Q) (so_X1 D cA E (so_A σ N) σ N Q) (so_A σ N))
/-- the objects that are there now are told of -/
def so_now (E : so_E9) (σ : mmS) : so_E9 := (E.1, E.2.1, E.2.2.1, E.2.2.2.1, E.2.2.2.2.1, E.2.2.2.2.2.1, E.2.2.2.2.2.2.1, fun k => if 0 < mm_n σ k then some (mm_v σ k) else none)
theorem so_now.S {E : so_E9} {σ : mmS} (h : so_S E σ) : so_S (so_now E σ) σ := by
  refine ⟨h.1, h.2.1, fun k a hk ha => ?_⟩
  have ha : (if 0 < mm_n σ k then some (mm_v σ k) else none) = some a := ha
  by_cases c : 0 < mm_n σ k
  · rw [if_pos c] at ha
    exact ⟨c, Option.some.inj ha⟩
  · rw [if_neg c] at ha; cases ha
theorem so_now.back {E : so_E9} {σ u : mmS} (h : so_S E σ) (g : so_S (so_now E σ) u) : so_S E u := by
  refine ⟨g.1, g.2.1, fun k a hk ha => ?_⟩
  obtain ⟨h1, h2⟩ := h.2.2 k a hk ha
  have := g.2.2 k (mm_v σ k) hk (show (if 0 < mm_n σ k then some (mm_v σ k) else none) = _ from if_pos h1)
  exact ⟨this.1, this.2.trans h2⟩
theorem so_now.E {D : va_G} {cA : Nat → ClassId} {E : so_E9} {σ u : mmS} {N : Nat} {H : Heap} (h : so_S E σ) (g : so_S (so_now E σ) u) (hW : so_W D cA (so_A σ N) u H) : so_E N σ u := by
  refine ⟨fun k hk h0 => g.2.2 k (mm_v σ k) hk (show (if 0 < mm_n σ k then some (mm_v σ k) else none) = _ from if_pos h0), fun j hj h0 hN => ?_, fun k hk hk2 => ?_⟩
  · rcases hW.2.2.2.2.1 j hj h0 with ⟨k, k1, k3, k4⟩ | h
    · exact ⟨k, k1, k3, k4⟩
    · omega
  · rcases hk2 with hk2 | rfl | hk2
    · have e : k = 1000 + (k - 1000) := by omega
      have a1 := (h.1 (k - 1000) (by omega)).1
      have a2 := (g.1 (k - 1000) (by omega)).1
      rw [← e] at a1 a2
      rw [a2.1, a1.1]
      rfl
    · rw [g.2.1.1, h.2.1.1]; rfl
    · have e : k = 2000 + (k - 2000) := by omega
      have a1 := (h.1 (k - 2000) (by omega)).1
      have a2 := (g.1 (k - 2000) (by omega)).1
      rw [e, a2.2, a1.2]
      rfl
/-- a world seen by who may write more -/
theorem so_W.weak {D : va_G} {cA : Nat → ClassId} {A B : Nat → Prop} {u : mmS} {H : Heap} (h : so_W D cA A u H) (hAB : ∀ q, A q → B q) : so_W D cA B u H :=
  ⟨h.1, h.2.1, h.2.2.1, trivial, fun k h1 h2 => hAB _ (h.2.2.2.2.1 k h1 h2), h.2.2.2.2.2⟩
theorem so_A.sub {D : va_G} {cA : Nat → ClassId} {A : Nat → Prop} {σ : mmS} {H H0 : Heap} {locs : List Loc} (hW : so_W D cA A σ H) (hA : va_S A H0 H locs) (hAq : ∀ q : Nat, H0.size ≤ q → A q) : ∀ q, so_A σ H.size q → A q := by
  rintro q (⟨k, k1, k2, rfl⟩ | h)
  · exact hW.2.2.2.2.1 k k1 k2
  · exact hAq q (Nat.le_trans hA.1 h)
section SOC
variable {p : Program} {l : Launch} {e : Env} {R : Room} {s : State} {m : MethodId} {args : Array Value} {below : List Frame} {meth : Method} {c : Code} {H : Heap} {locs : List Loc} {cells slots : Nat} {Q : State → Prop}
/-- a call that has been made: it comes back, or throws -/
def so_Calls (p : Program) (l : Launch) (e : Env) (R : Room) (s : State) (m : MethodId) (args : Array Value) (below : List Frame) (meth : Method) (c : Code) (H : Heap) (locs : List Loc) (cells slots : Nat) (g : JFrame) (rest : List Value) (a : Array Value) (PR : State → Option Value → State → Nat → Nat → Prop) (PX : String → State → Addr → State → Nat → Nat → Prop) (free : Addr → Prop) : Prop :=
  ∀ T : State, T.heap = H → Stand p l e R s m args below meth c T locs cells slots →
    (∃ (v : Option Value) (vm₁ : Vm) (B : Pt), s.WarmedH vm₁ ∧ Stand p l e R s m args below meth c B.U B.locs B.cells B.slots ∧ so_PR PR free ⟨T.setVm vm₁, locs, cells, slots⟩ a v B ∧
      ∀ target, Steps p.tables e below (B.U.setTop { g with pc := g.pc + 3, stack := v.toList ++ rest }) target → Steps p.tables e below (T.setTop g) target) ∨
    (∃ (q : Addr) (vm₁ : Vm) (B : Pt), s.WarmedH vm₁ ∧ Stand p l e R s m args below meth c B.U B.locs B.cells B.slots ∧ so_PX PX free ⟨T.setVm vm₁, locs, cells, slots⟩ a q B ∧
      Steps p.tables e below (T.setTop g) ((B.U.setTop { g with stack := rest }).pushFrame (.throwing q)))
/-- what is known behind a call -/
def so_Aft (D : va_G) (cA : Nat → ClassId) (E : so_E9) (A : Nat → Prop) (s : State) (R : Room) (σ u : mmS) (H H1 : Heap) (locs1 : List Loc) (cells1 slots1 : Nat) : Prop :=
  so_W D cA A u H1 ∧ so_S E u ∧ so_E H.size σ u ∧ va_S A s.heap H1 locs1 ∧ cells1 + mm_bc u ≤ R.cells ∧ slots1 + mm_bs u ≤ R.slots ∧ H.size ≤ H1.size
theorem so_aft {D : va_G} {cA : Nat → ClassId} {E : so_E9} {A : Nat → Prop} {σ u : mmS} {L : List Loc} {k n : Nat} {st t : State} (hW : so_W D cA A σ H) (hS : so_S E σ) (hA : va_S A s.heap H locs) (hAq : ∀ q : Nat, s.heap.size ≤ q → A q) (hc : cells + mm_bc σ ≤ R.cells) (hs : slots + mm_bs σ ≤ R.slots)
    (hst : st.heap = H) (hT : so_T D cA (so_now E σ) (so_A σ H.size) σ H.size u st t k n) (hL : ∀ q ∈ L, so_A σ H.size q.base) : so_Aft D cA E A s R σ u H t.heap (locs ++ L) (cells + k) (slots + n) := by
  obtain ⟨t1, t2, t3, t4, t5, t6⟩ := hT
  have hsub := so_A.sub hW hA hAq
  refine ⟨t1.weak hsub, so_now.back hS t2, so_now.E hS t2 t1, ⟨Nat.le_trans hA.1 t5, fun q q1 q2 => ?_, fun q hq => ?_⟩, by omega, by omega, t5⟩
  · rw [t6 q (Nat.lt_of_lt_of_le q1 hA.1) (fun z => q2 (hsub q z)), hst]
    exact hA.2.1 q q1 q2
  · rcases List.mem_append.mp hq with h | h
    · exact hA.2.2 q h
    · exact hsub _ (hL q h)
theorem so_go {D : va_G} {cA : Nat → ClassId} {E : so_E9} {A : Nat → Prop} {σ : mmS} {Qy : mmQ} {pc : Nat} {ls : Array Slot} {st0 rest : List Value} {a : Array Value}
    (hW : so_W D cA A σ H) (hS : so_S E σ) (hA : va_S A s.heap H locs) (hAq : ∀ q : Nat, s.heap.size ≤ q → A q) (hc : cells + mm_bc σ ≤ R.cells) (hs : slots + mm_bs σ ≤ R.slots)
    (hC : so_Calls p l e R s m args below meth c H locs cells slots (F0 m pc ls st0) rest a (so_R1 D cA (so_now E σ) (so_A σ H.size) σ H.size Qy) (so_X1 D cA (so_now E σ) (so_A σ H.size) σ H.size Qy) (so_A σ H.size))
    (kr : ∀ (ov : Option mmV) (v : Option Value) (u : mmS) (H1 : Heap) (locs1 : List Loc) (cells1 slots1 : Nat), Qy (.inl ov) u → so_rvo H1.size u ov v → so_Aft D cA E A s R σ u H H1 locs1 cells1 slots1 → W p l e R s m args below meth c H1 locs1 cells1 slots1 Q (F0 m (pc + 3) ls (v.toList ++ rest)))
    (kx : ∀ (e9 : Nat) (q : Addr) (ce : Cell) (u : mmS) (H1 : Heap) (locs1 : List Loc) (cells1 slots1 : Nat), Qy (.inr e9) u → 4 < e9 → e9 < 8 → (e9 = 5 → 0 < mm_n u 5 ∧ q = mm_v u 5) → H1[q]? = some ce → ce.vm = .none → s.vm.findClass (so_xn e9) = some ce.cls → so_Aft D cA E A s R σ u H H1 locs1 cells1 slots1 → vx_W p l e R s m args below meth c H1 locs1 cells1 slots1 Q (F0 m pc ls rest) q) :
    W p l e R s m args below meth c H locs cells slots Q (F0 m pc ls st0) := by
  intro T hT X
  rcases hC T hT X with ⟨v, vm₁, B, hw, X', ⟨g, mk, t, L, k, n, e1, e2, ⟨ov, u, q1, q2, q3⟩, e4, e5, e6, e7⟩, st⟩ | ⟨q, vm₁, B, hw, X', ⟨g, mk, t, L, E', ce, k, n, e1, e2, ⟨e9, u, q1, q2, q3, q4, q5, q6⟩, x1, x2, x3, e4, e5, e6, e7⟩, st⟩
  · obtain ⟨U', l2, c2, s2⟩ := B
    dsimp only [Pt.U, Pt.locs, Pt.cells, Pt.slots] at X' e1 e2 e4 e6 e7 st
    subst e4; subst e6; subst e7
    have haft := so_aft (R := R) (L := L) hW hS hA hAq hc hs (st := (T.setVm vm₁).calling g mk a) hT q3 e5
    rw [← e1] at haft q2
    obtain ⟨t2, a1, b1⟩ := kr ov v u U'.heap _ _ _ q1 q2 haft U' rfl X'
    exact ⟨t2, st t2 a1, b1⟩
  · obtain ⟨U', l2, c2, s2⟩ := B
    dsimp only [Pt.U, Pt.locs, Pt.cells, Pt.slots] at X' e1 e2 e4 e6 e7 st x3
    subst e4; subst e6; subst e7
    have haft := so_aft (R := R) (L := L) hW hS hA hAq hc hs (st := (T.setVm vm₁).calling g mk a) hT q6 e5
    rw [← e1] at haft x1
    subst q2
    obtain ⟨t2, a1, b1⟩ := kx e9 q ce u U'.heap _ _ _ q1 q3 q4 q5 x1 x2 (vx_cls hw x3) haft U' rfl X'
    exact ⟨t2, st.trans a1, b1⟩
/-- thrown out of the method -/
theorem so_out {D : va_G} {cA : Nat → ClassId} {E : so_E9} {A : Nat → Prop} {σ0 u : mmS} {Qy : mmQ} {pc : Nat} {ls : Array Slot} {rest : List Value} {e9 : Nat} {q : Addr} {ce : Cell} (hout : ∀ x ∈ c.exceptionTable.toList, covers x pc = false) (hlocks : meth.locks = false)
    (hQ : Qy (.inr e9) u) (h4 : 4 < e9) (h8 : e9 < 8) (h5 : e9 = 5 → 0 < mm_n u 5 ∧ q = mm_v u 5) (hcell : H[q]? = some ce) (hv : ce.vm = .none) (hcl : s.vm.findClass (so_xn e9) = some ce.cls)
    (hW : so_W D cA A u H) (hS : so_S E u) (hA : va_S A s.heap H locs) (hc : cells + mm_bc u ≤ R.cells) (hs : slots + mm_bs u ≤ R.slots) (hRc : R.cells = mm_bc σ0) (hRs : R.slots = mm_bs σ0) :
    vx_W p l e R s m args below meth c H locs cells slots (so_MQ below D cA E A σ0 Qy args s) (F0 m pc ls rest) q := by
  intro T hT X
  obtain ⟨st1, hrun, hend, hW9, hsm⟩ := X.leaveThrown q (g := F0 m pc ls rest) rfl rfl rfl hout hlocks
  have hh : (T.setFrames (.throwing q :: below)).heap = H := hT
  refine ⟨_, st1, .threw q, hrun, hend, Or.inr ⟨q, cells, slots, locs, so_xn e9, ce, rfl, ⟨e9, u, hQ, rfl, h4, h8, h5, by rw [hh]; exact hW, hS, by omega, by omega, by rw [hh]; exact hA.1, fun z z1 z2 => ?_⟩, by rw [hh]; exact hcell, hv, hcl, hW9, hsm, hA.2.2⟩⟩
  rw [hh]
  exact hA.2.1 z z1 z2
end SOC
/-! arguments -/
theorem mm_take_spec : ∀ {n : Nat} {st acc as r : List mmV}, mm_take n st acc = some (as, r) → ∃ xs, st = xs ++ r ∧ xs.length = n ∧ as = xs.reverse ++ acc
  | 0, st, acc, as, r, h => by
    simp only [mm_take, Option.some.injEq, Prod.mk.injEq] at h
    exact ⟨[], h.2, rfl, h.1.symm⟩
  | n + 1, [], acc, as, r, h => by simp [mm_take] at h
  | n + 1, v :: st, acc, as, r, h => by
    obtain ⟨xs, h1, h2, h3⟩ := mm_take_spec (n := n) (st := st) h
    exact ⟨v :: xs, by rw [h1]; rfl, by simp [h2], by rw [h3]; simp⟩
theorem so_st.split {N : Nat} {σ : mmS} : ∀ {xs r : List mmV} {ws : List Value}, so_st N σ (xs ++ r) ws → ∃ w1 w2, ws = w1 ++ w2 ∧ so_st N σ xs w1 ∧ so_st N σ r w2
  | [], r, ws, h => ⟨[], ws, rfl, trivial, h⟩
  | x :: xs, r, [], h => h.elim
  | x :: xs, r, w :: ws, h => by
    obtain ⟨w1, w2, h1, h2, h3⟩ := so_st.split (xs := xs) h.2
    exact ⟨w :: w1, w2, by rw [h1]; rfl, ⟨h.1, h2⟩, h3⟩
theorem so_st.app {N : Nat} {σ : mmS} : ∀ {xs r : List mmV} {w1 w2 : List Value}, so_st N σ xs w1 → so_st N σ r w2 → so_st N σ (xs ++ r) (w1 ++ w2)
  | [], _, [], _, _, g => g
  | _ :: _, _, _ :: _, _, h, g => ⟨h.1, so_st.app h.2 g⟩
theorem so_st.rev {N : Nat} {σ : mmS} : ∀ {xs : List mmV} {w1 : List Value}, so_st N σ xs w1 → so_st N σ xs.reverse w1.reverse
  | [], [], _ => trivial
  | x :: xs, w :: ws, h => by
    rw [List.reverse_cons, List.reverse_cons]
    exact so_st.app (so_st.rev h.2) ⟨h.1, trivial⟩
theorem so_st.len {N : Nat} {σ : mmS} : ∀ {xs : List mmV} {w1 : List Value}, so_st N σ xs w1 → w1.length = xs.length
  | [], [], _ => rfl
  | _ :: _, _ :: _, h => by rw [List.length_cons, List.length_cons, so_st.len h.2]
theorem so_st.wt {N : Nat} {σ : mmS} : ∀ {xs : List mmV} {w1 : List Value}, so_st N σ xs w1 → (w1.map fun v => v.category).sum = mm_wt xs
  | [], [], _ => rfl
  | x :: xs, w :: ws, h => by
    rw [List.map_cons, List.sum_cons, so_st.wt h.2, h.1.cat]
    rcases x with x | x | x <;> rfl
/-- the world at the start of a callee -/
theorem so_W.self {D : va_G} {cA : Nat → ClassId} {A : Nat → Prop} {σ : mmS} {H : Heap} {N : Nat} (h : so_W D cA A σ H) : so_W D cA (so_A σ N) σ H :=
  ⟨h.1, h.2.1, h.2.2.1, trivial, fun k h1 h2 => Or.inl ⟨k, h1, h2, rfl⟩, h.2.2.2.2.2⟩
theorem so_begin {X : so_X} {cc : ByteArray} {nL : Nat} {own mn : String} (C : so_C X cc nL own mn) {H : Heap} {locs : List Loc} {σ : mmS} {U : State}
    (hW : so_W X.2.2.2.2.2.2.2.2.2.2.1 X.2.2.2.2.2.2.2.2.2.2.2.1 X.2.2.2.2.2.2.2.2.2.2.2.2.1 σ H) (hS : so_S X.2.2.2.2.2.2.2.2.2.2.2.2.2.1 σ) (hA : va_S X.2.2.2.2.2.2.2.2.2.2.2.2.1 X.2.2.2.2.1.heap H locs) (hU : U.heap = H) (hw : X.2.2.2.2.1.WarmedH U.vm) :
    so_U X.2.2.2.2.2.2.2.2.2.2.1 X.2.2.2.2.2.2.2.2.2.2.2.1 (so_now X.2.2.2.2.2.2.2.2.2.2.2.2.2.1 σ) (so_A σ H.size) σ U := by
  obtain ⟨p, l, e, R, s, m, args, below, meth, c, D, cA, A, E, O, Q, QF⟩ := X
  obtain ⟨hx, hb, hml, hown, hts, hnest, hKK, hvk, hAq, hlk, hmn, hscA, hsc, hst, hz1, hz2, hzP⟩ := C
  have hsub := so_A.sub hW hA hAq
  refine ⟨by rw [hU]; exact hW.self, so_now.S hS, fun w h => so_nest_warm hw w h (hnest w h), hKK.moved hw.alike, ?_, fun q h => Or.inr (by rw [← hU]; exact h), fun z => hscA (hsub _ z), ?_, ?_, ?_, ?_⟩
  · rw [hU]
    exact ((hvk.kept hA.2.1).narrow hsub).moved hw.alike
  · rw [hU]
    obtain ⟨scr, g1, g2⟩ := id hsc
    exact (hsc.kept (hA.2.1 _ (Array.getElem?_eq_some_iff.mp g1).1 hscA)).moved hw.alike
  · rw [hU]
    exact ((hz1.kept hA.2.1).narrow hsub).moved hw.alike
  · rw [hU]
    exact ((hz2.kept hA.2.1).narrow hsub).moved hw.alike
  · rw [hU]
    exact hzP.warm rfl hw hA.2.1 hsub
