/-! THE MINI MACHINE IS THE MACHINE: relations between its world and the heap; one law an instruction. -/
/-- classes of the world, by slot - 1 -/
def so_cl : List vw_C := [(RX1, TX1, 5), (RX2, TX2, 23), (RX3, TX3, 72), (RX4, TX4, 84), (RX5, TX5, 6)]
def so_ty (k : Nat) : FieldType := match k with | 0 => .int | 1 => .byte | 2 => .boolean | 3 => .char | _ => .long
def so_tys (cA : Nat → ClassId) : List (ClassId × FieldType) := [(cA 0, .int), (cA 1, .byte), (cA 2, .boolean), (cA 3, .char), (cA 4, .long)]
/-- texts, the script, texts' bytes -/
def so_tx (k : Nat) : Prop := k < 1113 ∨ k = 1999 ∨ (2000 ≤ k ∧ k < 2113)
/-- a value of the mini machine, and a value of the machine, in a heap of N cells -/
def so_rr (N : Nat) (σ : mmS) (k a : Nat) (w : Value) : Prop :=
    if k = 0 then w = .null
    else if k < 6 then 0 < mm_n σ k ∧ a = mm_v σ k ∧ w = .ref a
    else if k < 9 then w = .ref a ∨ (k = 8 ∧ w = .null)
    else if 1000 ≤ k then a = mm_v σ k ∧ w = .ref a ∧ so_tx k
    else (w = .null ∨ w = .ref a) ∧ a < N ∧ ∀ j, j < 1000 → 0 < mm_n σ j → a = mm_v σ j → w = .ref a
def so_rv (N : Nat) (σ : mmS) (v : mmV) (w : Value) : Prop := match v with
  | .inl x => w = .int x
  | .inr (.inl x) => w = .long x
  | .inr (.inr r) => so_rr N σ r.1 r.2 w
/-- what kind of field: 0 an int (or byte ..), 1 an array of its own, 2 another reference, 3 not told of -/
def so_fk (n : Nat) : Nat :=
  if n = 102 ∨ n = 103 ∨ n = 300 ∨ n = 302 ∨ n = 405 ∨ n = 406 then 2 else if 500 ≤ n then 3
  else match ((so_cl[n / 100 - 1]?).map fun q => ((q.2.1 (n % 100)).2.2.1).toList.head?) with
    | some (some c) => if c = '[' then 1 else 0
    | _ => 3
def so_fv (N : Nat) (σ : mmS) (n : Nat) (w : Value) : Prop := match so_fk n with
  | 0 => w = .int (mm_f σ n)
  | 1 => (w = .null ∨ w = .ref (mm_v σ n)) ∧ (0 < mm_n σ n → w = .ref (mm_v σ n))
  | 2 => so_rv N σ (.inr (.inr (mm_r σ n))) w
  | _ => True
/-- the cell of a slot -/
def so_at (D : va_G) (cA : Nat → ClassId) (N : Nat) (σ : mmS) (H : Heap) (k : Nat) : Prop :=
  if k < 6 then ∃ (q : vw_C) (V : Nat → Value), so_cl[k - 1]? = some q ∧ 0 < k ∧ t_OB (mm_v σ k) (D.1 (k - 1)) q.2.2 (D.2 (k - 1)) H V ∧ ∀ j, j < q.2.2 → so_fv N σ (100 * k + j) (V j)
  else H[mm_v σ k]? = some (vp_cell (cA (mm_kd k)) (mm_n σ k, if mm_kd k = 4 then .inr (.inl (mm_l σ k)) else .inl (mm_a σ k)))
/-- the world is in the heap; A: what may be written -/
def so_W (D : va_G) (cA : Nat → ClassId) (A : Nat → Prop) (σ : mmS) (H : Heap) : Prop :=
  (∀ k, k < 1000 → 0 < mm_n σ k → so_at D cA H.size σ H k) ∧
  (∀ j k, j < 1000 → k < 1000 → 0 < mm_n σ j → 0 < mm_n σ k → mm_v σ j = mm_v σ k → j = k) ∧
  (∀ k, k < 1000 → mm_v σ k < H.size) ∧ True ∧
  (∀ k, k < 1000 → 0 < mm_n σ k → A (mm_v σ k)) ∧ (∀ k, k < 1000 → mm_n σ k < 2 ^ 31) ∧
  (∀ n j, 99 < n → n < 1000 → mm_n σ n = 0 → j < 1000 → 0 < mm_n σ j → mm_v σ j ≠ mm_v σ n)
/-- what stays: the texts (lengths, bytes, addresses, addresses of their bytes), the script (address, length, ints), the objects that were there -/
abbrev so_E9 : Type := List Nat × List (List Int32) × (Nat → Nat) × (Nat → Nat) × Nat × Nat × (Nat → Int32) × (Nat → Option Nat)
/-- what is castable -/
def so_Cs (C : String) (U : State) : Prop := ∃ c t : ClassId, U.vm.findClass C = some c ∧ U.vm.findClass C = some t ∧ U.vm.assignable c t = true
theorem so_Cs.moved {C : String} {u U : State} (hvm : u.vm.Alike U.vm) (h : so_Cs C u) : so_Cs C U := by
  obtain ⟨c, t, h1, h2, h3⟩ := h
  exact ⟨c, t, by rw [hvm.findClass]; exact h1, by rw [hvm.findClass]; exact h2, by rw [hvm.assignable]; exact h3⟩
theorem so_Cs.of {args : Array Value} {s : State} {C : String} (h : (Cond.castable C C).before args s = true) : so_Cs C s := by
  obtain ⟨c3, c4, hc3, hc4, hasg⟩ := Cond.castable_spec h
  exact ⟨c3, c4, hc3, hc4, hasg⟩
theorem so_Cs.use {args : Array Value} {s : State} {C : String} (h : so_Cs C s) : (Cond.castable C C).before args s = true := by
  obtain ⟨c, t, h1, h2, h3⟩ := h
  simp only [Cond.before, Cond.holds, Cond.value, h1] at h2 ⊢
  cases h2
  simp [h3]
/-- what is declared: constructors without arguments -/
def so_Dc (C : String) (U : State) : Prop := (Cond.declares ⟨C, "<init>", "()V"⟩).before #[] U = true
theorem so_Dc.of {A : Array Value} {C : String} {U : State} (h : (Cond.declares ⟨C, "<init>", "()V"⟩).before A U = true) : so_Dc C U := va_any rfl h
theorem so_Dc.use {A : Array Value} {C : String} {U : State} (h : so_Dc C U) : (Cond.declares ⟨C, "<init>", "()V"⟩).before A U = true := va_any rfl h
theorem so_Dc.moved {C : String} {u U : State} (hvm : u.vm.Alike U.vm) (h : so_Dc C u) : so_Dc C U := by
  have h1 : (Cond.declares ⟨C, "<init>", "()V"⟩).before #[] (u.setVm U.vm) = true := by
    rw [Cond.declares_setVm hvm]
    exact h
  exact va_tabs rfl (by rfl) h1
def so_dl : List String := ["java/lang/RuntimeException", "java/lang/Exception", "java/lang/Throwable"]
def so_ct : List String := ["java/lang/IndexOutOfBoundsException", "java/lang/IllegalArgumentException", "ModuleGateModel$Bad"]
/-- the String constants of the code; the JDK's statics -/
def so_P (E : so_E9) (A : Nat → Prop) (U : State) (H : Heap) : Prop :=
  (∀ z ∈ so_str, vk_R z.1 z.2.1 z.2.2.1 (E.2.2.1 z.2.2.2) U) ∧ va_Z "java/lang/String" "COMPACT_STRINGS" "Z" (.int 1) A U H ∧ va_Zq "jdk/internal/util/Preconditions" "SIOOBE_FORMATTER" "Ljava/util/function/BiFunction;" A U H ∧ (∀ w ∈ so_ct, so_Cs w U) ∧ va_Nc "java/lang/IllegalArgumentException" "java/lang/IndexOutOfBoundsException" U ∧ ∀ w ∈ so_dl, so_Dc w U
theorem so_P.same {E : so_E9} {A : Nat → Prop} {u U : State} {H : Heap} (hv : U.vm = u.vm) (h : so_P E A u H) : so_P E A U H :=
  ⟨fun z hz => vk_R.same hv (h.1 z hz), va_Z.moved (by rw [hv]; exact Vm.Alike.refl _) h.2.1, va_Zq.moved (by rw [hv]; exact Vm.Alike.refl _) h.2.2.1, fun w hw => (h.2.2.2.1 w hw).moved (by rw [hv]; exact Vm.Alike.refl _), h.2.2.2.2.1.moved (by rw [hv]; exact Vm.Alike.refl _), fun w hw => (h.2.2.2.2.2 w hw).moved (by rw [hv]; exact Vm.Alike.refl _)⟩
theorem so_P.warm {E E2 : so_E9} {A B : Nat → Prop} {s U : State} {H H1 : Heap} (hE : E2.2.2.1 = E.2.2.1) (hW : s.WarmedH U.vm) (h : so_P E A s H) (hq : ∀ a : Nat, a < H.size → ¬ A a → H1[a]? = H[a]?) (hAB : ∀ q, B q → A q) : so_P E2 B U H1 :=
  ⟨fun z hz => by rw [hE]; exact vk_R.warm hW (h.1 z hz), va_Z.moved hW.alike ((va_Z.kept h.2.1 hq).narrow hAB), va_Zq.moved hW.alike (va_Zq.narrow (va_Zq.kept h.2.2.1 hq) hAB), fun w hw => (h.2.2.2.1 w hw).moved hW.alike, h.2.2.2.2.1.moved hW.alike, fun w hw => (h.2.2.2.2.2 w hw).moved hW.alike⟩
/-- the texts -/
def so_S (E : so_E9) (σ : mmS) : Prop :=
  (∀ i, i < 113 → (mm_v σ (1000 + i) = E.2.2.1 i ∧ mm_v σ (2000 + i) = E.2.2.2.1 i) ∧ mm_n σ (1000 + i) = E.1.getD i 0 ∧ ∀ j, mm_a σ (1000 + i) j = (E.2.1.getD i []).getD j 0) ∧
  (mm_v σ 1999 = E.2.2.2.2.1 ∧ mm_n σ 1999 = E.2.2.2.2.2.1 ∧ ∀ j, mm_a σ 1999 j = E.2.2.2.2.2.2.1 j) ∧
  ∀ k a, k < 6 → E.2.2.2.2.2.2.2 k = some a → 0 < mm_n σ k ∧ mm_v σ k = a
/-- slots of texts and the script are as they were -/
theorem so_S.on {E : so_E9} {σ u : mmS} (h : so_S E σ) (hn : ∀ k, 1000 ≤ k → mm_n u k = mm_n σ k ∧ mm_v u k = mm_v σ k ∧ mm_a u k = mm_a σ k) (ho : ∀ k, k < 6 → 0 < mm_n σ k → 0 < mm_n u k ∧ mm_v u k = mm_v σ k) : so_S E u := by
  obtain ⟨h1, ⟨h2, h3, h4⟩, h5⟩ := h
  refine ⟨fun i hi => ?_, ⟨?_, ?_, ?_⟩, fun k a hk ha => ?_⟩
  · obtain ⟨a1, a2, a3⟩ := h1 i hi
    obtain ⟨b1, b2, b3⟩ := hn (1000 + i) (by omega)
    obtain ⟨-, b4, -⟩ := hn (2000 + i) (by omega)
    exact ⟨⟨by rw [b2]; exact a1.1, by rw [b4]; exact a1.2⟩, by rw [b1]; exact a2, fun j => by rw [b3]; exact a3 j⟩
  · rw [(hn 1999 (by omega)).2.1]; exact h2
  · rw [(hn 1999 (by omega)).1]; exact h3
  · intro j; rw [(hn 1999 (by omega)).2.2]; exact h4 j
  · obtain ⟨a1, a2⟩ := h5 k a hk ha
    obtain ⟨b1, b2⟩ := ho k hk a1
    exact ⟨b1, b2.trans a2⟩
/-- what a method may write: the cells of the world, and new ones -/
def so_A (σ : mmS) (N : Nat) (q : Nat) : Prop := (∃ k, k < 1000 ∧ 0 < mm_n σ k ∧ mm_v σ k = q) ∨ N ≤ q
/-- values of old places keep their meaning -/
def so_E (N : Nat) (σ u : mmS) : Prop :=
  (∀ k, k < 6 → 0 < mm_n σ k → 0 < mm_n u k ∧ mm_v u k = mm_v σ k) ∧
  (∀ j, j < 1000 → 0 < mm_n u j → mm_v u j < N → ∃ i, i < 1000 ∧ 0 < mm_n σ i ∧ mm_v σ i = mm_v u j) ∧
  (∀ k, 1000 ≤ k → so_tx k → mm_v u k = mm_v σ k)
theorem so_E.rfl' {N : Nat} {σ : mmS} : so_E N σ σ := ⟨fun _ _ h => ⟨h, rfl⟩, fun j h1 h2 _ => ⟨j, h1, h2, rfl⟩, fun _ _ _ => rfl⟩
theorem so_E.trans {N M : Nat} {σ u t : mmS} (h : so_E N σ u) (hNM : N ≤ M) (g : so_E M u t) : so_E N σ t := by
  refine ⟨fun k hk h0 => ?_, fun j hj h0 hN => ?_, fun k hk hk2 => (g.2.2 k hk hk2).trans (h.2.2 k hk hk2)⟩
  · obtain ⟨a1, a2⟩ := h.1 k hk h0
    obtain ⟨b1, b2⟩ := g.1 k hk a1
    exact ⟨b1, b2.trans a2⟩
  · obtain ⟨i, hi, i0, hv⟩ := g.2.1 j hj h0 (Nat.lt_of_lt_of_le hN hNM)
    obtain ⟨i2, h2, h3, h4⟩ := h.2.1 i hi i0 (by rw [hv]; exact hN)
    exact ⟨i2, h2, h3, h4.trans hv⟩
theorem so_rv.on {N M : Nat} {σ u : mmS} {v : mmV} {w : Value} (h : so_rv N σ v w) (hNM : N ≤ M) (hE : so_E N σ u) : so_rv M u v w := by
  rcases v with x | x | ⟨k, a⟩
  · exact h
  · exact h
  · show so_rr M u k a w
    have h : so_rr N σ k a w := h
    unfold so_rr at h ⊢
    by_cases c0 : k = 0
    · rw [if_pos c0] at h ⊢; exact h
    rw [if_neg c0] at h ⊢
    by_cases c1 : k < 6
    · rw [if_pos c1] at h ⊢
      obtain ⟨h1, h2, h3⟩ := h
      obtain ⟨a1, a2⟩ := hE.1 k c1 h1
      exact ⟨a1, by rw [a2]; exact h2, h3⟩
    rw [if_neg c1] at h ⊢
    by_cases c2 : k < 9
    · rw [if_pos c2] at h ⊢; exact h
    rw [if_neg c2] at h ⊢
    by_cases c3 : 1000 ≤ k
    · rw [if_pos c3] at h ⊢
      exact ⟨by rw [hE.2.2 k c3 h.2.2]; exact h.1, h.2⟩
    rw [if_neg c3] at h ⊢
    obtain ⟨h1, h2, h3⟩ := h
    refine ⟨h1, Nat.lt_of_lt_of_le h2 hNM, fun j hj h0 ha => ?_⟩
    obtain ⟨i, i1, i2, i3⟩ := hE.2.1 j hj h0 (by rw [← ha]; exact h2)
    exact h3 i i1 i2 (ha.trans i3.symm)
theorem so_rv.cat {N : Nat} {σ : mmS} {v : mmV} {w : Value} (h : so_rv N σ v w) : w.category = if mm_long v = true then 2 else 1 := by
  rcases v with x | x | ⟨k, a⟩
  · rw [show w = .int x from h]; rfl
  · rw [show w = .long x from h]; rfl
  · have h : so_rr N σ k a w := h
    have : w = .null ∨ ∃ b, w = .ref b := by
      unfold so_rr at h
      split at h
      · exact Or.inl h
      split at h
      · exact Or.inr ⟨_, h.2.2⟩
      split at h
      · rcases h with h | h
        · exact Or.inr ⟨_, h⟩
        · exact Or.inl h.2
      split at h
      · exact Or.inr ⟨_, h.2.1⟩
      · rcases h.1 with e | e
        · exact Or.inl e
        · exact Or.inr ⟨_, e⟩
    rcases this with e | ⟨b, e⟩ <;> rw [e] <;> rfl
theorem so_rv.ref {N : Nat} {σ : mmS} {r : Nat × Nat} {w : Value} (h : so_rv N σ (.inr (.inr r)) w) : w = .null ∨ w = .ref r.2 := by
  obtain ⟨k, a⟩ := r
  have h : so_rr N σ k a w := h
  unfold so_rr at h
  split at h
  · exact Or.inl h
  split at h
  · exact Or.inr h.2.2
  split at h
  · rcases h with h | h
    · exact Or.inr h
    · exact Or.inl h.2
  split at h
  · exact Or.inr h.2.1
  · exact h.1
/-- operand stacks -/
def so_st (N : Nat) (σ : mmS) : List mmV → List Value → Prop
  | [], [] => True
  | v :: t, w :: r => so_rv N σ v w ∧ so_st N σ t r
  | _, _ => False
theorem so_st.on {N M : Nat} {σ u : mmS} (hNM : N ≤ M) (hE : so_E N σ u) : ∀ {vs : List mmV} {ws : List Value}, so_st N σ vs ws → so_st M u vs ws
  | [], [], _ => trivial
  | _ :: _, _ :: _, h => ⟨h.1.on hNM hE, so_st.on hNM hE h.2⟩
/-- locals -/
def so_lv (N : Nat) (σ : mmS) (nL : Nat) (lv : List (Option mmV)) (ls : Array Slot) : Prop :=
  ls.size = nL ∧ lv_wf ls ∧ lv.length = nL ∧ ∀ i v, mm_lk lv i = some v → ∃ w, so_rv N σ v w ∧ ls[i]? = some (.val w)
theorem so_lv.on {N M : Nat} {σ u : mmS} {nL : Nat} {lv : List (Option mmV)} {ls : Array Slot} (h : so_lv N σ nL lv ls) (hNM : N ≤ M) (hE : so_E N σ u) : so_lv M u nL lv ls := by
  refine ⟨h.1, h.2.1, h.2.2.1, fun i v hv => ?_⟩
  obtain ⟨w, h1, h2⟩ := h.2.2.2 i v hv
  exact ⟨w, h1.on hNM hE, h2⟩
/-- all that a walk stands in -/
abbrev so_X : Type := Program × Launch × Env × Room × State × MethodId × Array Value × List Frame × Method × Code × va_G × (Nat → ClassId) × (Nat → Prop) × so_E9 × mmCall × mmQ × (State → Prop)
/-- a point of the walk -/
def so_I (X : so_X) (nL : Nat) : mmK := match X with
  | (p, l, e, R, s, m, args, below, meth, c, D, cA, A, E, _, _, QF) => fun k σ =>
    ∀ (H : Heap) (locs : List Loc) (cells slots : Nat) (ls : Array Slot) (vs : List Value), so_W D cA A σ H → so_S E σ → va_S A s.heap H locs → cells + mm_bc σ ≤ R.cells → slots + mm_bs σ ≤ R.slots →
      so_lv H.size σ nL k.2.1 ls → so_st H.size σ k.2.2 vs → W p l e R s m args below meth c H locs cells slots QF (F0 m k.1 ls vs)
/-- an instruction at a place is sound -/
def so_ok (X : so_X) (nL pc : Nat) (op : mmOp) : Prop := match X with
  | (_, _, _, _, _, _, _, _, _, _, _, _, _, _, O, Q, _) => ∀ lv st σ K, op O (pc, lv, st) σ K Q → (∀ c' u, K c' u → so_I X nL c' u) → so_I X nL (pc, lv, st) σ
def so_tab (X : so_X) (nL : Nat) (P : mmM) : Prop := ∀ pc, so_ok X nL pc (P pc)
theorem so_bad {X : so_X} {nL pc : Nat} : so_ok X nL pc mo_bad := by
  obtain ⟨p, l, e, R, s, m, args, below, meth, c, D, cA, A, E, O, Q, QF⟩ := X
  intro lv st σ K h
  exact h.elim
theorem so_leaf {X : so_X} {nL k : Nat} {op : mmOp} (h : so_ok X nL k op) : so_tab X nL (fun pc => bif Nat.beq pc k then op else mo_bad) := by
  intro pc
  show so_ok X nL pc (bif Nat.beq pc k then op else mo_bad)
  cases hb : Nat.beq pc k with
  | true => rw [Nat.eq_of_beq_eq_true hb]; exact h
  | false => exact so_bad
theorem so_bif {X : so_X} {nL k : Nat} {P1 P2 : mmM} (h1 : so_tab X nL P1) (h2 : so_tab X nL P2) : so_tab X nL (fun pc => bif Nat.blt pc k then P1 pc else P2 pc) := by
  intro pc
  show so_ok X nL pc (bif Nat.blt pc k then P1 pc else P2 pc)
  cases hb : Nat.blt pc k with
  | true => exact h1 pc
  | false => exact h2 pc
