/-! call sites -/
/-- what is known of a callee: whenever the mini machine's call comes to Q, its contract holds -/
def so_Cal (l : Launch) (O : mmCall) (y : Nat) (ym : MethodName) (w0 : Cond) (d : Nat) : Prop := ∀ (as : List mmV) (σ : mmS) (Q' : mmQ), O y as σ Q' → so_Met l ym w0 d as σ Q'
/-- a site at which the method y is called with n values: in any state the call comes back or throws, as its contract says -/
def so_Site (X : so_X) (nL pc y n : Nat) (st : Bool) : Prop := match X with
  | (p, l, e, R, s, m, args, below, meth, c, D, cA, A, E, O, _, _) =>
    ∀ (σ : mmS) (as : List mmV) (was w2 : List Value) (H : Heap) (locs : List Loc) (cells slots : Nat) (ls : Array Slot) (Q' : mmQ), O y as σ Q' → (st || mm_rc y as) = true → as.length = n → so_st H.size σ as was → (w2.map fun v => v.category).sum ≤ 8 →
      so_W D cA A σ H → so_S E σ → va_S A s.heap H locs → cells + mm_bc σ ≤ R.cells → slots + mm_bs σ ≤ R.slots → ls.size = nL →
      so_Calls p l e R s m args below meth c H locs cells slots (F0 m pc ls (was.reverse ++ w2)) w2 was.toArray (so_R1 D cA (so_now E σ) (so_A σ H.size) σ H.size Q') (so_X1 D cA (so_now E σ) (so_A σ H.size) σ H.size Q') (so_A σ H.size)
/-- the receiver -/
theorem so_recv {D : va_G} {cA : Nat → ClassId} {A : Nat → Prop} {σ : mmS} {H : Heap} {s : State} (hK : va_K D so_cl (so_tys cA) s) (hW : so_W D cA A σ H) {k a : Nat} {w : Value} {Cn : String} {T : u_T} {N : Nat} (hc : so_cl[k - 1]? = some (Cn, T, N)) (h0 : 0 < k) (hk : k < 6) (h : so_rv H.size σ (.inr (.inr (k, a))) w) :
    w = .ref a ∧ ∃ cell : Cell, H[a]? = some cell ∧ cell.vm.isStatics = false ∧ s.vm.findClass Cn = some cell.cls := by
  obtain ⟨h1, h2, h3⟩ := h.obj hk h0
  obtain ⟨q, V, g1, -, ⟨cell, q1, q2, q3, q4⟩, g4⟩ := hW.obj hk h1
  obtain ⟨-, hfc, -⟩ := hK.1 (k - 1) _ hc
  exact ⟨h3, cell, by rw [h2]; exact q1, by rw [q3]; rfl, by rw [q2]; exact hfc⟩
/-- which slots are receivers of a method -/
def so_rcs (y k : Nat) : Prop := (y < 6000 ∧ k = y / 1000) ∨ (¬ y < 6000 ∧ y < 14000 ∧ k = 5) ∨ (14000 ≤ y ∧ 1000 ≤ k ∧ k < 1113)
theorem mm_rc_spec {y k a : Nat} {as : List mmV} (h : mm_rc y (.inr (.inr (k, a)) :: as) = true) : so_rcs y k := by
  have h : (bif Nat.blt y 6000 then Nat.beq k (y / 1000) else bif Nat.blt y 14000 then Nat.beq k 5 else Nat.ble 1000 k && Nat.blt k 1113) = true := h
  cases h1 : Nat.blt y 6000 with
  | true => rw [h1] at h; exact Or.inl ⟨Nat.blt_eq.mp h1, Nat.eq_of_beq_eq_true h⟩
  | false =>
    have n1 : ¬ y < 6000 := fun z => by rw [Nat.blt_eq.mpr z] at h1; cases h1
    rw [h1] at h
    cases h2 : Nat.blt y 14000 with
    | true => rw [h2] at h; exact Or.inr (Or.inl ⟨n1, Nat.blt_eq.mp h2, Nat.eq_of_beq_eq_true h⟩)
    | false =>
      have n2 : ¬ y < 14000 := fun z => by rw [Nat.blt_eq.mpr z] at h2; cases h2
      rw [h2] at h
      obtain ⟨a1, a2⟩ := Bool.and_eq_true_iff.mp (show (Nat.ble 1000 k && Nat.blt k 1113) = true from h)
      exact Or.inr (Or.inr ⟨by omega, Nat.le_of_ble_eq_true a1, Nat.blt_eq.mp a2⟩)
/-- a receiver of y: an object of the class Cn; a receiver that is an object -/
def so_Rc (X : so_X) (y : Nat) (Cn : String) : Prop := ∀ (σ : mmS) (k a : Nat) (w : Value) {H : Heap} {locs : List Loc}, so_rcs y k → so_W X.2.2.2.2.2.2.2.2.2.2.1 X.2.2.2.2.2.2.2.2.2.2.2.1 X.2.2.2.2.2.2.2.2.2.2.2.2.1 σ H → so_S X.2.2.2.2.2.2.2.2.2.2.2.2.2.1 σ → va_S X.2.2.2.2.2.2.2.2.2.2.2.2.1 X.2.2.2.2.1.heap H locs → so_rv H.size σ (.inr (.inr (k, a))) w →
    w = .ref a ∧ ∃ cell : Cell, H[a]? = some cell ∧ cell.vm.isStatics = false ∧ X.2.2.2.2.1.vm.findClass Cn = some cell.cls
def so_RcI (X : so_X) (y : Nat) : Prop := ∀ (σ : mmS) (k a : Nat) (w : Value) {H : Heap}, so_rcs y k → so_W X.2.2.2.2.2.2.2.2.2.2.1 X.2.2.2.2.2.2.2.2.2.2.2.1 X.2.2.2.2.2.2.2.2.2.2.2.2.1 σ H → so_rv H.size σ (.inr (.inr (k, a))) w → w = .ref a
theorem so_Rc.own {X : so_X} {cc : ByteArray} {nL : Nat} {own mn : String} (C : so_C X cc nL own mn) {y : Nat} {Cn : String} {T : u_T} {N : Nat} (hc : so_cl[y / 1000 - 1]? = some (Cn, T, N)) (h0 : 0 < y / 1000) (h6 : y < 6000) : so_Rc X y Cn := by
  obtain ⟨p, l, e, R, s, m, args, below, meth, c, D, cA, A, E, O, Q, QF⟩ := X
  obtain ⟨hx, hb, hml, hown, hts, hnest, hKK, -⟩ := C
  intro σ k a w H locs hk hW hS hA h
  rcases hk with ⟨_, rfl⟩ | ⟨h1, _⟩ | ⟨h1, _⟩
  · exact so_recv hKK hW hc h0 (by omega) h
  · omega
  · omega
theorem so_Rc.str {X : so_X} {cc : ByteArray} {nL : Nat} {own mn : String} (C : so_C X cc nL own mn) {y : Nat} (h6 : 14000 ≤ y) : so_Rc X y "java/lang/String" := by
  obtain ⟨p, l, e, R, s, m, args, below, meth, c, D, cA, A, E, O, Q, QF⟩ := X
  obtain ⟨hx, hb, hml, hown, hts, hnest, hKK, hvk, -⟩ := C
  intro σ k a w H locs hk hW hS hA h
  rcases hk with ⟨h1, _⟩ | ⟨h1, h2, _⟩ | ⟨h1, h2, h3⟩
  · omega
  · omega
  · have h : so_rr H.size σ k a w := h
    unfold so_rr at h
    rw [if_neg (by omega), if_neg (by omega), if_neg (by omega), if_pos h2] at h
    obtain ⟨r1, r2, -⟩ := h
    have g := (hS.1 (k - 1000) (by omega)).1.1
    rw [show 1000 + (k - 1000) = k by omega] at g
    obtain ⟨cell, c1, c2, c3⟩ := vk_recv hvk (i := k - 1000) (by omega) hA
    exact ⟨r2, cell, by rw [r1, g]; exact c1, c2, c3⟩
theorem so_RcI.all {X : so_X} {y : Nat} (h0 : 999 < y) (h6 : y < 14000) : so_RcI X y := by
  intro σ k a w H hk hW h
  have hk6 : 0 < k ∧ k < 6 := by
    rcases hk with ⟨h1, h2⟩ | ⟨h1, h2, h3⟩ | ⟨h1, h2, h3⟩
    · omega
    · omega
    · omega
  exact (h.obj hk6.2 hk6.1).2.2
section SOS
variable {X : so_X} {cc : ByteArray} {nL pc : Nat} {own mn : String} {y n d index maxL : Nat} {ym : MethodName} {bytes : ByteArray} {ret : Option FieldType}

theorem so_sV (C : so_C X cc nL own mn) (hcal : so_Cal X.2.1 X.2.2.2.2.2.2.2.2.2.2.2.2.2.2.1 y ym (Cond.code ym bytes maxL ret) d) (hR : d + 9 ≤ X.2.2.2.1.frames ∧ 8 + (maxL + 11) + (40 * d + 512) ≤ X.2.2.2.1.locals) (hd : (ym.cls ≠ "java/lang/invoke/MethodHandle" ∧ ym.cls ≠ "java/lang/invoke/VarHandle") ∧ (parseMethodDescriptor ym.desc).map (fun d => d.parameters.length) = some (n - 1))
    (d0 : decode cc pc = .ok (.invokevirtual index, 3)) (q1 : Cond.methodLink own index ym ∈ lw_all) (q2 : Cond.instanceMethod ym ∈ lw_all) (q5 : Cond.code ym bytes maxL ret ∈ lw_all) (q4 : Cond.initialized ym.cls ∈ lw_all) (q3 : Cond.selects ym.cls ym ym ∈ lw_all) (hrcv : so_Rc X y ym.cls) : so_Site X nL pc y n false := by
  obtain ⟨p, l, e, R, s, m, args, below, meth, c, D, cA, A, E, O, Q, QF⟩ := X
  intro σ as was w2 H locs cells slots ls Q' hO hrc hlen hst hwt hW hS hA hcl hsl hls T hT Y
  have hbeg : ∀ U : State, U.heap = H → s.WarmedH U.vm → so_U D cA (so_now E σ) (so_A σ H.size) σ U := fun U hU hw => so_begin C hW hS hA hU hw
  obtain ⟨hx, hb, hml, hown, hts, hnest, hKK, -⟩ := C
  have hM := hcal as σ Q' hO D cA (so_now E σ) H.size was hst
  have hK : vx_Back l R p e below s args ym 3 8 (PreOf R (so_rm d (mm_bc σ) (mm_bs σ)).cells (so_rm d (mm_bc σ) (mm_bs σ)).slots (so_Pre D cA (so_now E σ) σ was H.size)) (so_PR _ (so_A σ H.size)) (so_PX _ (so_A σ H.size)) :=
    so_back hM so_Pre.blind hR.1 hR.2 (pay_in hts (lw_meth q5)) List.mem_cons_self (fun a' U hW9 => word_at hW9 (Or.inl rfl) (hts _ q4))
  have hdesc : ∀ sig, parseMethodDescriptor ym.desc = some sig → (n - 1) = sig.parameters.length := fun sig h => by
    have h2 := hd.2
    rw [h] at h2
    exact (Option.some.inj h2).symm
  match as, was, hst, hrc, hlen with
  | .inr (.inr (k, a)) :: as, w :: was, ⟨h1, hst⟩, hrc, hlen =>
    have hk := mm_rc_spec (a := a) (as := as) hrc
    obtain ⟨rfl, cell, g1, g2, g3⟩ := hrcv σ k a w hk hW hS hA h1
    rw [List.reverse_cons, List.append_assoc]
    exact vx_callV Y hx hown (hts _ q1) (hts _ q2) (hts _ q3) (hts _ q5) hd.1 hK (by rw [hT]; exact g1) g2 g3 rfl (hls.trans hml.symm) (argsL := was) (fun sig h => by rw [← hdesc sig h, hst.len]; (have := hlen; simp at this; omega)) rfl (lv_room hwt) (by rw [hb]; exact d0)
      (fun vm₁ hw => ⟨hcl, hsl, rfl, hT ▸ rfl, hbeg _ hT hw⟩)

theorem so_sS (C : so_C X cc nL own mn) (hcal : so_Cal X.2.1 X.2.2.2.2.2.2.2.2.2.2.2.2.2.2.1 y ym (Cond.code ym bytes maxL ret) d) (hR : d + 9 ≤ X.2.2.2.1.frames ∧ 8 + (maxL + 11) + (40 * d + 512) ≤ X.2.2.2.1.locals) (hd : (ym.cls ≠ "java/lang/invoke/MethodHandle" ∧ ym.cls ≠ "java/lang/invoke/VarHandle") ∧ (parseMethodDescriptor ym.desc).map (fun d => d.parameters.length) = some n)
    (d0 : decode cc pc = .ok (.invokestatic index, 3)) (q1 : Cond.methodLink own index ym ∈ lw_all) (q2 : Cond.static ym ∈ lw_all) (q5 : Cond.code ym bytes maxL ret ∈ lw_all) (q4 : Cond.initialized ym.cls ∈ lw_all) : so_Site X nL pc y n true := by
  obtain ⟨p, l, e, R, s, m, args, below, meth, c, D, cA, A, E, O, Q, QF⟩ := X
  intro σ as was w2 H locs cells slots ls Q' hO hrc hlen hst hwt hW hS hA hcl hsl hls T hT Y
  have hbeg : ∀ U : State, U.heap = H → s.WarmedH U.vm → so_U D cA (so_now E σ) (so_A σ H.size) σ U := fun U hU hw => so_begin C hW hS hA hU hw
  obtain ⟨hx, hb, hml, hown, hts, hnest, hKK, -⟩ := C
  have hM := hcal as σ Q' hO D cA (so_now E σ) H.size was hst
  have hK : vx_Back l R p e below s args ym 3 8 (PreOf R (so_rm d (mm_bc σ) (mm_bs σ)).cells (so_rm d (mm_bc σ) (mm_bs σ)).slots (so_Pre D cA (so_now E σ) σ was H.size)) (so_PR _ (so_A σ H.size)) (so_PX _ (so_A σ H.size)) :=
    so_back hM so_Pre.blind hR.1 hR.2 (pay_in hts (lw_meth q5)) List.mem_cons_self (fun a' U hW9 => word_at hW9 (Or.inl rfl) (hts _ q4))
  have hdesc : ∀ sig, parseMethodDescriptor ym.desc = some sig → n = sig.parameters.length := fun sig h => by
    have h2 := hd.2
    rw [h] at h2
    exact (Option.some.inj h2).symm
  exact vx_callS Y hx hown (hts _ q1) (hts _ q2) (hts _ q4) (hts _ q5) hd.1 hK rfl (hls.trans hml.symm) (argsL := was) (fun sig h => by rw [← hdesc sig h, hst.len]; exact hlen) rfl (lv_room hwt) (by rw [hb]; exact d0)
    (fun vm₁ hw => ⟨hcl, hsl, rfl, hT ▸ rfl, hbeg _ hT hw⟩)

theorem so_sVX {hh : List (Nat × Nat × Nat × Nat)} (C : so_C X cc nL own mn) (hcal : so_Cal X.2.1 X.2.2.2.2.2.2.2.2.2.2.2.2.2.2.1 y ym (Cond.codeWith ym bytes maxL ret hh) d) (hR : d + 9 ≤ X.2.2.2.1.frames ∧ 8 + (maxL + 11) + (40 * d + 512) ≤ X.2.2.2.1.locals) (hd : (ym.cls ≠ "java/lang/invoke/MethodHandle" ∧ ym.cls ≠ "java/lang/invoke/VarHandle") ∧ (parseMethodDescriptor ym.desc).map (fun d => d.parameters.length) = some (n - 1))
    (d0 : decode cc pc = .ok (.invokevirtual index, 3)) (q1 : Cond.methodLink own index ym ∈ lw_all) (q2 : Cond.instanceMethod ym ∈ lw_all) (q5 : Cond.codeWith ym bytes maxL ret hh ∈ lw_all) (q4 : Cond.initialized ym.cls ∈ lw_all) (q3 : Cond.selects ym.cls ym ym ∈ lw_all) (hrcv : so_Rc X y ym.cls) : so_Site X nL pc y n false := by
  obtain ⟨p, l, e, R, s, m, args, below, meth, c, D, cA, A, E, O, Q, QF⟩ := X
  intro σ as was w2 H locs cells slots ls Q' hO hrc hlen hst hwt hW hS hA hcl hsl hls T hT Y
  have hbeg : ∀ U : State, U.heap = H → s.WarmedH U.vm → so_U D cA (so_now E σ) (so_A σ H.size) σ U := fun U hU hw => so_begin C hW hS hA hU hw
  obtain ⟨hx, hb, hml, hown, hts, hnest, hKK, -⟩ := C
  have hM := hcal as σ Q' hO D cA (so_now E σ) H.size was hst
  have hK : vx_Back l R p e below s args ym 3 8 (PreOf R (so_rm d (mm_bc σ) (mm_bs σ)).cells (so_rm d (mm_bc σ) (mm_bs σ)).slots (so_Pre D cA (so_now E σ) σ was H.size)) (so_PR _ (so_A σ H.size)) (so_PX _ (so_A σ H.size)) :=
    so_backW hM so_Pre.blind hR.1 hR.2 (pay_in hts (lw_methW q5)) List.mem_cons_self (fun a' U hW9 => word_at hW9 (Or.inl rfl) (hts _ q4))
  have hdesc : ∀ sig, parseMethodDescriptor ym.desc = some sig → (n - 1) = sig.parameters.length := fun sig h => by
    have h2 := hd.2
    rw [h] at h2
    exact (Option.some.inj h2).symm
  match as, was, hst, hrc, hlen with
  | .inr (.inr (k, a)) :: as, w :: was, ⟨h1, hst⟩, hrc, hlen =>
    have hk := mm_rc_spec (a := a) (as := as) hrc
    obtain ⟨rfl, cell, g1, g2, g3⟩ := hrcv σ k a w hk hW hS hA h1
    rw [List.reverse_cons, List.append_assoc]
    exact vx_callVX Y hx hown (hts _ q1) (hts _ q2) (hts _ q3) (hts _ q5) hd.1 hK (by rw [hT]; exact g1) g2 g3 rfl (hls.trans hml.symm) (argsL := was) (fun sig h => by rw [← hdesc sig h, hst.len]; (have := hlen; simp at this; omega)) rfl (lv_room hwt) (by rw [hb]; exact d0)
      (fun vm₁ hw => ⟨hcl, hsl, rfl, hT ▸ rfl, hbeg _ hT hw⟩)

theorem so_sSX {hh : List (Nat × Nat × Nat × Nat)} (C : so_C X cc nL own mn) (hcal : so_Cal X.2.1 X.2.2.2.2.2.2.2.2.2.2.2.2.2.2.1 y ym (Cond.codeWith ym bytes maxL ret hh) d) (hR : d + 9 ≤ X.2.2.2.1.frames ∧ 8 + (maxL + 11) + (40 * d + 512) ≤ X.2.2.2.1.locals) (hd : (ym.cls ≠ "java/lang/invoke/MethodHandle" ∧ ym.cls ≠ "java/lang/invoke/VarHandle") ∧ (parseMethodDescriptor ym.desc).map (fun d => d.parameters.length) = some n)
    (d0 : decode cc pc = .ok (.invokestatic index, 3)) (q1 : Cond.methodLink own index ym ∈ lw_all) (q2 : Cond.static ym ∈ lw_all) (q5 : Cond.codeWith ym bytes maxL ret hh ∈ lw_all) (q4 : Cond.initialized ym.cls ∈ lw_all) : so_Site X nL pc y n true := by
  obtain ⟨p, l, e, R, s, m, args, below, meth, c, D, cA, A, E, O, Q, QF⟩ := X
  intro σ as was w2 H locs cells slots ls Q' hO hrc hlen hst hwt hW hS hA hcl hsl hls T hT Y
  have hbeg : ∀ U : State, U.heap = H → s.WarmedH U.vm → so_U D cA (so_now E σ) (so_A σ H.size) σ U := fun U hU hw => so_begin C hW hS hA hU hw
  obtain ⟨hx, hb, hml, hown, hts, hnest, hKK, -⟩ := C
  have hM := hcal as σ Q' hO D cA (so_now E σ) H.size was hst
  have hK : vx_Back l R p e below s args ym 3 8 (PreOf R (so_rm d (mm_bc σ) (mm_bs σ)).cells (so_rm d (mm_bc σ) (mm_bs σ)).slots (so_Pre D cA (so_now E σ) σ was H.size)) (so_PR _ (so_A σ H.size)) (so_PX _ (so_A σ H.size)) :=
    so_backW hM so_Pre.blind hR.1 hR.2 (pay_in hts (lw_methW q5)) List.mem_cons_self (fun a' U hW9 => word_at hW9 (Or.inl rfl) (hts _ q4))
  have hdesc : ∀ sig, parseMethodDescriptor ym.desc = some sig → n = sig.parameters.length := fun sig h => by
    have h2 := hd.2
    rw [h] at h2
    exact (Option.some.inj h2).symm
  exact vx_callSX Y hx hown (hts _ q1) (hts _ q2) (hts _ q4) (hts _ q5) hd.1 hK rfl (hls.trans hml.symm) (argsL := was) (fun sig h => by rw [← hdesc sig h, hst.len]; exact hlen) rfl (lv_room hwt) (by rw [hb]; exact d0)
    (fun vm₁ hw => ⟨hcl, hsl, rfl, hT ▸ rfl, hbeg _ hT hw⟩)

theorem so_sI (C : so_C X cc nL own mn) (hcal : so_Cal X.2.1 X.2.2.2.2.2.2.2.2.2.2.2.2.2.2.1 y ym (Cond.code ym bytes maxL none) d) (hR : d + 9 ≤ X.2.2.2.1.frames ∧ 8 + (maxL + 11) + (40 * d + 512) ≤ X.2.2.2.1.locals) (hd : (ym.cls ≠ "java/lang/invoke/MethodHandle" ∧ ym.cls ≠ "java/lang/invoke/VarHandle") ∧ (parseMethodDescriptor ym.desc).map (fun d => d.parameters.length) = some (n - 1))
    (d0 : decode cc pc = .ok (.invokespecial index, 3)) (q1 : Cond.methodLink own index ym ∈ lw_all) (q2 : Cond.instanceMethod ym ∈ lw_all) (q5 : Cond.code ym bytes maxL none ∈ lw_all) (q4 : Cond.initialized ym.cls ∈ lw_all) (hini : ym.name = "<init>") (hrcv : so_RcI X y) : so_Site X nL pc y n false := by
  obtain ⟨p, l, e, R, s, m, args, below, meth, c, D, cA, A, E, O, Q, QF⟩ := X
  intro σ as was w2 H locs cells slots ls Q' hO hrc hlen hst hwt hW hS hA hcl hsl hls T hT Y
  have hbeg : ∀ U : State, U.heap = H → s.WarmedH U.vm → so_U D cA (so_now E σ) (so_A σ H.size) σ U := fun U hU hw => so_begin C hW hS hA hU hw
  obtain ⟨hx, hb, hml, hown, hts, hnest, hKK, -⟩ := C
  have hM := hcal as σ Q' hO D cA (so_now E σ) H.size was hst
  have hK : vx_Back l R p e below s args ym 3 8 (PreOf R (so_rm d (mm_bc σ) (mm_bs σ)).cells (so_rm d (mm_bc σ) (mm_bs σ)).slots (so_Pre D cA (so_now E σ) σ was H.size)) (so_PR _ (so_A σ H.size)) (so_PX _ (so_A σ H.size)) :=
    so_back hM so_Pre.blind hR.1 hR.2 (pay_in hts (lw_meth q5)) List.mem_cons_self (fun a' U hW9 => word_at hW9 (Or.inl rfl) (hts _ q4))
  have hdesc : ∀ sig, parseMethodDescriptor ym.desc = some sig → (n - 1) = sig.parameters.length := fun sig h => by
    have h2 := hd.2
    rw [h] at h2
    exact (Option.some.inj h2).symm
  match as, was, hst, hrc, hlen with
  | .inr (.inr (k, a)) :: as, w :: was, ⟨h1, hst⟩, hrc, hlen =>
    have hk := mm_rc_spec (a := a) (as := as) hrc
    obtain rfl := hrcv σ k a w hk hW h1
    rw [List.reverse_cons, List.append_assoc]
    exact so_callI Y hx hown hini (hts _ q1) (hts _ q2) (hts _ q5) hd.1 hK rfl (hls.trans hml.symm) (argsL := was) (fun sig h => by rw [← hdesc sig h, hst.len]; (have := hlen; simp at this; omega)) rfl (lv_room hwt) (by rw [hb]; exact d0)
      (fun vm₁ hw => ⟨hcl, hsl, rfl, hT ▸ rfl, hbeg _ hT hw⟩)

theorem so_sVN {host : String} (C : so_C X cc nL own mn) (hcal : so_Cal X.2.1 X.2.2.2.2.2.2.2.2.2.2.2.2.2.2.1 y ym (Cond.code ym bytes maxL ret) d) (hR : d + 9 ≤ X.2.2.2.1.frames ∧ 8 + (maxL + 11) + (40 * d + 512) ≤ X.2.2.2.1.locals) (hd : (ym.cls ≠ "java/lang/invoke/MethodHandle" ∧ ym.cls ≠ "java/lang/invoke/VarHandle") ∧ (parseMethodDescriptor ym.desc).map (fun d => d.parameters.length) = some (n - 1))
    (d0 : decode cc pc = .ok (.invokevirtual index, 3)) (q1 : Cond.methodLinkNest own index ym host ∈ so_nest) (q2 : Cond.instanceMethod ym ∈ lw_all) (q5 : Cond.code ym bytes maxL ret ∈ lw_all) (q4 : Cond.initialized ym.cls ∈ lw_all) (q3 : Cond.selects ym.cls ym ym ∈ lw_all) (hrcv : so_Rc X y ym.cls) : so_Site X nL pc y n false := by
  obtain ⟨p, l, e, R, s, m, args, below, meth, c, D, cA, A, E, O, Q, QF⟩ := X
  intro σ as was w2 H locs cells slots ls Q' hO hrc hlen hst hwt hW hS hA hcl hsl hls T hT Y
  have hbeg : ∀ U : State, U.heap = H → s.WarmedH U.vm → so_U D cA (so_now E σ) (so_A σ H.size) σ U := fun U hU hw => so_begin C hW hS hA hU hw
  obtain ⟨hx, hb, hml, hown, hts, hnest, hKK, -⟩ := C
  have hM := hcal as σ Q' hO D cA (so_now E σ) H.size was hst
  have hK : vx_Back l R p e below s args ym 3 8 (PreOf R (so_rm d (mm_bc σ) (mm_bs σ)).cells (so_rm d (mm_bc σ) (mm_bs σ)).slots (so_Pre D cA (so_now E σ) σ was H.size)) (so_PR _ (so_A σ H.size)) (so_PX _ (so_A σ H.size)) :=
    so_back hM so_Pre.blind hR.1 hR.2 (pay_in hts (lw_meth q5)) List.mem_cons_self (fun a' U hW9 => word_at hW9 (Or.inl rfl) (hts _ q4))
  have hdesc : ∀ sig, parseMethodDescriptor ym.desc = some sig → (n - 1) = sig.parameters.length := fun sig h => by
    have h2 := hd.2
    rw [h] at h2
    exact (Option.some.inj h2).symm
  match as, was, hst, hrc, hlen with
  | .inr (.inr (k, a)) :: as, w :: was, ⟨h1, hst⟩, hrc, hlen =>
    have hk := mm_rc_spec (a := a) (as := as) hrc
    obtain ⟨rfl, cell, g1, g2, g3⟩ := hrcv σ k a w hk hW hS hA h1
    rw [List.reverse_cons, List.append_assoc]
    exact so_callVN Y hx hown (va_Nw.use rfl (hnest _ q1)) (hts _ q2) (hts _ q3) (hts _ q5) hd.1 hK (by rw [hT]; exact g1) g2 g3 rfl (hls.trans hml.symm) (argsL := was) (fun sig h => by rw [← hdesc sig h, hst.len]; (have := hlen; simp at this; omega)) rfl (lv_room hwt) (by rw [hb]; exact d0)
      (fun vm₁ hw => ⟨hcl, hsl, rfl, hT ▸ rfl, hbeg _ hT hw⟩)

theorem so_sIN {host : String} (C : so_C X cc nL own mn) (hcal : so_Cal X.2.1 X.2.2.2.2.2.2.2.2.2.2.2.2.2.2.1 y ym (Cond.code ym bytes maxL none) d) (hR : d + 9 ≤ X.2.2.2.1.frames ∧ 8 + (maxL + 11) + (40 * d + 512) ≤ X.2.2.2.1.locals) (hd : (ym.cls ≠ "java/lang/invoke/MethodHandle" ∧ ym.cls ≠ "java/lang/invoke/VarHandle") ∧ (parseMethodDescriptor ym.desc).map (fun d => d.parameters.length) = some (n - 1))
    (d0 : decode cc pc = .ok (.invokespecial index, 3)) (q1 : Cond.methodLinkNest own index ym host ∈ so_nest) (q2 : Cond.instanceMethod ym ∈ lw_all) (q5 : Cond.code ym bytes maxL none ∈ lw_all) (q4 : Cond.initialized ym.cls ∈ lw_all) (hini : ym.name = "<init>") (hrcv : so_RcI X y) : so_Site X nL pc y n false := by
  obtain ⟨p, l, e, R, s, m, args, below, meth, c, D, cA, A, E, O, Q, QF⟩ := X
  intro σ as was w2 H locs cells slots ls Q' hO hrc hlen hst hwt hW hS hA hcl hsl hls T hT Y
  have hbeg : ∀ U : State, U.heap = H → s.WarmedH U.vm → so_U D cA (so_now E σ) (so_A σ H.size) σ U := fun U hU hw => so_begin C hW hS hA hU hw
  obtain ⟨hx, hb, hml, hown, hts, hnest, hKK, -⟩ := C
  have hM := hcal as σ Q' hO D cA (so_now E σ) H.size was hst
  have hK : vx_Back l R p e below s args ym 3 8 (PreOf R (so_rm d (mm_bc σ) (mm_bs σ)).cells (so_rm d (mm_bc σ) (mm_bs σ)).slots (so_Pre D cA (so_now E σ) σ was H.size)) (so_PR _ (so_A σ H.size)) (so_PX _ (so_A σ H.size)) :=
    so_back hM so_Pre.blind hR.1 hR.2 (pay_in hts (lw_meth q5)) List.mem_cons_self (fun a' U hW9 => word_at hW9 (Or.inl rfl) (hts _ q4))
  have hdesc : ∀ sig, parseMethodDescriptor ym.desc = some sig → (n - 1) = sig.parameters.length := fun sig h => by
    have h2 := hd.2
    rw [h] at h2
    exact (Option.some.inj h2).symm
  match as, was, hst, hrc, hlen with
  | .inr (.inr (k, a)) :: as, w :: was, ⟨h1, hst⟩, hrc, hlen =>
    have hk := mm_rc_spec (a := a) (as := as) hrc
    obtain rfl := hrcv σ k a w hk hW h1
    rw [List.reverse_cons, List.append_assoc]
    exact so_callIN Y hx hown hini (va_Nw.use rfl (hnest _ q1)) (hts _ q2) (hts _ q5) hd.1 hK rfl (hls.trans hml.symm) (argsL := was) (fun sig h => by rw [← hdesc sig h, hst.len]; (have := hlen; simp at this; omega)) rfl (lv_room hwt) (by rw [hb]; exact d0)
      (fun vm₁ hw => ⟨hcl, hsl, rfl, hT ▸ rfl, hbeg _ hT hw⟩)

theorem so_kI {σ0 : mmS} {rt : Option FieldType} (C : so_C X cc nL own mn) (F : so_F9 X σ0 rt) {st : Bool} (hS9 : so_Site X nL pc y n st) (hout : ∀ x ∈ X.2.2.2.2.2.2.2.2.2.1.exceptionTable.toList, covers x pc = false) : so_ok X nL pc (mo_callI y n 3 st) := by
  obtain ⟨p, l, e, R, s, m, args, below, meth, c, D, cA, A, E, O, Q, QF⟩ := X
  obtain ⟨hx, hb, hml, hown, hts, hnest, hKK, hvk, hAq, hlk, hmn, hsc⟩ := C
  obtain ⟨hQF, hRc, hRs, hr⟩ := F
  subst hQF
  intro lv st9 σ K h hK
  have h8 : (match mm_take n st9 [] with | some (as, r) => bif (st || mm_rc y as) && Nat.ble (mm_wt r) 8 then O y as σ (fun o u => match o with | .inl (some (.inl x)) => K (pc + 3, lv, .inl x :: r) u | .inr e => Q (.inr e) u | _ => False) else False | none => False) := h
  clear h
  cases htk : mm_take n st9 [] with
  | none => rw [htk] at h8; exact h8.elim
  | some ar =>
    obtain ⟨as, r⟩ := ar
    rw [htk] at h8
    obtain ⟨xs, rfl, hxl, has⟩ := mm_take_spec htk
    rw [List.append_nil] at has
    have h9 : (bif (st || mm_rc y as) && Nat.ble (mm_wt r) 8 then O y as σ (fun o u => match o with | .inl (some (.inl x)) => K (pc + 3, lv, .inl x :: r) u | .inr e => Q (.inr e) u | _ => False) else False) := h8
    clear h8
    cases hbb : (st || mm_rc y as) && Nat.ble (mm_wt r) 8 with
    | false => rw [hbb] at h9; exact h9.elim
    | true =>
      rw [hbb] at h9
      obtain ⟨hb1, hb2⟩ := Bool.and_eq_true_iff.mp hbb
      intro H locs cells slots ls vs hW hS hA hc hs hl hv
      obtain ⟨w1, w2, rfl, hv1, hv2⟩ := hv.split
      have hst := hv1.rev
      rw [← has] at hst
      have hC := hS9 σ as w1.reverse w2 H locs cells slots ls _ h9 hb1 (by rw [has, List.length_reverse]; exact hxl) hst (by rw [hv2.wt]; exact Nat.le_of_ble_eq_true hb2) hW hS hA hc hs hl.1
      rw [List.reverse_reverse] at hC
      refine so_go hW hS hA hAq hc hs hC (fun ov v u H1 locs1 cells1 slots1 hq hrv hAf => ?_) (fun e9 q9 ce u H1 locs1 cells1 slots1 hq g4 g8 g5 gc gv gcl hAf => ?_)
      · match ov, v, hq, hrv with
        | some (.inl x), some w, hq, hrv =>
          obtain ⟨a1, a2, a3, a4, a5, a6, a7⟩ := hAf
          exact hK _ _ hq H1 locs1 cells1 slots1 ls _ a1 a2 a4 a5 a6 (hl.on a7 a3) ⟨hrv, hv2.on a7 a3⟩
      · obtain ⟨a1, a2, a3, a4, a5, a6, a7⟩ := hAf
        exact so_out hout hlk hq g4 g8 g5 gc gv gcl a1 a2 a4 a5 a6 hRc hRs

theorem so_kL {σ0 : mmS} {rt : Option FieldType} (C : so_C X cc nL own mn) (F : so_F9 X σ0 rt) {st : Bool} (hS9 : so_Site X nL pc y n st) (hout : ∀ x ∈ X.2.2.2.2.2.2.2.2.2.1.exceptionTable.toList, covers x pc = false) : so_ok X nL pc (mo_callL y n 3 st) := by
  obtain ⟨p, l, e, R, s, m, args, below, meth, c, D, cA, A, E, O, Q, QF⟩ := X
  obtain ⟨hx, hb, hml, hown, hts, hnest, hKK, hvk, hAq, hlk, hmn, hsc⟩ := C
  obtain ⟨hQF, hRc, hRs, hr⟩ := F
  subst hQF
  intro lv st9 σ K h hK
  have h8 : (match mm_take n st9 [] with | some (as, r) => bif (st || mm_rc y as) && Nat.ble (mm_wt r) 8 then O y as σ (fun o u => match o with | .inl (some (.inr (.inl x))) => K (pc + 3, lv, .inr (.inl x) :: r) u | .inr e => Q (.inr e) u | _ => False) else False | none => False) := h
  clear h
  cases htk : mm_take n st9 [] with
  | none => rw [htk] at h8; exact h8.elim
  | some ar =>
    obtain ⟨as, r⟩ := ar
    rw [htk] at h8
    obtain ⟨xs, rfl, hxl, has⟩ := mm_take_spec htk
    rw [List.append_nil] at has
    have h9 : (bif (st || mm_rc y as) && Nat.ble (mm_wt r) 8 then O y as σ (fun o u => match o with | .inl (some (.inr (.inl x))) => K (pc + 3, lv, .inr (.inl x) :: r) u | .inr e => Q (.inr e) u | _ => False) else False) := h8
    clear h8
    cases hbb : (st || mm_rc y as) && Nat.ble (mm_wt r) 8 with
    | false => rw [hbb] at h9; exact h9.elim
    | true =>
      rw [hbb] at h9
      obtain ⟨hb1, hb2⟩ := Bool.and_eq_true_iff.mp hbb
      intro H locs cells slots ls vs hW hS hA hc hs hl hv
      obtain ⟨w1, w2, rfl, hv1, hv2⟩ := hv.split
      have hst := hv1.rev
      rw [← has] at hst
      have hC := hS9 σ as w1.reverse w2 H locs cells slots ls _ h9 hb1 (by rw [has, List.length_reverse]; exact hxl) hst (by rw [hv2.wt]; exact Nat.le_of_ble_eq_true hb2) hW hS hA hc hs hl.1
      rw [List.reverse_reverse] at hC
      refine so_go hW hS hA hAq hc hs hC (fun ov v u H1 locs1 cells1 slots1 hq hrv hAf => ?_) (fun e9 q9 ce u H1 locs1 cells1 slots1 hq g4 g8 g5 gc gv gcl hAf => ?_)
      · match ov, v, hq, hrv with
        | some (.inr (.inl x)), some w, hq, hrv =>
          obtain ⟨a1, a2, a3, a4, a5, a6, a7⟩ := hAf
          exact hK _ _ hq H1 locs1 cells1 slots1 ls _ a1 a2 a4 a5 a6 (hl.on a7 a3) ⟨hrv, hv2.on a7 a3⟩
      · obtain ⟨a1, a2, a3, a4, a5, a6, a7⟩ := hAf
        exact so_out hout hlk hq g4 g8 g5 gc gv gcl a1 a2 a4 a5 a6 hRc hRs

theorem so_kR {σ0 : mmS} {rt : Option FieldType} (C : so_C X cc nL own mn) (F : so_F9 X σ0 rt) {st : Bool} (hS9 : so_Site X nL pc y n st) (hout : ∀ x ∈ X.2.2.2.2.2.2.2.2.2.1.exceptionTable.toList, covers x pc = false) : so_ok X nL pc (mo_callR y n 3 st) := by
  obtain ⟨p, l, e, R, s, m, args, below, meth, c, D, cA, A, E, O, Q, QF⟩ := X
  obtain ⟨hx, hb, hml, hown, hts, hnest, hKK, hvk, hAq, hlk, hmn, hsc⟩ := C
  obtain ⟨hQF, hRc, hRs, hr⟩ := F
  subst hQF
  intro lv st9 σ K h hK
  have h8 : (match mm_take n st9 [] with | some (as, r) => bif (st || mm_rc y as) && Nat.ble (mm_wt r) 8 then O y as σ (fun o u => match o with | .inl (some (.inr (.inr (k, q)))) => K (pc + 3, lv, .inr (.inr (k, q)) :: r) u | .inr e => Q (.inr e) u | _ => False) else False | none => False) := h
  clear h
  cases htk : mm_take n st9 [] with
  | none => rw [htk] at h8; exact h8.elim
  | some ar =>
    obtain ⟨as, r⟩ := ar
    rw [htk] at h8
    obtain ⟨xs, rfl, hxl, has⟩ := mm_take_spec htk
    rw [List.append_nil] at has
    have h9 : (bif (st || mm_rc y as) && Nat.ble (mm_wt r) 8 then O y as σ (fun o u => match o with | .inl (some (.inr (.inr (k, q)))) => K (pc + 3, lv, .inr (.inr (k, q)) :: r) u | .inr e => Q (.inr e) u | _ => False) else False) := h8
    clear h8
    cases hbb : (st || mm_rc y as) && Nat.ble (mm_wt r) 8 with
    | false => rw [hbb] at h9; exact h9.elim
    | true =>
      rw [hbb] at h9
      obtain ⟨hb1, hb2⟩ := Bool.and_eq_true_iff.mp hbb
      intro H locs cells slots ls vs hW hS hA hc hs hl hv
      obtain ⟨w1, w2, rfl, hv1, hv2⟩ := hv.split
      have hst := hv1.rev
      rw [← has] at hst
      have hC := hS9 σ as w1.reverse w2 H locs cells slots ls _ h9 hb1 (by rw [has, List.length_reverse]; exact hxl) hst (by rw [hv2.wt]; exact Nat.le_of_ble_eq_true hb2) hW hS hA hc hs hl.1
      rw [List.reverse_reverse] at hC
      refine so_go hW hS hA hAq hc hs hC (fun ov v u H1 locs1 cells1 slots1 hq hrv hAf => ?_) (fun e9 q9 ce u H1 locs1 cells1 slots1 hq g4 g8 g5 gc gv gcl hAf => ?_)
      · match ov, v, hq, hrv with
        | some (.inr (.inr (k, q))), some w, hq, hrv =>
          obtain ⟨a1, a2, a3, a4, a5, a6, a7⟩ := hAf
          exact hK _ _ hq H1 locs1 cells1 slots1 ls _ a1 a2 a4 a5 a6 (hl.on a7 a3) ⟨hrv, hv2.on a7 a3⟩
      · obtain ⟨a1, a2, a3, a4, a5, a6, a7⟩ := hAf
        exact so_out hout hlk hq g4 g8 g5 gc gv gcl a1 a2 a4 a5 a6 hRc hRs

theorem so_kV {σ0 : mmS} {rt : Option FieldType} (C : so_C X cc nL own mn) (F : so_F9 X σ0 rt) {st : Bool} (hS9 : so_Site X nL pc y n st) (hout : ∀ x ∈ X.2.2.2.2.2.2.2.2.2.1.exceptionTable.toList, covers x pc = false) : so_ok X nL pc (mo_callV y n 3 st) := by
  obtain ⟨p, l, e, R, s, m, args, below, meth, c, D, cA, A, E, O, Q, QF⟩ := X
  obtain ⟨hx, hb, hml, hown, hts, hnest, hKK, hvk, hAq, hlk, hmn, hsc⟩ := C
  obtain ⟨hQF, hRc, hRs, hr⟩ := F
  subst hQF
  intro lv st9 σ K h hK
  have h8 : (match mm_take n st9 [] with | some (as, r) => bif (st || mm_rc y as) && Nat.ble (mm_wt r) 8 then O y as σ (fun o u => match o with | .inl none => K (pc + 3, lv, r) u | .inr e => Q (.inr e) u | _ => False) else False | none => False) := h
  clear h
  cases htk : mm_take n st9 [] with
  | none => rw [htk] at h8; exact h8.elim
  | some ar =>
    obtain ⟨as, r⟩ := ar
    rw [htk] at h8
    obtain ⟨xs, rfl, hxl, has⟩ := mm_take_spec htk
    rw [List.append_nil] at has
    have h9 : (bif (st || mm_rc y as) && Nat.ble (mm_wt r) 8 then O y as σ (fun o u => match o with | .inl none => K (pc + 3, lv, r) u | .inr e => Q (.inr e) u | _ => False) else False) := h8
    clear h8
    cases hbb : (st || mm_rc y as) && Nat.ble (mm_wt r) 8 with
    | false => rw [hbb] at h9; exact h9.elim
    | true =>
      rw [hbb] at h9
      obtain ⟨hb1, hb2⟩ := Bool.and_eq_true_iff.mp hbb
      intro H locs cells slots ls vs hW hS hA hc hs hl hv
      obtain ⟨w1, w2, rfl, hv1, hv2⟩ := hv.split
      have hst := hv1.rev
      rw [← has] at hst
      have hC := hS9 σ as w1.reverse w2 H locs cells slots ls _ h9 hb1 (by rw [has, List.length_reverse]; exact hxl) hst (by rw [hv2.wt]; exact Nat.le_of_ble_eq_true hb2) hW hS hA hc hs hl.1
      rw [List.reverse_reverse] at hC
      refine so_go hW hS hA hAq hc hs hC (fun ov v u H1 locs1 cells1 slots1 hq hrv hAf => ?_) (fun e9 q9 ce u H1 locs1 cells1 slots1 hq g4 g8 g5 gc gv gcl hAf => ?_)
      · match ov, v, hq, hrv with
        | none, none, hq, _ =>
          obtain ⟨a1, a2, a3, a4, a5, a6, a7⟩ := hAf
          exact hK _ _ hq H1 locs1 cells1 slots1 ls _ a1 a2 a4 a5 a6 (hl.on a7 a3) (hv2.on a7 a3)
      · obtain ⟨a1, a2, a3, a4, a5, a6, a7⟩ := hAf
        exact so_out hout hlk hq g4 g8 g5 gc gv gcl a1 a2 a4 a5 a6 hRc hRs

end SOS
