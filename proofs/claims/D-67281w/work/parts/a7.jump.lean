/-! PHASE 3. statementIn(): what it calls; break and continue -/
section JUMP
variable {β : Type} {T : sT} {N : Int32 → mmS → Prop} {g : Nat} {w0 : cW} {m0 e0 : Nat} {θ : cTh} {l0 : Nat} {Z : Int32 → mmS → Prop} {b : Bool} {h : Nat} {w : cW} {A : cA} {m e : Nat} {σ σ0 u : mmS} {i j : Nat}
variable {ν a d : Nat} {Q : mmQ}
/-- the last node, and out -/
theorem St.endN {k x y z : Int32} (st : St T (shS σ0) any2 g w m0 e0 θ l0 (fun n u => Q (.inl (some (.inl n))) u) b (h + 1) w A m e (s_r () j) u j) (hd : 3 ≤ d) (hm1 : 1 ≤ m) (hm : GD u → m0 + 1 ≤ m) (he : e0 ≤ e) (hl : GD u → l0 ≤ j) (hlo : fN σ0 315 ≤ fN u 315) (h35 : (k == 35) = false) : mm_I (MC d) Q 3051 [.inr (.inr (3, a)), .inl k, .inl x, .inl y, .inl z] u (fun x5 σ4 => Q (.inl (some (.inl x5))) σ4) := by
  refine St.node (h := h) st hd hm1 (fun n2 u2 st2 f2 nw => ?_) (Or.inl h35)
  have := nw.2.1
  exact st2.ret (fun _ => rfl) (fun _ => rfl) (fun gd => hl (f2.1 gd)) 0 (fun gd => by have := hm (f2.1 gd); omega) (fun _ => he) (fun gd => ⟨fN u 315, nw.1, hlo, by omega⟩) (fun _ => trivial)
/-- a semicolon, a node, and out -/
theorem St.endS {k x y z : Int32} (st : St T (shS σ0) any2 g w m0 e0 θ l0 (fun n u => Q (.inl (some (.inl n))) u) b (h + 1) w A m e (s_semi T j) u j) (hd : 3 ≤ d) (hm1 : 1 ≤ m) (hm : GD u → m0 + 1 ≤ m) (he : e0 ≤ e) (hl : GD u → l0 ≤ j) (hlo : fN σ0 315 ≤ fN u 315) (h35 : (k == 35) = false) : mm_V (MC d) Q 3021 [.inr (.inr (3, a))] u (fun σ4 => mm_I (MC d) Q 3051 [.inr (.inr (3, a)), .inl k, .inl x, .inl y, .inl z] σ4 (fun x5 σ5 => Q (.inl (some (.inl x5))) σ5)) := by
  have st1 := st.rw (r' := s_b (s_semi T j) (fun _ k => s_r () k)) (fun _ => s_b_ret.symm)
  refine st1.semi (by omega) (fun u2 j2 st2 f2 hj2 => ?_)
  have := f2.nn
  exact St.endN (h := h) st2 hd hm1 (fun gd => hm (f2.1 gd)) he (fun gd => by have := hj2 gd; have := hl (f2.1 gd); omega) (by omega) h35
/-- another method's answer is the answer -/
theorem St.tail {D c q s y : Nat} {bb : Bool} {r1 : Nat → sR Unit} {as : List mmV} (hC : CI T shS any2 D c q bb s w r1 y as) (st : St T (shS σ0) any2 g w m0 e0 θ l0 (fun n u => Q (.inl (some (.inl n))) u) b (h + c) w A m e (r1 i) σ i) (hb : b = true → bb = true) (hd : D ≤ d) (hg : g + h + q ≤ GQ (w_nu w)) (hm : 24 ≤ m) (hm0 : m0 ≤ m) (he : e0 ≤ e) (hl : GD σ → l0 ≤ i + s) (hlo : fN σ0 315 ≤ fN σ 315) : mm_I (MC d) Q y as σ (fun x5 σ4 => Q (.inl (some (.inl x5))) σ4) := by
  have st1 := st.rw (r' := s_b (r1 i) (fun _ k => s_r () k)) (fun _ => s_b_ret.symm)
  refine St.call (h := h) hC () st1 hb hd hg hm rfl (fun v j B q n u st2 f2 hj hs hn => ?_)
  exact st2.ret (fun _ => rfl) (fun _ => rfl) (fun gd => by have := hj gd; have := hl (f2.1 gd); omega) 0 (fun _ => by omega) (fun _ => he) (fun gd => by
    obtain ⟨k, k1, k2, k3⟩ := hs gd
    exact ⟨k, k1, by omega, k3⟩) (fun _ => trivial)
theorem bI_or1 {c : Bool} : bI c ||| 1 = bI true := by cases c <;> decide
theorem bI_or0 {c : Bool} : bI c ||| 0 = bI c := by cases c <;> decide
/-- is there such a label? -/
theorem jmp_loop {v1 v2 v3 : Int32} {brk : Bool} (hb : (v1 = 1 ∧ brk = true) ∨ (v1 = 6 ∧ brk = false)) (hG : cG T w A m e u i) (tot : Bool) (kn : ∀ v5 : Int32, mm_br (bI tot = 0) (mm_I (MC d) Q 3025 [.inr (.inr (3, a))] u (fun x4 σ3 => Q (.inl (some (.inl x4))) σ3)) (mm_V (MC d) Q 3021 [.inr (.inr (3, a))] u (fun σ5 => mm_br (v1 = 1) (mm_I (MC d) Q 3051 [.inr (.inr (3, a)), .inl 70, .inl v3, .inl 0, .inl 0] σ5 (fun x7 σ6 => Q (.inl (some (.inl x7))) σ6)) (mm_I (MC d) Q 3051 [.inr (.inr (3, a)), .inl 69, .inl v3, .inl 0, .inl 0] σ5 (fun x9 σ8 => Q (.inl (some (.inl x9))) σ8))))) : ∀ (n p : Nat) (c : Bool), p + n = (w_x w).2.2.2.2.length → (c || ((w_x w).2.2.2.2.drop p).any (fun y => y.1 == v3 && (brk || y.2))) = tot →
    mm_W mt3093 (MC d) Q (501, [some (.inr (.inr (3, a))), some (.inl v1), some (.inl v2), some (.inl v3), some (.inl (bI c)), some (.inl (nI (w_lb w + p)))], []) u := by
  have hX := hG.2.2.2.2.1
  obtain ⟨-, -, -, -, y1, y2, y3, y4⟩ := hX
  have hl1 : mm_n u 361 = 50 := hG.1.2.2.2.2.2.2.1.1
  have hl2 : mm_n u 362 = 50 := hG.1.2.2.2.2.2.2.1.2.1
  intro n
  induction n with
  | zero =>
    intro p c hp ht
    rw [List.drop_of_length_le (by omega), List.any_nil, Bool.or_false] at ht
    subst ht
    refine b3093_501 _ _ _ _ _ _ _ _ _ (br_n (fun z => ?_) (kn 0))
    rw [y2] at z
    have := (nI_lt_iff (by omega) (by omega)).mp z
    omega
  | succ n ih =>
    intro p c hp ht
    have hlt : p < (w_x w).2.2.2.2.length := by omega
    obtain ⟨z1, z2, z3⟩ := y4 p hlt
    have hdr : (w_x w).2.2.2.2.drop p = (w_x w).2.2.2.2[p] :: (w_x w).2.2.2.2.drop (p + 1) := List.drop_eq_getElem_cons hlt
    rw [hdr, List.any_cons] at ht
    refine b3093_501 _ _ _ _ _ _ _ _ _ (br_y (by rw [y2]; exact (nI_lt_iff (by omega) (by omega)).mpr (by omega)) (rd hl1 (by omega) (by decide) ?_))
    rw [z1, nI_1]
    have nxt : ∀ c2, (c2 || ((w_x w).2.2.2.2.drop (p + 1)).any (fun y => y.1 == v3 && (brk || y.2))) = tot → mm_W mt3093 (MC d) Q (501, [some (.inr (.inr (3, a))), some (.inl v1), some (.inl v2), some (.inl v3), some (.inl (bI c2)), some (.inl (nI (w_lb w + p + 1)))], []) u := fun c2 h2 => ih (p + 1) c2 (by omega) h2
    refine br_p (fun c3 => ?_) (fun c3 => ?_)
    · rw [c3, beq_self_eq_true, Bool.true_and] at ht
      rcases hb with ⟨rfl, rfl⟩ | ⟨rfl, rfl⟩
      · refine br_y rfl ?_
        rw [bI_or1]
        refine nxt true ?_
        rw [Bool.true_or, Bool.true_or, Bool.or_true] at ht
        rw [Bool.true_or]
        exact ht
      · refine br_n (by decide) (rd hl2 (by omega) (by decide) ?_)
        rw [z2]
        rw [Bool.false_or] at ht
        cases hy : (w_x w).2.2.2.2[p].2 with
        | true =>
          rw [hy, Bool.true_or, Bool.or_true] at ht
          refine br_y rfl ?_
          rw [bI_or1]
          exact nxt true (by rw [Bool.true_or]; exact ht)
        | false =>
          rw [hy, Bool.false_or] at ht
          refine br_n (by decide) ?_
          rw [bI_or0]
          exact nxt c ht
    · rw [bI_or0]
      rw [beq_eq_false_iff_ne.mpr c3, Bool.false_and, Bool.false_or] at ht
      exact nxt c ht
theorem c_jump {v1 v2 : Int32} {brk : Bool} {wv3 wv4 wv5 : Option mmV} (hb : (v1 = 1 ∧ brk = true) ∨ (v1 = 6 ∧ brk = false)) (st : St T (shS σ0) any2 g w m0 e0 θ l0 (fun n u => Q (.inl (some (.inl n))) u) false 2 w A m e (s_jump T (w_x w) brk i) σ i) (nz : NZ T σ) (hd : 4 ≤ d) (hm : 24 ≤ m) (hm0 : m0 ≤ m) (he : e0 ≤ e) (hl : l0 ≤ i + 1) (hlo : fN σ0 315 ≤ fN σ 315) :
    mm_W mt3093 (MC d) Q (415, [some (.inr (.inr (3, a))), some (.inl v1), some (.inl v2), wv3, wv4, wv5], []) σ := by
  have gd := st.good.2.1
  have st1 := st.adv nz
  have e1 : fN (mm_setf σ 311 (mm_f σ 311 + 1)) 315 = fN σ 315 := fN_eq (f_other (by decide))
  have tok : tokOK T := st.ci.1.2.2.2.2.2.2.2.2.2.1.1
  -- the end
  have fin : ∀ (v3 : Int32) (tot : Bool) (u : mmS) (j m2 : Nat), fN u 315 = fN σ 315 → m + 1 ≤ m2 → i + 1 ≤ j → St T (shS σ0) any2 g w m0 e0 θ l0 (fun n u => Q (.inl (some (.inl n))) u) false 2 w A m2 e (bif tot then s_semi T j else none) u j → mm_br (bI tot = 0) (mm_I (MC d) Q 3025 [.inr (.inr (3, a))] u (fun x4 σ3 => Q (.inl (some (.inl x4))) σ3)) (mm_V (MC d) Q 3021 [.inr (.inr (3, a))] u (fun σ5 => mm_br (v1 = 1) (mm_I (MC d) Q 3051 [.inr (.inr (3, a)), .inl 70, .inl v3, .inl 0, .inl 0] σ5 (fun x7 σ6 => Q (.inl (some (.inl x7))) σ6)) (mm_I (MC d) Q 3051 [.inr (.inr (3, a)), .inl 69, .inl v3, .inl 0, .inl 0] σ5 (fun x9 σ8 => Q (.inl (some (.inl x9))) σ8)))) := fun v3 tot u j m2 hu hm2 hj st => by
    cases tot with
    | false => exact br_y rfl (st.fail (by omega) (fun _ => rfl) (fun u5 ng st5 hf5 => st5.bad ng trivial))
    | true =>
      refine br_n (by decide) ?_
      have st1 := st.rw (r' := s_b (s_semi T j) (fun _ k => s_r () k)) (fun _ => s_b_ret.symm)
      refine st1.semi (by omega) (fun u2 j2 st2 f2 hj2 => ?_)
      have := f2.nn
      exact br_p (fun _ => St.endN (h := 1) st2 (by omega) (by omega) (fun _ => by omega) he (fun gd => by have := hj2 gd; omega) (by omega) rfl) (fun _ => St.endN (h := 1) st2 (by omega) (by omega) (fun _ => by omega) he (fun gd => by have := hj2 gd; omega) (by omega) rfl)
  have hX := st.good.2.2.2.2.1
  have h57 : ∀ {u A m e j}, cG T w A m e u j → mm_f u 357 = nI (w_lb w + 0) := fun h => h.2.2.2.2.1.2.2.2.2.1
  have no : (t_id T (i + 1) && !t_ln T (i + 1)) = false → mm_W mt3093 (MC d) Q (461, [some (.inr (.inr (3, a))), some (.inl v1), some (.inl v2), some (.inl (-1)), wv4, wv5], []) (mm_setf σ 311 (mm_f σ 311 + 1)) := fun hz => by
    have hG1 := st1.good
    have hX1 := hG1.2.2.2.2.1
    obtain ⟨-, -, ⟨k1, k2, k3⟩, ⟨b1, b2, b3⟩, y1, y2, y3, y4⟩ := hX1
    have nol : ∀ p, ((w_x w).2.2.2.2.drop p).any (fun y => y.1 == (-1 : Int32) && (brk || y.2)) = false := fun p => by
      rw [List.any_eq_false]
      intro y hy
      have hy := List.mem_of_mem_drop hy
      obtain ⟨k, hk, rfl⟩ := List.getElem_of_mem hy
      have := (y4 k hk).2.2
      have ne : ¬ (w_x w).2.2.2.2[k].1 = -1 := fun z => by rw [z] at this; exact absurd this (by decide)
      rw [beq_eq_false_iff_ne.mpr ne, Bool.false_and]
      exact Bool.false_ne_true
    have st2 : ∀ c, (bif brk then (w_x w).2.2.2.1 else (w_x w).2.2.1) = c → St T (shS σ0) any2 g w m0 e0 θ l0 (fun n u => Q (.inl (some (.inl n))) u) false 2 w A (m + 12) e (bif c then s_semi T (i + 1) else none) (mm_setf σ 311 (mm_f σ 311 + 1)) (i + 1) := fun c hc => st1.rw fun _ => by unfold s_jump; rw [hz, cond_false, hc]
    have go : ∀ c, (bif brk then (w_x w).2.2.2.1 else (w_x w).2.2.1) = c → mm_W mt3093 (MC d) Q (501, [some (.inr (.inr (3, a))), some (.inl v1), some (.inl v2), some (.inl (-1)), some (.inl (bI c)), some (.inl (mm_f (mm_setf σ 311 (mm_f σ 311 + 1)) 357))], []) (mm_setf σ 311 (mm_f σ 311 + 1)) := fun c hc => by
      rw [h57 hG1]
      exact jmp_loop hb hG1 c (fun _ => fin (-1) c _ (i + 1) (m + 12) e1 (by omega) (Nat.le_refl _) (st2 c hc)) _ 0 c (Nat.zero_add _) (by rw [nol, Bool.or_false])
    refine b3093_461 _ _ _ _ _ _ _ _ _ (br_y (by decide) ?_)
    rcases hb with ⟨h1, h2⟩ | ⟨h1, h2⟩
    · refine br_y h1 (b3093_481 _ _ _ _ _ _ _ _ _ _ ?_)
      rw [b1]
      refine br_p (fun c => ?_) (fun c => ?_)
      · refine go true ?_
        rw [h2, cond_true, b3]
        exact decide_eq_true ((nI_lt_iff (a := 0) (by decide) (by omega)).mp c)
      · refine go false ?_
        rw [h2, cond_true, b3]
        exact decide_eq_false (fun z => c ((nI_lt_iff (a := 0) (by decide) (by omega)).mpr z))
    · refine br_n (by rw [h1]; decide) (b3093_481 _ _ _ _ _ _ _ _ _ _ ?_)
      rw [k1]
      refine br_p (fun c => ?_) (fun c => ?_)
      · refine go true ?_
        rw [h2, cond_false, k3]
        exact decide_eq_true ((nI_lt_iff (a := 0) (by decide) (by omega)).mp c)
      · refine go false ?_
        rw [h2, cond_false, k3]
        exact decide_eq_false (fun z => c ((nI_lt_iff (a := 0) (by decide) (by omega)).mpr z))
  refine b3093_415 _ _ _ _ _ _ _ _ _ (st1.isName (by omega) (fun z => no (by rw [z gd]; rfl)) (fun z nz1 => st1.line (by omega) (fun z2 => ?_) (fun z2 => no (by rw [z2 gd, Bool.not_true, Bool.and_false]))))
  refine st1.rdv (fun x5 h5 => ?_)
  have h5 := h5 gd
  have z := z gd
  have z2 := z2 gd
  have st2 := st1.adv nz1
  have hG2 := st2.good
  have e2 : fN (mm_setf (mm_setf σ 311 (mm_f σ 311 + 1)) 311 (mm_f (mm_setf σ 311 (mm_f σ 311 + 1)) 311 + 1)) 315 = fN σ 315 := (fN_eq (f_other (by decide))).trans e1
  have k1 : T.1 (i + 1) = 1 := by
    unfold t_id at z
    rw [Bool.and_eq_true] at z
    exact eq_of_beq z.1
  obtain ⟨k, q1, q2⟩ := (tok (i + 1)).2 k1
  have hneg : ¬ x5 < 0 := by
    rw [← h5, show t_v T (i + 1) = nI k from q1]
    intro c
    exact absurd ((nI_lt_iff (b := 0) (by omega) (by decide)).mp c) (Nat.not_lt_zero _)
  have st3 : ∀ c, (w_x w).2.2.2.2.any (fun y => y.1 == x5 && (brk || y.2)) = c → St T (shS σ0) any2 g w m0 e0 θ l0 (fun n u => Q (.inl (some (.inl n))) u) false 2 w A (m + 12 + 12) e (bif c then s_semi T (i + 1 + 1) else none) (mm_setf (mm_setf σ 311 (mm_f σ 311 + 1)) 311 (mm_f (mm_setf σ 311 (mm_f σ 311 + 1)) 311 + 1)) (i + 1 + 1) := fun c hc => st2.rw fun _ => by
    unfold s_jump
    rw [z, z2, h5, hc]; rfl
  refine b3093_461 _ _ _ _ _ _ _ _ _ (br_n hneg ?_)
  rw [h57 hG2]
  exact jmp_loop hb hG2 _ (fun _ => fin x5 _ _ (i + 1 + 1) (m + 12 + 12) e2 (by omega) (by omega) (st3 _ rfl)) _ 0 false (Nat.zero_add _) (by rw [List.drop_zero, Bool.false_or])
end JUMP
