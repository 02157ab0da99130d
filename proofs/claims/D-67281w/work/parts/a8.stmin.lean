/-! PHASE 3. statementIn() -/
def cFor (T : sT) (ν : Nat) : Prop := ∀ (a : Nat) (w : cW), w_nu w = ν → wSl w → CI T shS any2 (50 * ν + 30) 0 1360 false 1 w (s_for T (s_lv T ν) (w_x w)) 3098 [.inr (.inr (3, a))]
/-- the first word is x -/
def s_st94 (T : sT) (E : sE) (x : sX) (i : Nat) (s0 : Int32) : sR Unit :=
  bif s0 == 33 then s_b (s_dec T E x.1 0 false (i + 1)) (fun _ k => s_semi T k) else
  bif s0 == 19 then s_b (s_cond2 T E x.1 (i + 1)) (fun _ k => s_b (s_stm E x k) (fun _ m => bif t_wd T m 11 then s_stm E x (m + 1) else s_r () m)) else
  bif s0 == 17 then s_for T E x (i + 1) else
  bif s0 == 35 then s_b (s_cond2 T E x.1 (i + 1)) (fun _ k => s_stm E (x_loop x) k) else
  bif s0 == 10 then s_b (s_stm E (x_loop x) (i + 1)) (fun _ k => s_b (s_nw T 35 k) (fun _ m => s_b (s_cond2 T E x.1 m) (fun _ q => s_r () (bif t_sg T q 8 then q + 1 else q)))) else
  bif s0 == 6 then s_jump T x false i else bif s0 == 1 then s_jump T x true i else
  bif s0 == 25 then (bif x.2.1 then (bif t_ln T (i + 1) || t_sg T (i + 1) 8 || t_sg T (i + 1) 1 || t_kd T (i + 1) 0 then s_semi T (i + 1) else s_b (s_expr T E x.1 true (i + 1)) (fun _ k => s_semi T k)) else none) else
  bif s0 == 27 then s_switch T E x (i + 1) else
  bif s0 == 29 then (bif t_ln T (i + 1) then none else s_b (s_expr T E x.1 true (i + 1)) (fun _ k => s_semi T k)) else
  bif s0 == 31 then s_try T E x (i + 1) else bif s0 == 7 then s_semi T (i + 1) else
  bif s0 == 20 || s0 == 13 then none else s_b (s_expr T E x.1 true i) (fun _ k => s_semi T k)
theorem s_stmIn_eq {T : sT} {E : sE} {x : sX} {i : Nat} {s0 : Int32} (h0 : t_sg T i 0 = false) (h8 : t_sg T i 8 = false) (hl : (t_id T i && t_sg T (i + 1) 39) = false) (hs : ∀ n : Int32, 0 ≤ n → t_wd T i n = (s0 == n)) : s_stmIn T E x i = s_st94 T E x i s0 := by
  unfold s_stmIn s_st94
  rw [h0, h8, hl, hs 33 (by decide), hs 19 (by decide), hs 17 (by decide), hs 35 (by decide), hs 10 (by decide), hs 6 (by decide), hs 1 (by decide), hs 25 (by decide), hs 27 (by decide), hs 29 (by decide), hs 31 (by decide), hs 7 (by decide), hs 20 (by decide), hs 13 (by decide)]
  rfl
theorem rwD.mono {u v : mmS} {lo : Nat} (h1 : 1 ≤ lo) (f : Fr (th u) u v) (gd : GD v) : ∀ {l : List (Nat × List Int32)} {x : Int32}, rwD u lo l x → rwD v lo l x
  | [], _, h => h
  | y :: t, x, h => by
    obtain ⟨q1, q2, q3, ⟨j, f2, q4, q5⟩, q6⟩ := h
    have fg := (f.2.2.2.2.2.2.2 gd).2.1
    have l := f.nn
    refine ⟨q1, q2, by omega, ⟨j, f2, (fg 317 (by decide) (by decide) y.1 (by omega) q3).trans q4, tlR_same (Nat.le_refl _) l (fun s s1 s2 k k1 k2 => fg s s1 s2 k (by omega) k2) _ _ f2 _ _ _ _ (Nat.le_refl _) (Nat.le_refl _) q5⟩, ?_⟩
    rw [fg 322 (by decide) (by decide) y.1 (by omega) q3]
    exact rwD.mono h1 f gd q6
theorem decS.mono {P : Prop} {u v : mmS} {lo q : Nat} {l : List Int32} {n : Int32} (h : decS P lo l q n u) (h1 : 1 ≤ lo) (f : Fr (th u) u v) (gd : GD v) : decS P lo l q n v := by
  obtain ⟨k, k1, k2, k3, k4⟩ := h
  have l := f.nn
  refine ⟨k, k1, k2, by omega, fun p => ?_⟩
  obtain ⟨ds, d1, d2⟩ := k4 p
  refine ⟨ds, ?_, d2⟩
  rw [(f.2.2.2.2.2.2.2 gd).2.1 317 (by decide) (by decide) k (by omega) k3]
  exact d1.mono h1 f gd
section STMIN
variable {T : sT} {g : Nat} {w : cW} {A : cA} {m e : Nat} {σ u : mmS} {i j : Nat}
variable {ν a d : Nat} {Q : mmQ}
theorem stmIn_94 {s0 : Int32} {wv2 wv3 wv4 wv5 : Option mmV} {m0 e0 l0 : Nat} {θ : cTh} {σ0 : mmS} (hI : cIt T ν) (ih : cAsg T ν) (hE : cEl T ν) (hR : cRst T ν) (hS : cStm T ν) (hF : cFor T ν) (hw : w_nu w = ν) (hsl : wSl w) (hd : 50 * ν + 44 ≤ d) (hq : g + 1365 ≤ GQ ν) (hm : 24 ≤ m) (hm0 : m0 ≤ m) (he : e0 ≤ e) (hl : l0 ≤ i + 1) (hlo : fN σ0 315 ≤ fN σ 315) (hs : ∀ n : Int32, 0 ≤ n → t_wd T i n = (s0 == n))
    (st : St T (shS σ0) any2 g w m0 e0 θ l0 (fun n u => Q (.inl (some (.inl n))) u) false 0 w A m e (s_st94 T (s_lv T ν) (w_x w) i s0) σ i) :
    mm_W mt3093 (MC d) Q (94, [some (.inr (.inr (3, a))), some (.inl s0), wv2, wv3, wv4, wv5], []) σ := by
  have hGQ := GQ_le ν
  have gd := st.good.2.1
  have nzS : ∀ n : Int32, 0 ≤ n → s0 = n → NZ T σ := fun n h0 hn => by
    have := hs n h0
    rw [hn, beq_self_eq_true] at this
    exact NZ_wd st.ci st.good.2.2.1.1 this
  have e1 : fN (mm_setf σ 311 (mm_f σ 311 + 1)) 315 = fN σ 315 := fN_eq (f_other (by decide))
  have gd1 : GD (mm_setf σ 311 (mm_f σ 311 + 1)) := gd
  -- behind the word
  have go : ∀ (n : Int32) (h : Nat), 0 ≤ n → s0 = n → h ≤ 1365 → St T (shS σ0) any2 g w m0 e0 θ l0 (fun n u => Q (.inl (some (.inl n))) u) false h w A (m + 12) e (s_st94 T (s_lv T ν) (w_x w) i n) (mm_setf σ 311 (mm_f σ 311 + 1)) (i + 1) := fun n h h0 hn hh => by
    have := (st.adv (nzS n h0 hn)).rise (h' := h) gd1 (by omega)
    rw [hn] at this
    exact this
  have fail : (GD σ → s_st94 T (s_lv T ν) (w_x w) i s0 = none) → mm_I (MC d) Q 3025 [.inr (.inr (3, a))] σ (fun x4 σ3 => Q (.inl (some (.inl x4))) σ3) := fun hz =>
    st.fail (by omega) hz (fun u5 ng st5 hf5 => st5.bad ng trivial)
  -- an expression, a semicolon, a node
  have ex : ∀ (k : Int32) (z : mmS → Int32) (u : mmS) (b : Bool) (A : cA) (m2 j : Nat) (K : Int32 → mmS → Prop), (∀ x2 u2, mm_V (MC d) Q 3021 [.inr (.inr (3, a))] u2 (fun σ4 => mm_I (MC d) Q 3051 [.inr (.inr (3, a)), .inl k, .inl x2, .inl (z σ4), .inl 0] σ4 (fun x5 σ5 => Q (.inl (some (.inl x5))) σ5)) → K x2 u2) → (k == 35) = false → m ≤ m2 → fN σ0 315 ≤ fN u 315 → i ≤ j → St T (shS σ0) any2 g w m0 e0 θ l0 (fun n u => Q (.inl (some (.inl n))) u) b 20 w A m2 e (s_b (s_expr T (s_lv T ν) (w_x w).1 true j) (fun _ k => s_semi T k)) u j → mm_I (MC d) Q 3074 [.inr (.inr (3, a)), .inl 1] u K := fun k z u b A m2 j K hK h35 hm2 hlo2 hj st => by
    refine St.call (h := 19) (c_expression (a := a) (inn := true) ih hw) (n_k 0) st (fun _ => rfl) (by omega) (by rw [hw]; omega) (by omega) rfl (fun v j2 B q n u2 st2 f2 hj2 hs2 hn2 => hK n u2 ?_)
    have l2 := f2.nn
    have st2 := st2.rw (r' := s_b (s_semi T j2) (fun _ k => s_r () k)) (fun _ => s_b_ret.symm)
    refine st2.semi (by omega) (fun u3 j3 st3 f3 hj3 => ?_)
    have l3 := f3.nn
    exact St.endN (h := 18) st3 (by omega) (by omega) (fun gd3 => by
      obtain ⟨_, _, y⟩ := hs2 (f3.1 gd3)
      have := y.1.2
      omega) he (fun gd3 => by have := hj3 gd3; have := hj2 (f3.1 gd3); omega) (by omega) h35
  refine b3093_94 _ _ _ _ _ _ _ _ _ (br_p (fun c => ?_) (fun c1 => br_p (fun c => ?_) (fun c6 => br_p (fun c => ?_) (fun c7 => br_p (fun c => ?_) (fun c10 => br_p (fun c => ?_) (fun c13 => br_p (fun c => ?_) (fun c17 => br_p (fun c => ?_) (fun c19 => br_p (fun c => ?_) (fun c20 => br_p (fun c => ?_) (fun c25 => br_p (fun c => ?_) (fun c27 => br_p (fun c => ?_) (fun c29 => br_p (fun c => ?_) (fun c31 => br_p (fun c => ?_) (fun c33 => br_p (fun c => ?_) (fun c35 => ?_)))))))))))))))
  · exact c_jump (brk := true) (Or.inl ⟨c, rfl⟩) ((st.rw fun _ => by rw [c]; rfl).rise gd (by omega)) (nzS 1 (by decide) c) (by omega) hm hm0 he hl hlo
  · exact c_jump (brk := false) (Or.inr ⟨c, rfl⟩) ((st.rw fun _ => by rw [c]; rfl).rise gd (by omega)) (nzS 6 (by decide) c) (by omega) hm hm0 he hl hlo
  · exact St.endS (h := 7) ((go 7 8 (by decide) c (by omega)).rw fun _ => rfl) (by omega) (by omega) (fun _ => by omega) he (fun _ => hl) (by omega) rfl
  · -- do
    have st2 := (go 10 20 (by decide) c (by omega)).rw (r' := s_b ((s_lv T ν).2.2.2.2.2.2.2 (x_loop (w_x w)) (i + 1)) (fun _ k => s_b (s_nw T 35 k) (fun _ m => s_b (s_cond2 T (s_lv T ν) (w_x w).1 m) (fun _ q => s_r () (bif t_sg T q 8 then q + 1 else q))))) (fun _ => rfl)
    refine St.call (h := 20) (c_loop hS hw ⟨hsl.2.1, hsl.2.2.1⟩ a) () st2 (fun z => nomatch z) (by omega) (by rw [hw]; omega) (by omega) rfl (fun v3 j3 B3 q3 n3 u3 st3 f3 hj3 hs3 hn3 => ?_)
    have l3 := f3.nn
    refine st3.needWord (by omega) (fun u4 st4 f4 _ => ?_)
    have l4 := f4.nn
    refine St.call (h := 19) (c_condition ih hw a) () st4 (fun _ => rfl) (by omega) (by rw [hw]; omega) (by omega) rfl (fun v5 j5 B5 q5 n5 u5 st5 f5 hj5 hs5 hn5 => ?_)
    have l5 := f5.nn
    have hj : GD u5 → i + 1 ≤ j5 := fun z => by have := hj5 z; have := hj3 (f4.1 (f5.1 z)); omega
    obtain ⟨q, q1, q2, q3'⟩ := st5.p
    refine c_eat (by omega) st5.ci.1 q1 (by omega) (fun z => ⟨rfl, ?_⟩) (fun z => ⟨rfl, ?_⟩)
    · exact St.endN (h := 18) (st5.rw fun z5 => by rw [← q3' z5, z]; rfl) (by omega) (by omega) (fun _ => by omega) he (fun z5 => by have := hj z5; omega) (by omega) rfl
    · have st6 := st5.adv ⟨q, q1, kz_lt st5.ci (fun z0 => by unfold t_sg at z; rw [z0] at z; exact absurd z (by simp)), fun z0 => by unfold t_sg at z; rw [z0] at z; exact absurd z (by simp)⟩
      rw [q1, nI_1] at st6
      have l6 : fN (mm_setf u5 311 (nI (q + 1))) 315 = fN u5 315 := fN_eq (f_other (by decide))
      exact St.endN (h := 18) (st6.rw fun z5 => by
        have z5 : GD u5 := z5
        rw [← q3' z5, z]; rfl) (by omega) (by omega) (fun _ => by omega) he (fun z5 => by have := hj z5; omega) (by omega) rfl
  · exact fail fun _ => by rw [c]; rfl
  · exact St.tail (h := 0) (hF a w hw hsl) ((go 17 0 (by decide) c (by omega)).rw fun _ => rfl) (fun z => nomatch z) (by omega) (by rw [hw]; omega) (by omega) (by omega) he (fun _ => by omega) (by omega)
  · -- if
    have st2 := (go 19 20 (by decide) c (by omega)).rw (r' := s_b (s_cond2 T (s_lv T ν) (w_x w).1 (i + 1)) (fun _ k => s_b (s_stm (s_lv T ν) (w_x w) k) (fun _ m => bif t_wd T m 11 then s_stm (s_lv T ν) (w_x w) (m + 1) else s_r () m))) (fun _ => rfl)
    refine St.call (h := 19) (c_condition ih hw a) () st2 (fun z => nomatch z) (by omega) (by rw [hw]; omega) (by omega) rfl (fun v3 j3 B3 q3 n3 u3 st3 f3 hj3 hs3 hn3 => ?_)
    have l3 := f3.nn
    refine St.call (h := 19) (hS a w hw) () st3 (fun _ => rfl) (by omega) (by rw [hw]; omega) (by omega) rfl (fun v4 j4 B4 q4 n4 u4 st4 f4 hj4 hs4 hn4 => ?_)
    have l4 := f4.nn
    have hj : GD u4 → i + 1 ≤ j4 := fun z => by have := hj4 z; have := hj3 (f4.1 z); omega
    refine st4.eatWord (by omega) (fun z => ?_) (fun u5 z st5 f5 => ?_)
    · exact St.endN (h := 18) (st4.rw fun z4 => by rw [z z4]; rfl) (by omega) (by omega) (fun _ => by omega) he (fun z4 => by have := hj z4; omega) (by omega) rfl
    · have l5 := f5.nn
      have st5 := st5.rw (r' := s_b (s_stm (s_lv T ν) (w_x w) (j4 + 1)) (fun _ k => s_r () k)) (fun z5 => by rw [z (f5.1 z5), cond_true]; exact s_b_ret.symm)
      refine St.call (h := 19) (hS a w hw) () st5 (fun _ => rfl) (by omega) (by rw [hw]; omega) (by omega) rfl (fun v6 j6 B6 q6 n6 u6 st6 f6 hj6 hs6 hn6 => ?_)
      have l6 := f6.nn
      exact St.endN (h := 18) st6 (by omega) (by omega) (fun _ => by omega) he (fun z6 => by have := hj6 z6; have := hj (f5.1 (f6.1 z6)); omega) (by omega) rfl
  · exact fail fun _ => by rw [c]; rfl
  · -- return
    have hG := st.good
    have hX := hG.2.2.2.2.1
    have h47 := hG.2.2.2.2.2.1.2
    obtain ⟨⟨s, s1, s2⟩, ⟨f, f1, f2⟩⟩ := hG.1.2.2.2.2.2.1
    have hx := hX.2.1
    have e47 : fN σ 347 = f := by
      show (mm_f σ 347).toNatClampNeg = f
      have := hG.caps
      rw [f1, nI_clamp (by omega)]
    rw [e47] at hx
    rw [f1]
    refine rd_fn hG.1 (by decide) f2 (br_p (fun c9 => ?_) (fun c9 => rd_fn hG.1 (by decide) f2 (br_p (fun c8 => ?_) (fun c8 => ?_))))
    · exact fail fun _ => by
        rw [c]
        show (bif (w_x w).2.1 then _ else none) = none
        rw [hx, c9]; rfl
    · exact fail fun _ => by
        rw [c]
        show (bif (w_x w).2.1 then _ else none) = none
        rw [hx, c8, Bool.and_comm]; rfl
    · have hx1 : (w_x w).2.1 = true := by rw [hx, beq_eq_false_iff_ne.mpr c9, beq_eq_false_iff_ne.mpr c8]; rfl
      have st2 := (go 25 20 (by decide) c (by omega)).rw (r' := bif t_ln T (i + 1) || t_sg T (i + 1) 8 || t_sg T (i + 1) 1 || t_kd T (i + 1) 0 then s_semi T (i + 1) else s_b (s_expr T (s_lv T ν) (w_x w).1 true (i + 1)) (fun _ k => s_semi T k)) (fun _ => by
        show (bif (w_x w).2.1 then _ else none) = _
        rw [hx1, cond_true])
      have w674 : (t_ln T (i + 1) || t_sg T (i + 1) 8 || t_sg T (i + 1) 1 || t_kd T (i + 1) 0) = true → ∀ (v2 : Int32) (wv4 wv5 : Option mmV), mm_W mt3093 (MC d) Q (674, [some (.inr (.inr (3, a))), some (.inl s0), some (.inl v2), some (.inl 0), wv4, wv5], []) (mm_setf σ 311 (mm_f σ 311 + 1)) := fun hz v2 wv4 wv5 =>
        b3093_674 _ _ _ _ _ _ _ _ _ (St.endS (h := 19) (st2.rw fun _ => by rw [hz]; rfl) (by omega) (by omega) (fun _ => by omega) he (fun _ => hl) (by omega) rfl)
      refine st2.line (by omega) (fun z0 => st2.sign (by omega) (fun z8 => st2.sign (by omega) (fun z1 => ?_) (fun z1 _ => w674 (by rw [z1 gd1]; simp) _ _ _)) (fun z8 _ => w674 (by rw [z8 gd1]; simp) _ _ _)) (fun z0 => w674 (by rw [z0 gd1]; rfl) _ _ _)
      refine b3093_656 _ _ _ _ _ _ _ _ _ (st2.rdk (fun x1 hk _ => br_p (fun ck => w674 ?_ _ _ _) (fun ck => ?_)))
      · unfold t_kd
        rw [hk gd1, ck]; simp
      · refine ex 71 (fun _ => 0) _ false A (m + 12) (i + 1) _ (fun x2 u2 h => b3093_674 _ _ _ _ _ _ _ _ _ h) rfl (by omega) (by omega) (by omega) (st2.rw fun _ => ?_)
        rw [z0 gd1, z8 gd1, z1 gd1, show t_kd T (i + 1) 0 = false by unfold t_kd; rw [hk gd1]; exact beq_eq_false_iff_ne.mpr ck]
        rfl
  · exact St.tail (h := 0) (c_switch hI ih hw hsl a) ((go 27 60 (by decide) c (by omega)).rw fun _ => rfl) (fun _ => rfl) (by omega) (by rw [hw]; omega) (by omega) (by omega) he (fun _ => by omega) (by omega)
  · -- throw
    have st2 := (go 29 20 (by decide) c (by omega)).rw (r' := bif t_ln T (i + 1) then none else s_b (s_expr T (s_lv T ν) (w_x w).1 true (i + 1)) (fun _ k => s_semi T k)) (fun _ => rfl)
    refine st2.line (by omega) (fun z => ?_) (fun z => ?_)
    · exact ex 74 (fun _ => 0) _ false A (m + 12) (i + 1) _ (fun x2 u2 h => h) rfl (by omega) (by omega) (by omega) (st2.rw fun _ => by rw [z gd1]; rfl)
    · exact st2.fail (by omega) (fun _ => by rw [z gd1]; rfl) (fun u5 ng st5 hf5 => st5.bad ng trivial)
  · exact St.tail (h := 0) (c_try hI ih hE hR hw hsl a) ((go 31 200 (by decide) c (by omega)).rw fun _ => rfl) (fun _ => rfl) (by omega) (by rw [hw]; omega) (by omega) (by omega) he (fun _ => by omega) (by omega)
  · -- var
    have st2 := (go 33 20 (by decide) c (by omega)).rw (r' := s_b (s_dec T (s_lv T ν) (w_x w).1 0 false (i + 1)) (fun _ k => s_semi T k)) (fun _ => rfl)
    refine St.callP (h := 20) (c := 0) (m' := m + 12 + 4) (s := 1) (bb := false) (Sh' := fun τ => decS True (fN τ 315)) (N' := nid) (r1 := s_dec T (s_lv T ν) (w_x w).1 0 false) (fun en kk => c_decl (a := a) (v1 := 0) (as := 0) ih hE hR hw (by decide) (by omega) (by omega) (by omega) (en.elim id fun z => absurd z.1 Bool.false_ne_true) kk) [] st2 (fun z => z) rfl (fun v j2 B q n u2 st3 f3 hj3 hs3 hn3 => ?_)
    have l3 := f3.nn
    have st3 := st3.rw (r' := s_b (s_semi T j2) (fun _ k => s_r () k)) (fun _ => s_b_ret.symm)
    refine st3.semi (by omega) (fun u4 j4 st4 f4 hj4 => ?_)
    have l4 := f4.nn
    refine st4.ret (fun _ => rfl) (fun _ => rfl) (fun gd4 => by have := hj4 gd4; have := hj3 (f4.1 gd4); omega) 0 (fun _ => by omega) (fun _ => he) (fun gd4 => ?_) (fun _ => trivial)
    obtain ⟨k, k1, k2, k3, -⟩ := hs3 (f4.1 gd4)
    exact ⟨k, k1, by omega, by omega⟩
  · -- while
    have st2 := (go 35 20 (by decide) c (by omega)).rw (r' := s_b (s_cond2 T (s_lv T ν) (w_x w).1 (i + 1)) (fun _ k => (s_lv T ν).2.2.2.2.2.2.2 (x_loop (w_x w)) k)) (fun _ => rfl)
    refine St.call (h := 19) (c_condition ih hw a) () st2 (fun z => nomatch z) (by omega) (by rw [hw]; omega) (by omega) rfl (fun v3 j3 B3 q3 n3 u3 st3 f3 hj3 hs3 hn3 => ?_)
    have l3 := f3.nn
    have st3 := st3.rw (r' := s_b ((s_lv T ν).2.2.2.2.2.2.2 (x_loop (w_x w)) j3) (fun _ k => s_r () k)) (fun _ => s_b_ret.symm)
    refine St.call (h := 19) (c_loop hS hw ⟨hsl.2.1, hsl.2.2.1⟩ a) () st3 (fun _ => rfl) (by omega) (by rw [hw]; omega) (by omega) rfl (fun v4 j4 B4 q4 n4 u4 st4 f4 hj4 hs4 hn4 => ?_)
    have l4 := f4.nn
    exact St.endN (h := 18) st4 (by omega) (by omega) (fun _ => by omega) he (fun z4 => by have := hj4 z4; have := hj3 (f4.1 z4); omega) (by omega) rfl
  · -- an expression
    refine ex 61 (fun _ => mm_f σ 311) σ false A m i _ (fun x2 u2 h => h) rfl (by omega) hlo (Nat.le_refl _) ((st.rw fun _ => ?_).rise gd (by omega))
    unfold s_st94
    rw [beq_eq_false_iff_ne.mpr c33, beq_eq_false_iff_ne.mpr c19, beq_eq_false_iff_ne.mpr c17, beq_eq_false_iff_ne.mpr c35, beq_eq_false_iff_ne.mpr c10, beq_eq_false_iff_ne.mpr c6, beq_eq_false_iff_ne.mpr c1, beq_eq_false_iff_ne.mpr c25, beq_eq_false_iff_ne.mpr c27, beq_eq_false_iff_ne.mpr c29, beq_eq_false_iff_ne.mpr c31, beq_eq_false_iff_ne.mpr c7, beq_eq_false_iff_ne.mpr c20, beq_eq_false_iff_ne.mpr c13]
    rfl
theorem sg_kd {s : Int32} (h : t_sg T i s = true) : T.1 i = 3 := by
  unfold t_sg at h
  rw [Bool.and_eq_true] at h
  exact eq_of_beq h.1
theorem sti_up (hI : cIt T ν) (ih : cAsg T ν) (hE : cEl T ν) (hR : cRst T ν) (hS : cStm T ν) (hF : cFor T ν) : cSti T ν := by
  intro a w hw hsl d g A m e i σ K X hd hq hm en k
  obtain ⟨d, rfl, hd⟩ := mc_pos (c := 50 * ν + 44) (by omega)
  have hGQ := GQ_le ν
  refine mc_ci (P := mt3093) (L := 6) rfl rfl ⟨by decide, Nat.le_of_ble_eq_true rfl⟩ fun Q hK hX => b3093_0 _ _ _ _ _ _ _ _ _ ?_
  have st := St.start (K := fun n u => Q (.inl (some (.inl n))) u) hq (by decide) en (fun n u rs => hK _ _ (k n u rs))
  rw [hw] at hq
  refine st.wrong (fun gd st => ?_) (fun ng => st.bad ng trivial)
  have st := st.rise (h' := 24) gd (by omega)
  refine st.sign (by omega) (fun z0 => ?_) (fun z0 _ => ?_)
  · refine st.eat (by omega) (fun z8 => ?_) (fun u1 z8 st1 f1 => ?_)
    · have w94 : ∀ (s0 : Int32) (wv2 wv3 wv4 wv5 : Option mmV), (∀ n : Int32, 0 ≤ n → t_wd T i n = (s0 == n)) → (t_id T i && t_sg T (i + 1) 39) = false → mm_W mt3093 (MC d) Q (94, [some (.inr (.inr (3, a))), some (.inl s0), wv2, wv3, wv4, wv5], []) σ := fun s0 wv2 wv3 wv4 wv5 hs hz =>
        stmIn_94 hI ih hE hR hS hF hw hsl (by omega) hq hm (Nat.le_refl _) (Nat.le_refl _) (Nat.le_refl _) (Nat.le_refl _) hs ((st.rw fun _ => s_stmIn_eq (z0 gd) (z8 gd) hz hs).rise gd (by omega))
      refine st.rdk (fun x5 h5 _ => br_p (fun c1 => ?_) (fun c1 => ?_))
      · have k1 : T.1 i = 1 := (h5 gd).trans c1
        refine st.rdv (fun x6 h6 => ?_)
        have h6 := h6 gd
        subst h6
        have hs : ∀ n : Int32, 0 ≤ n → t_wd T i n = (t_v T i == n) := fun n _ => by unfold t_wd t_v; rw [k1]; rfl
        refine b3093_67 _ _ _ _ _ _ _ _ _ _ (br_p (fun c45 => ?_) (fun c45 => w94 _ _ _ _ _ hs ?_))
        · have hid : t_id T i = true := by
            have c45 : 45 < T.2.1 i := c45
            unfold t_id
            rw [k1, decide_eq_true c45]; rfl
          refine st.signAt1 (by omega) (fun z => w94 _ _ _ _ _ hs (by rw [z gd, Bool.and_false])) (fun z _ => ?_)
          have st2 := st.rw (r' := s_b (s_label T (s_lv T ν) (w_x w) i) (fun _ k => s_r () k)) (fun _ => by
            unfold s_stmIn
            rw [z0 gd, z8 gd, hid, z gd]
            exact s_b_ret.symm)
          refine St.callP (h := 24) (c := 0) (m' := m) (s := 1) (bb := false) (Sh' := shS) (N' := any2) (r1 := s_label T (s_lv T ν) (w_x w)) (fun en kk => c_labelled (a := a) hS hw hsl (by omega) (by omega) hm (en.elim id fun z => absurd z.1 Bool.false_ne_true) k1 c45 (by rw [sg_kd (z gd)]; decide) kk) () st2 (fun z => z) rfl (fun v j B q n u2 st3 f3 hj3 hs3 hn3 => ?_)
          exact st3.ret (fun _ => rfl) (fun _ => rfl) hj3 0 (fun _ => by omega) (fun _ => Nat.le_refl _) hs3 (fun _ => trivial)
        · have c45 : ¬ 45 < T.2.1 i := c45
          unfold t_id
          rw [decide_eq_false c45, Bool.and_false]; rfl
      · have hs : ∀ n : Int32, 0 ≤ n → t_wd T i n = ((-1 : Int32) == n) := fun n hn => by
          unfold t_wd
          rw [h5 gd, beq_eq_false_iff_ne.mpr c1, Bool.false_and]
          refine (beq_eq_false_iff_ne.mpr fun z => ?_).symm
          rw [← z] at hn
          exact absurd hn (by decide)
        refine b3093_67 _ _ _ _ _ _ _ _ _ _ (br_n (by decide) (w94 _ _ _ _ _ hs ?_))
        unfold t_id
        rw [h5 gd, beq_eq_false_iff_ne.mpr c1]; rfl
    · have l1 := f1.nn
      exact St.endN (h := 23) (st1.rw fun gd1 => by unfold s_stmIn; rw [z0 gd, z8 gd]; rfl) (by omega) (by omega) (fun _ => by omega) (Nat.le_refl _) (fun _ => Nat.le_refl _) l1 rfl
  · exact St.tail (h := 0) (c_block hI hw hsl a) (st.rw fun _ => by unfold s_stmIn; rw [z0 gd]; rfl) (fun _ => rfl) (by omega) (by rw [hw]; omega) hm (Nat.le_refl _) (Nat.le_refl _) (fun _ => Nat.le_refl _) (Nat.le_refl _)
/-- var, where its names are asked for -/
theorem c_stmVar {K : Int32 → mmS → Prop} {X : Nat → mmS → Prop} (ih : cAsg T ν) (hE : cEl T ν) (hR : cRst T ν) (hw : w_nu w = ν) (hd : 50 * ν + 30 ≤ d) (hq : g + 200 ≤ GQ ν) (hm : 24 ≤ m) (hG : cG T w A m e σ i) (k1 : T.1 i = 1) (k2 : t_v T i = 33) (k : ∀ n u, Rs T (decS True (fN σ 315)) nid g w m e (th σ) (i + 1) A (s_b (s_dec T (s_lv T ν) (w_x w).1 0 false (i + 1)) (fun l k => s_b (s_semi T k) (fun _ m => s_r l m))) σ n u → K n u) :
    mm_ci (MC d) 3093 [.inr (.inr (3, a))] σ K X := by
  obtain ⟨d, rfl, hd⟩ := mc_pos (c := 50 * ν + 29) (by omega)
  have hGQ := GQ_le ν
  refine mc_ci (P := mt3093) (L := 6) rfl rfl ⟨by decide, Nat.le_of_ble_eq_true rfl⟩ fun Q hK hX => b3093_0 _ _ _ _ _ _ _ _ _ ?_
  have gd := hG.2.1
  have st : St T (decS True (fN σ 315)) nid g w m e (th σ) (i + 1) (fun n u => Q (.inl (some (.inl n))) u) false 20 w A m e (s_b (s_dec T (s_lv T ν) (w_x w).1 0 false (i + 1)) (fun l k => s_b (s_semi T k) (fun _ m => s_r l m))) σ i := Or.inl ⟨hG, tle.rfl', by omega, fun n u rs => hK _ _ (k n u rs)⟩
  have nosg : ∀ s, t_sg T i s = true → False := fun s z => by
    have := sg_kd z
    rw [k1] at this
    exact absurd this (by decide)
  have nz : NZ T σ := ⟨i, hG.2.2.1.1, kz_lt hG.1 (by rw [k1]; decide), by rw [k1]; decide⟩
  have e1 : fN (mm_setf σ 311 (mm_f σ 311 + 1)) 315 = fN σ 315 := fN_eq (f_other (by decide))
  refine br_y gd (st.sign (by omega) (fun _ => st.eat (by omega) (fun _ => st.rdk (fun x5 h5 _ => br_y ((h5 gd).symm.trans k1) (st.rdv (fun x6 h6 => ?_)))) (fun u1 z _ _ => (nosg 8 (z gd)).elim)) (fun z _ => (nosg 0 (z gd)).elim))
  have h6 : x6 = 33 := (h6 gd).symm.trans k2
  subst h6
  refine b3093_67 _ _ _ _ _ _ _ _ _ _ (br_n (by decide) (b3093_94 _ _ _ _ _ _ _ _ _ (br_n (by decide) (br_n (by decide) (br_n (by decide) (br_n (by decide) (br_n (by decide) (br_n (by decide) (br_n (by decide) (br_n (by decide) (br_n (by decide) (br_n (by decide) (br_n (by decide) (br_n (by decide) (br_y rfl ?_)))))))))))))))
  refine St.callP (h := 20) (c := 0) (m' := m + 12 + 4) (s := 1) (bb := false) (Sh' := fun τ => decS True (fN τ 315)) (N' := nid) (r1 := s_dec T (s_lv T ν) (w_x w).1 0 false) (fun en kk => c_decl (a := a) (v1 := 0) (as := 0) ih hE hR hw (by decide) (by omega) (by omega) (by omega) (en.elim id fun z => absurd z.1 Bool.false_ne_true) kk) [] (st.adv nz) (fun z => z) rfl (fun v j2 B q n u2 st3 f3 hj3 hs3 hn3 => ?_)
  have l3 := f3.nn
  refine st3.semi (by omega) (fun u4 j4 st4 f4 hj4 => ?_)
  refine st4.ret (fun _ => rfl) (fun _ => rfl) (fun gd4 => by have := hj4 gd4; have := hj3 (f4.1 gd4); omega) 0 (fun _ => by omega) (fun _ => Nat.le_refl _) (fun gd4 => ?_) (fun _ => ?_)
  rotate_left
  · refine nid.mono ?_ f4
    by_cases gd2 : GD u2
    · obtain ⟨kk, k1, k2, k3, -⟩ := hs3 gd2
      exact ⟨kk, k1, k3⟩
    · exact hn3 gd2
  have := (hs3 (f4.1 gd4))
  rw [e1] at this
  exact this.mono hG.1.2.1.2.1 f4 gd4
end STMIN
