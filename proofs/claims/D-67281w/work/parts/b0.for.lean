/-! PHASE 3. forPlain(), forEach() -/
section FOR
variable {β : Type} {T : sT} {Sh : β → Nat → Int32 → mmS → Prop} {N : Int32 → mmS → Prop} {g : Nat} {w0 : cW} {m0 e0 : Nat} {θ : cTh} {l0 : Nat} {Z : Int32 → mmS → Prop} {b : Bool} {h : Nat} {w : cW} {A : cA} {m e : Nat} {r : sR β} {σ u : mmS} {i j : Nat}
variable {ν a d : Nat} {Q : mmQ}
theorem cB.overA (h : cB T (g + 1250) σ) : cB T g (mm_setf σ 311 (mm_f σ 311 + 1)) := by
  obtain ⟨h1, h2, ⟨q, q1, q2, q3, q4, h4, h5, h6⟩, n, u1, u2⟩ := h
  have f (j : Nat) (hj : j ≠ 311) : mm_f (mm_setf σ 311 (mm_f σ 311 + 1)) j = mm_f σ j := f_other hj
  have fe (j : Nat) (hj : j ≠ 311) := fN_eq (f j hj)
  have hl := pot_le (T := T) (q := q + 1)
  refine ⟨h1.setf rfl, (f 303 (by decide)).trans h2, ⟨q + 1, by rw [f_same, q1]; exact (nI_succ _).symm, by omega, by omega, ?_, ?_, ?_, ?_⟩, n, (f 360 (by decide)).trans u1, u2⟩
  · rw [fe 315 (by decide)]; omega
  · rw [fe 324 (by decide)]; omega
  · rw [fe 336 (by decide)]; omega
  · rw [fe 325 (by decide)]; omega
theorem c_forPlain {v1 : Int32} (ih : cAsg T ν) (hS : cStm T ν) (hw : w_nu w = ν) (hsl : lkSl w) (a : Nat) : CI T shS nid (50 * ν + 13) 8 30 true 1 w (s_fplain T (s_lv T ν) (w_x w)) 3101 [.inr (.inr (3, a)), .inl v1] := by
  intro d g A m e i σ K X hd hq hm en k
  obtain ⟨d, rfl, hd⟩ := mc_pos (c := 50 * ν + 12) (by omega)
  refine mc_ci (P := mt3101) (L := 6) rfl rfl ⟨by decide, Nat.le_of_ble_eq_true rfl⟩ fun Q hK hX => b3101_0 _ _ _ _ _ _ _ _ _ ?_
  have st := St.start (K := fun n u => Q (.inl (some (.inl n))) u) hq (by decide) en (fun n u rs => hK _ _ (k n u rs))
  have hGQ := GQ_le ν
  rw [hw] at hq
  have n1 := st.ci.2.1.2.1
  -- behind the third part
  have w48 : ∀ (v2 s0 : Int32) (wv3 wv4 wv5 : Option mmV) (u : mmS) (A : cA) (m2 j : Nat), fN σ 315 ≤ fN u 315 → m ≤ m2 → (GD u → i + 1 ≤ j) → St T (shS σ) nid g w m e (th σ) (i + 1) (fun n u => Q (.inl (some (.inl n))) u) true 6 w A m2 e (s_b (s_nd T 3 j) (fun _ u => s_stm (s_lv T ν) (x_loop (w_x w)) u)) u j → mm_W mt3101 (MC d) Q (48, [some (.inr (.inr (3, a))), some (.inl v1), some (.inl v2), wv3, wv4, wv5], [.inl s0]) u := fun v2 s0 wv3 wv4 wv5 u A m2 j hlo hm2 hj st => by
    refine b3101_48 _ _ _ _ _ _ _ _ _ _ (st.need (by omega) (fun u1 st1 f1 _ => ?_))
    have l1 := f1.nn
    refine St.node (h := 5) st1 (by omega) (by omega) (fun n2 u2 st2 f2 nw => ?_)
    have l2 := f2.nn
    have e2 := nw.2.1
    have ow := own_new nw f2 st1
    have st2 := st2.rw (r' := s_b ((s_lv T ν).2.2.2.2.2.2.2 (x_loop (w_x w)) (j + 1)) (fun _ k => s_r () k)) (fun _ => s_b_ret.symm)
    refine St.call (h := 5) (c_loop hS hw hsl a) () st2 (fun _ => rfl) (by omega) (by rw [hw]; omega) (by omega) rfl (fun v3 j3 B3 q3 n3 u3 st3 f3 hj3 hs3 hn3 => ?_)
    have l3 := f3.nn
    refine st3.setown (by decide) (ow.mono f3) (fun t t1 t2 st4 f4 => ?_)
    have hk : fN u1 315 < fN (mm_seta u3 320 t n3) 315 := by show fN u1 315 < fN u3 315; omega
    exact st4.ret (fun _ => rfl) (fun _ => rfl) (fun gd => by have := hj3 gd; have := hj (f1.1 (f2.1 (f3.1 gd))); omega) 0 (fun _ => by omega) (fun _ => Nat.le_refl _) (fun gd => ⟨fN u1 315, nw.1, by omega, hk⟩) (fun _ => ⟨fN u1 315, nw.1, hk⟩)
  -- behind the second
  have w24 : ∀ (s0 : Int32) (wv2 wv3 wv4 wv5 : Option mmV) (u : mmS) (A : cA) (m2 j : Nat), fN σ 315 ≤ fN u 315 → m ≤ m2 → (GD u → i + 1 ≤ j) → St T (shS σ) nid g w m e (th σ) (i + 1) (fun n u => Q (.inl (some (.inl n))) u) true 7 w A m2 e (s_b (s_nd T 8 j) (fun _ m => s_b (bif t_sg T m 3 then s_r () m else s_b (s_expr T (s_lv T ν) (w_x w).1 true m) (fun _ q => s_r () q)) (fun _ q => s_b (s_nd T 3 q) (fun _ u => s_stm (s_lv T ν) (x_loop (w_x w)) u)))) u j → mm_W mt3101 (MC d) Q (24, [some (.inr (.inr (3, a))), some (.inl v1), wv2, wv3, wv4, wv5], [.inl s0]) u := fun s0 wv2 wv3 wv4 wv5 u A m2 j hlo hm2 hj st => by
    refine b3101_24 _ _ _ _ _ _ _ _ _ _ (st.need (by omega) (fun u1 st1 f1 _ => ?_))
    have l1 := f1.nn
    refine st1.sign (by omega) (fun z => ?_) (fun z _ => ?_)
    · have st1 := st1.rw (r' := s_b (s_expr T (s_lv T ν) (w_x w).1 true (j + 1)) (fun _ q => s_b (s_nd T 3 q) (fun _ u => s_stm (s_lv T ν) (x_loop (w_x w)) u))) (fun gd => by rw [z gd, cond_false]; exact s_b_un)
      refine St.call (h := 6) (c_expression (a := a) (inn := true) ih hw) (n_k 0) st1 (fun _ => rfl) (by omega) (by rw [hw]; omega) (by omega) rfl (fun v3 j3 B3 q3 n3 u3 st3 f3 hj3 hs3 hn3 => ?_)
      have l3 := f3.nn
      exact w48 _ _ _ _ _ u3 B3 _ j3 (by omega) (by omega) (fun gd => by have := hj3 gd; have := hj (f1.1 (f3.1 gd)); omega) st3
    · exact w48 _ _ _ _ _ u1 A _ (j + 1) (by omega) (by omega) (fun gd => by have := hj (f1.1 gd); omega) ((st1.rw fun gd => by rw [z gd, cond_true, s_b_r]).mono (by omega))
  refine St.need (f := fun _ j => s_b (bif t_sg T j 8 then s_r () j else s_b (s_expr T (s_lv T ν) (w_x w).1 true j) (fun _ k => s_r () k)) (fun _ k => s_b (s_nd T 8 k) (fun _ m => s_b (bif t_sg T m 3 then s_r () m else s_b (s_expr T (s_lv T ν) (w_x w).1 true m) (fun _ q => s_r () q)) (fun _ q => s_b (s_nd T 3 q) (fun _ u => s_stm (s_lv T ν) (x_loop (w_x w)) u))))) st (by omega) (fun u1 st1 f1 _ => ?_)
  have l1 := f1.nn
  refine st1.sign (by omega) (fun z => ?_) (fun z _ => ?_)
  · have st1 := st1.rw (r' := s_b (s_expr T (s_lv T ν) (w_x w).1 true (i + 1)) (fun _ k => s_b (s_nd T 8 k) (fun _ m => s_b (bif t_sg T m 3 then s_r () m else s_b (s_expr T (s_lv T ν) (w_x w).1 true m) (fun _ q => s_r () q)) (fun _ q => s_b (s_nd T 3 q) (fun _ u => s_stm (s_lv T ν) (x_loop (w_x w)) u))))) (fun gd => by rw [z gd, cond_false]; exact s_b_un)
    refine St.call (h := 7) (c_expression (a := a) (inn := true) ih hw) (n_k 0) st1 (fun _ => rfl) (by omega) (by rw [hw]; omega) (by omega) rfl (fun v3 j3 B3 q3 n3 u3 st3 f3 hj3 hs3 hn3 => ?_)
    have l3 := f3.nn
    exact w24 _ _ _ _ _ u3 B3 _ j3 (by omega) (by omega) (fun gd => by have := hj3 gd; omega) st3
  · exact w24 _ _ _ _ _ u1 A _ (i + 1) (by omega) (by omega) (fun _ => Nat.le_refl _) ((st1.rw fun gd => by rw [z gd, cond_true, s_b_r]).mono (by omega))
theorem c_forEach {v1 v2 : Int32} {K : Int32 → mmS → Prop} {X : Nat → mmS → Prop} (ih : cAsg T ν) (hS : cStm T ν) (hw : w_nu w = ν) (hsl : lkSl w) (hd : 50 * ν + 14 ≤ d) (hq : g + 30 ≤ GQ ν) (hm : 24 ≤ m) (en : cG T w A m e σ i ∨ (true = true ∧ cB T (g + 20) σ)) (hnz : GD σ → NZ T σ) (ha : ¬ GD σ → cB T (g + 20) (mm_setf σ 311 (mm_f σ 311 + 1))) (k : ∀ n u, Rs T (shS σ) nid g w m e (th σ) (i + 1) A (s_feach T (s_lv T ν) (w_x w) i) σ n u → K n u) :
    mm_ci (MC d) 3099 [.inr (.inr (3, a)), .inl v1, .inl v2] σ K X := by
  obtain ⟨d, rfl, hd⟩ := mc_pos (c := 50 * ν + 13) (by omega)
  have hGQ := GQ_le ν
  refine mc_ci (P := mt3099) (L := 7) rfl rfl ⟨by decide, Nat.le_of_ble_eq_true rfl⟩ fun Q hK hX => b3099_0 _ _ _ _ _ _ _ _ _ _ ?_
  have st : St T (shS σ) nid g w m e (th σ) (i + 1) (fun n u => Q (.inl (some (.inl n))) u) true 20 w A m e (s_feach T (s_lv T ν) (w_x w) i) σ i := by
    rcases en with hG | ⟨-, hB⟩
    · exact Or.inl ⟨hG, tle.rfl', by omega, fun n u rs => hK _ _ (k n u rs)⟩
    · exact Or.inr ⟨rfl, hB, fun n u f c hn => hK _ _ (k n u ⟨f, Or.inr ⟨Or.inr hB.no, c, hn⟩⟩)⟩
  have n1 := st.ci.2.1.2.1
  have e1 : fN (mm_setf σ 311 (mm_f σ 311 + 1)) 315 = fN σ 315 := fN_eq (f_other (by decide))
  have st1 : St T (shS σ) nid g w m e (th σ) (i + 1) (fun n u => Q (.inl (some (.inl n))) u) true 20 w A (m + 12) e (s_feach T (s_lv T ν) (w_x w) i) (mm_setf σ 311 (mm_f σ 311 + 1)) (i + 1) :=
    st.same (Fr.setf rfl (by decide) (by decide) (by decide) (by decide) (by decide) (by decide)) (fun _ => by rw [th_setf (by decide) (by decide) (by decide) (by decide)]; exact tle.rfl') (fun gd => st.tl.2 gd) (fun q => q.adv (hnz q.2.1)) (fun c => ha c.no)
  have w34 : ∀ (v3 s0 : Int32) (wv4 wv5 wv6 : Option mmV) (u : mmS) (B : cA) (m2 j : Nat), fN σ 315 ≤ fN u 315 → m + 12 ≤ m2 → (GD u → i + 1 ≤ j) → St T (shS σ) nid g w m e (th σ) (i + 1) (fun n u => Q (.inl (some (.inl n))) u) true 19 w B m2 e (s_b (s_nd T 3 j) (fun _ u => s_stm (s_lv T ν) (x_loop (w_x w)) u)) u j → mm_W mt3099 (MC d) Q (34, [some (.inr (.inr (3, a))), some (.inl v1), some (.inl v2), some (.inl v3), wv4, wv5, wv6], [.inl s0]) u := fun v3 s0 wv4 wv5 wv6 u B m2 j hlo hm2 hj st => by
    refine b3099_34 _ _ _ _ _ _ _ _ _ _ _ (st.need (by omega) (fun u1 st1 f1 _ => ?_))
    have l1 := f1.nn
    have w53 : ∀ (s1 : Int32), (s1 == 35) = false → mm_W mt3099 (MC d) Q (53, [some (.inr (.inr (3, a))), some (.inl v1), some (.inl v2), some (.inl v3), some (.inl s0), wv5, wv6], [.inl s1, .inr (.inr (3, a))]) u1 := fun s1 h35 => by
      refine b3099_53 _ _ _ _ _ _ _ _ _ _ _ _ (St.node5 (h := 18) st1 (by omega) (by omega) (fun n2 u2 st2 f2 nw => ?_) (Or.inl h35))
      have l2 := f2.nn
      have e2 := nw.2.1
      have ow := own_new nw f2 st1
      have st2 := st2.rw (r' := s_b ((s_lv T ν).2.2.2.2.2.2.2 (x_loop (w_x w)) (j + 1)) (fun _ k => s_r () k)) (fun _ => s_b_ret.symm)
      refine St.call (h := 18) (c_loop hS hw hsl a) () st2 (fun _ => rfl) (by omega) (by rw [hw]; omega) (by omega) rfl (fun v3 j3 B3 q3 n3 u3 st3 f3 hj3 hs3 hn3 => ?_)
      have l3 := f3.nn
      refine st3.setown (by decide) (ow.mono f3) (fun t t1 t2 st4 f4 => ?_)
      have hk : fN u1 315 < fN (mm_seta u3 319 t n3) 315 := by show fN u1 315 < fN u3 315; omega
      exact st4.ret (fun _ => rfl) (fun _ => rfl) (fun gd => by have := hj3 gd; have := hj (f1.1 (f2.1 (f3.1 gd))); omega) 0 (fun _ => by omega) (fun _ => Nat.le_refl _) (fun gd => ⟨fN u1 315, nw.1, by omega, hk⟩) (fun _ => ⟨fN u1 315, nw.1, hk⟩)
    exact br_p (fun _ => w53 65 rfl) (fun _ => w53 66 rfl)
  obtain ⟨q, q1, q2, q3⟩ := st.p
  refine c_isWord (by omega) st.ci.1 q1 (by omega) (br_0 (fun z => ?_) (fun z => ?_))
  · have st2 := st1.rw (r' := s_b (s_expr T (s_lv T ν) (w_x w).1 true (i + 1)) (fun _ k => s_b (s_nd T 3 k) (fun _ u => s_stm (s_lv T ν) (x_loop (w_x w)) u))) (fun gd => by
      have gd : GD σ := gd
      unfold s_feach
      rw [← q3 gd, z, cond_false]
      exact s_b_un)
    refine St.call (h := 19) (c_expression (a := a) (inn := true) ih hw) (n_k 0) st2 (fun _ => rfl) (by omega) (by rw [hw]; omega) (by omega) rfl (fun v3 j3 B3 q3 n3 u3 st3 f3 hj3 hs3 hn3 => ?_)
    have l3 := f3.nn
    exact w34 _ _ _ _ _ u3 B3 _ j3 (by omega) (by omega) (fun gd => by have := hj3 gd; omega) st3
  · have st2 := st1.rw (r' := s_b ((s_lv T ν).1 (w_x w).1 true (i + 1)) (fun _ k => s_b (s_nd T 3 k) (fun _ u => s_stm (s_lv T ν) (x_loop (w_x w)) u))) (fun gd => by
      have gd : GD σ := gd
      unfold s_feach
      rw [← q3 gd, z, cond_true]
      exact s_b_un)
    refine St.call (h := 20) (ih a w true hw) (n_k 0) st2 (fun _ => rfl) (by omega) (by rw [hw]; omega) (by omega) rfl (fun v3 j3 B3 q3 n3 u3 st3 f3 hj3 hs3 hn3 => ?_)
    have l3 := f3.nn
    exact w34 _ _ _ _ _ u3 B3 _ j3 (by omega) (by omega) (fun gd => by have := hj3 gd; omega) (st3.mono (by omega))
end FOR
