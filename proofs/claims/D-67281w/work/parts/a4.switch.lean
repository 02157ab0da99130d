/-! PHASE 3. switchAt() -/
section SCOPE2
variable {T : sT} {w : cW} {A A' : cA} {m e m' e' B sc : Nat} {σ u : mmS} {i j : Nat}
/-- within a scope; what has failed there may be left without a word -/
theorem St.scope2 {β : Type} {Sh : β → Nat → Int32 → mmS → Prop} {g : Nat} {w0 : cW} {m0 e0 : Nat} {θ : cTh} {l0 : Nat} {Z : Int32 → mmS → Prop} {b : Bool} {h h' : Nat} {r r0 : sR β} {y : Int32} {es es2 : hC} (st : St T Sh any2 g w0 m0 e0 θ l0 Z b h w A m e r0 σ i) (hw : GD σ → w = w0) (hy : ∃ sc, y = nI sc ∧ sc < fN σ 324) (hy2 : GD σ → y = mm_f σ 346)
    (hs : GD σ → sim (fun L L' => (∃ x a, L = (x, a) :: L') ∧ L'.map (·.1) = A.1.map (·.1)) (run (w_in w0) (es, A.2) r) (run (w_in w0) A r0)) (hf : Fr (th σ) σ u) (h26 : GD σ → mm_a u 326 (fN σ 324) = mm_f σ 346) (h24 : fN σ 324 < fN u 324)
    (hg : cG T w A m e σ i → cG T (psW w B (fN σ 324)) (es, A.2) m' e' u i) (hb : cB T (g + h) σ → cB T (g + h') u) (hh : GD σ → g + h' ≤ 69500) :
    St T (fun v q n u => Sh v q n (mm_setf u 346 y)) any2 g (psW w B (fN σ 324)) m0 e0 θ l0 (fun n v => Z n (mm_setf v 346 y) ∧ (¬ GD v → Z n v)) b h' (psW w B (fN σ 324)) (es, A.2) m' e' r u i := by
  have I2 : ∀ {v : mmS} {θ' : cTh}, Fr θ' σ v → cI T v → cI T (mm_setf v 346 y) := fun f I => by
    obtain ⟨sc, z1, z2⟩ := hy
    rw [z1]
    exact I.scope (by have := f.2.2.2.2.1.2.1; omega)
  rcases st with ⟨q1, q2, q3, q4⟩ | ⟨q1, q2, q3⟩
  · have gd := q1.2.1
    have gu := hg q1
    have hw := hw gd
    subst hw
    have hy2 := hy2 gd
    subst hy2
    have tl : tle (th σ) (th u) := th_le2 q1 gu hf (Nat.le_refl _)
    refine Or.inl ⟨gu, ⟨Nat.le_trans q2.1 tl.1, Nat.le_trans q2.2.1 tl.2.1, Nat.le_trans q2.2.2.1 tl.2.2.1, Nat.le_trans q2.2.2.2 tl.2.2.2⟩, hh gd, fun n v rs => ?_⟩
    obtain ⟨f2, rs⟩ := rs
    have f1 : Fr θ σ v := (hf.mono fun _ => q2).trans f2
    rcases rs with ⟨v1, j, B1, q, x1, x2, x3, x4⟩ | ⟨x1, x2, x3⟩
    · obtain ⟨B2, s1, s2, ⟨x, a, s3⟩, s4⟩ := (hs gd).some x1
      refine ⟨q4 n _ ⟨f1.trans Fr_346, Or.inl ⟨v1, j, B2, q, s1, ?_, x3, x4⟩⟩, fun ng => absurd x2.2.1 ng⟩
      have := q1.pop (u := v) x2 s3 s4 f1 (by rw [up_326 f2 h24, h26 gd])
      rw [show B2 = (B2.1, B1.2) from Prod.ext rfl s2.symm]
      exact this
    · have x1' : run (w_in w) A r0 = none := by
        rcases x1 with x1 | x1
        · exact (hs gd).none x1
        · exact absurd gu.2.1 x1
      exact ⟨q4 n _ ⟨f1.trans Fr_346, Or.inr ⟨Or.inl x1', cB.s346 x2 (I2 f1 x2.1), trivial⟩⟩, fun _ => q4 n _ ⟨f1, Or.inr ⟨Or.inl x1', x2, trivial⟩⟩⟩
  · exact Or.inr ⟨q1, hb q2, fun n v f c hn => ⟨q3 n _ (((hf.mono fun z => absurd z q2.no).trans f).trans Fr_346) (cB.s346 c (I2 ((hf.mono fun z => absurd z q2.no).trans f) c.1)) trivial, fun _ => q3 n _ ((hf.mono fun z => absurd z q2.no).trans f) c trivial⟩⟩
theorem sim_mono {β : Type} {F G : hC → hC → Prop} {x y : Option (β × Nat × cA)} (h : sim F x y) (hFG : ∀ L L', F L L' → G L L') : sim G x y := by
  cases x with
  | none =>
    cases y with
    | none => trivial
    | some z => exact h.elim
  | some z =>
    obtain ⟨v, j, B⟩ := z
    cases y with
    | none => exact h.elim
    | some z2 =>
      obtain ⟨v2, j2, B2⟩ := z2
      exact ⟨h.1, h.2.1, h.2.2.1, hFG _ _ h.2.2.2⟩
theorem St.intoS2 {β : Type} {Sh : β → Nat → Int32 → mmS → Prop} {g : Nat} {w0 : cW} {m0 e0 : Nat} {θ : cTh} {l0 : Nat} {Z : Int32 → mmS → Prop} {b : Bool} {h a d : Nat} {Q : mmQ} {r : sR β} {x y : Int32} {C : Int32 → mmS → Prop} (st : St T Sh any2 g w0 m0 e0 θ l0 Z b (h + 16) w A m e (s_blk r) σ i) (hev : ev eS r) (ct : h_top x = false) (c27 : (x == 2 || x == 7) = false) (hd : 3 ≤ d) (hm : 4 ≤ m) (hw : GD σ → w = w0) (hB : GD σ → w_B w + 1 ≤ 2 * (48 - w_nu w) + 3) (hy : ∃ sc, y = nI sc ∧ sc < fN σ 324) (hy2 : GD σ → y = mm_f σ 346)
    (k : ∀ u sc, St T (fun v q n u => Sh v q n (mm_setf u 346 y)) any2 g (psW w (w_B w + 1) sc) m0 e0 θ l0 (fun n v => Z n (mm_setf v 346 y) ∧ (¬ GD v → Z n v)) b h (psW w (w_B w + 1) sc) ((x, []) :: A.1, A.2) (m - 4) e r u i → Fr (th σ) σ u → (∀ k, k ≠ 324 → k ≠ 346 → mm_f u k = mm_f σ k) → sc < fN u 324 → (GD u → mm_a u 326 sc = mm_f σ 346) → C (nI sc) u) : mm_I (MC d) Q 3017 [.inr (.inr (3, a)), .inl x] σ C :=
  c_OS hd st.ci st.cap.2.1 (fun u o f => k u (fN σ 324) (st.scope2 (B := w_B w + 1) (y := y) (es := (x, []) :: A.1) (es2 := []) (h' := h) (m' := m - 4) (e' := e) hw hy hy2 (fun _ => sim_mono (run_blkM hev ct c27) fun L L' q => ⟨⟨x, q.1⟩, q.2⟩) f (fun _ => (OS_row o).1) (by rw [o.1.2.1]; omega) (fun q => q.OS o hm (by rw [ct]; exact Nat.le_refl _) (hB q.2.1)) (fun q => by rw [← Nat.add_assoc] at q; exact cB.OS q o) (fun gd => by have := st.tl.2 gd; omega)) f (fun _ h4 h6 => OS_f o h4 h6) (by rw [o.1.2.1]; omega) (fun _ => (OS_row o).1))
end SCOPE2
section SWITCH
variable {β : Type} {T : sT} {Sh : Unit → Nat → Int32 → mmS → Prop} {N : Int32 → mmS → Prop} {g : Nat} {w0 : cW} {m0 e0 : Nat} {θ : cTh} {l0 : Nat} {Z : Int32 → mmS → Prop} {b : Bool} {h : Nat} {w : cW} {A : cA} {m e : Nat} {σ u : mmS} {i j : Nat}
variable {ν a d : Nat} {Q : mmQ}
theorem sw_loop {x : sX} {τ0 : mmS} {v1 v2 v3 v4 : Int32} (hx : w_x w = x_brk x) (hI : cIt T ν) (ih : cAsg T ν) (hw : w_nu w = ν) (hin : w_in w = w_in w0) (hd : 50 * ν + 12 ≤ d) (hq : g + 30 ≤ GQ ν)
    (hf9 : ∀ (b : Bool) (h : Nat) (A : cA) (m j : Nat) (r : sR Unit) (u : mmS), St T Sh N g w0 m0 e θ l0 Z b h w A m e r u j → (GD u → r = none) → mm_I (MC d) Q 3025 [.inr (.inr (3, a))] u (fun x9 σ8 => Q (.inl (some (.inl x9))) σ8))
    (fin : ∀ (b : Bool) (h : Nat) (A : cA) (m j : Nat) (u : mmS) (v5 v6 : Int32) (wv7 wv8 : Option mmV), St T Sh N g w0 m0 e θ l0 Z b h w A m e (s_b (s_nd T 1 j) (fun _ k => s_r () k)) u j → (GD u → l0 ≤ j) → m0 ≤ m → own θ v4 u → (GD u → GD τ0) → mm_W mt3105 (MC d) Q (166, [some (.inr (.inr (3, a))), some (.inl v1), some (.inl v2), some (.inl v3), some (.inl v4), some (.inl v5), some (.inl v6), wv7, wv8], []) u)
    (f : Nat) : ∀ (b : Bool) (h : Nat) (A : cA) (m j : Nat) (σ : mmS) (other : Bool) (v5 v6 : Int32) (wv7 wv8 : Option mmV), (GD σ → 12 ≤ h) → (GD σ → l0 ≤ j) → (GD σ → t_e T < f + j) → 24 ≤ m → m0 ≤ m → own θ v4 σ → (¬ v5 = 0 → own θ v5 σ) → v6 = bI other → (GD σ → GD τ0) →
    St T Sh N g w0 m0 e θ l0 Z b h w A m e (s_swL T (s_lv T ν) x f other j) σ j → mm_W mt3105 (MC d) Q (56, [some (.inr (.inr (3, a))), some (.inl v1), some (.inl v2), some (.inl v3), some (.inl v4), some (.inl v5), some (.inl v6), wv7, wv8], []) σ := by
  have hGQ := GQ_le ν
  have hx1 : x.1 = (w_x w).1 := by rw [hx]; rfl
  induction f with
  | zero =>
    intro b h A m j σ other v5 v6 wv7 wv8 hh hl hf hm hm0 o4 o5 h6 hτ st
    refine b3105_56 _ _ _ _ _ _ _ _ _ _ _ _ (st.wrong (fun gd st => ?_) (fun ng => fin b h A m j σ v5 v6 _ _ (st.rw fun gd => absurd gd ng) hl hm0 o4 hτ))
    have := hf gd
    have := (st.gd gd).2.2.1.2
    omega
  | succ f IH =>
    intro b h A m j σ other v5 v6 wv7 wv8 hh hl hf hm hm0 o4 o5 h6 hτ st
    refine b3105_56 _ _ _ _ _ _ _ _ _ _ _ _ (st.wrong (fun gd st => ?_) (fun ng => fin b h A m j σ v5 v6 _ _ (st.rw fun gd => absurd gd ng) hl hm0 o4 hτ))
    have st := st.mono (hh gd)
    have hl := hl gd
    have hf := hf gd
    have w111 : ∀ (u : mmS) (A : cA) (m2 k : Nat) (other2 : Bool) (v6 v7 : Int32) (wv8 : Option mmV), v6 = bI other2 → (GD u → j + 1 ≤ k) → m ≤ m2 → St T Sh N g w0 m0 e θ l0 Z true 11 w A m2 e (s_b (s_nd T 39 k) (fun _ m => s_b (s_list T (s_lv T ν) (x_brk x) m) (fun _ q => s_swL T (s_lv T ν) x f other2 q))) u k → own θ v4 u → (¬ v5 = 0 → own θ v5 u) →
        mm_W mt3105 (MC d) Q (111, [some (.inr (.inr (3, a))), some (.inl v1), some (.inl v2), some (.inl v3), some (.inl v4), some (.inl v5), some (.inl v6), some (.inl v7), wv8], []) u := fun u A m2 k other2 v6 v7 wv8 h6 hk hm2 st o4 o5 => by
      refine b3105_111 _ _ _ _ _ _ _ _ _ _ _ _ (st.need (by omega) (fun u1 st1 f1 _ => ?_))
      rw [← hx] at st1
      refine St.call (h := 10) (c_list hI hw a) () st1 (fun _ => rfl) (by omega) (by rw [hw]; omega) (by omega) hin (fun v j2 B q n u2 st2 f2 hj2 hs2 hn2 => ?_)
      refine St.node (h := 9) st2 (by omega) (by omega) (fun n3 u3 st3 f3 nw => ?_)
      have o3 : own θ n3 u3 := own_new nw f3 st2
      have hj : GD u3 → j + 2 ≤ j2 := fun g3 => by have := hj2 (f3.1 g3); have := hk (f1.1 (f2.1 (f3.1 g3))); omega
      have next : ∀ (u4 : mmS), St T Sh N g w0 m0 e θ l0 Z true 9 w B (m2 + 12 + q - 1) e (s_swL T (s_lv T ν) x f other2 j2) u4 j2 → Fr θ u3 u4 → mm_W mt3105 (MC d) Q (56, [some (.inr (.inr (3, a))), some (.inl v1), some (.inl v2), some (.inl v3), some (.inl v4), some (.inl n3), some (.inl v6), some (.inl v7), some (.inl n3)], []) u4 := fun u4 st4 f4 => by
        by_cases g4 : GD u4
        · have := hj (f4.1 g4)
          exact IH true 12 B _ j2 u4 other2 n3 v6 _ _ (fun _ => Nat.le_refl _) (fun _ => by omega) (fun _ => by omega) (by omega) (by omega) ((((o4.mono f1).mono f2).mono f3).mono f4) (fun _ => o3.mono f4) h6 (fun _ => hτ gd) (st4.rise g4 (by omega))
        · exact IH true 9 B _ j2 u4 other2 n3 v6 _ _ (fun z => absurd z g4) (fun z => absurd z g4) (fun z => absurd z g4) (by omega) (by omega) ((((o4.mono f1).mono f2).mono f3).mono f4) (fun _ => o3.mono f4) h6 (fun _ => hτ gd) st4
      refine br_p (fun c5 => ?_) (fun c5 => ?_)
      · exact st3.setown (by decide) (((o4.mono f1).mono f2).mono f3) (fun t t1 t2 st4 f4 => next _ st4 f4)
      · exact st3.setown (by decide) ((((o5 c5).mono f1).mono f2).mono f3) (fun t t1 t2 st4 f4 => next _ st4 f4)
    refine st.sign (by omega) (fun z1 => ?_) (fun z1 nz => ?_)
    · refine st.eatWord (by omega) (fun z8 => ?_) (fun u1 z8 st1 f1 => ?_)
      · have st1 := st.rw (r' := s_b (s_nw T 2 j) (fun _ k => s_b (s_expr T (s_lv T ν) (w_x w).1 true k) (fun _ m => s_b (s_nd T 39 m) (fun _ m => s_b (s_list T (s_lv T ν) (x_brk x) m) (fun _ q => s_swL T (s_lv T ν) x f other q))))) (fun _ => by
          rw [s_swL, z1 gd, z8 gd, Bool.or_false, hx1, cond_false, cond_false, s_b_b]
          exact congrArg _ (funext fun _ => funext fun k => s_b_un))
        refine st1.needWord (by omega) (fun u2 st2 f2 _ => ?_)
        refine St.call (h := 11) (c_expression (a := a) (inn := true) ih hw) (n_k 0) st2 (fun _ => rfl) (by omega) (by rw [hw]; omega) (by omega) hin (fun v j2 B q n u3 st3 f3 hj3 hs3 hn3 => ?_)
        exact w111 u3 B _ j2 other v6 n _ h6 (fun g3 => by have := hj3 g3; omega) (by omega) st3 ((o4.mono f2).mono f3) (fun z => ((o5 z).mono f2).mono f3)
      · have st1 := st1.rw (r' := s_b (bif other then none else s_r () (j + 1)) (fun _ k => s_b (s_nd T 39 k) (fun _ m => s_b (s_list T (s_lv T ν) (x_brk x) m) (fun _ q => s_swL T (s_lv T ν) x f true q)))) (fun g1 => by
          rw [s_swL, z1 gd, z8 gd, Bool.or_true]; rfl)
        refine br_p (fun c6 => ?_) (fun c6 => ?_)
        · have ho : other = false := bI_0.mp (h6.symm.trans c6)
          subst ho
          exact w111 u1 A _ (j + 1) true 1 0 _ rfl (fun _ => Nat.le_refl _) (by omega) ((st1.rw fun _ => by rw [cond_false, s_b_r]).tt.mono (by omega)) (o4.mono f1) (fun z => (o5 z).mono f1)
        · have ho : other = true := by
            cases hx : other with
            | true => rfl
            | false => rw [hx] at h6; exact absurd h6 c6
          subst ho
          exact hf9 _ _ _ _ _ _ _ st1 (fun _ => rfl)
    · refine fin _ _ _ _ _ _ _ _ _ _ (st.rw fun _ => ?_) (fun _ => hl) hm0 o4 hτ
      rw [s_swL, z1 gd, cond_true]
      unfold s_nd
      rw [z1 gd, cond_true, s_b_r]
theorem c_switch (hI : cIt T ν) (ih : cAsg T ν) (hw : w_nu w = ν) (hsl : wSl w) (a : Nat) : CI T shS any2 (50 * ν + 14) 60 80 true 1 w (s_switch T (s_lv T ν) (w_x w)) 3105 [.inr (.inr (3, a))] := by
  intro d g A m e i σ K X hd hq hm en k
  obtain ⟨d, rfl, hd⟩ := mc_pos (c := 50 * ν + 13) (by omega)
  refine mc_ci (P := mt3105) (L := 9) rfl rfl ⟨by decide, Nat.le_of_ble_eq_true rfl⟩ fun Q hK hX => b3105_0 _ _ _ _ _ _ _ _ _ _ _ _ ?_
  have st := St.start (K := fun n u => Q (.inl (some (.inl n))) u) hq (by decide) en (fun n u rs => hK _ _ (k n u rs))
  have n1 := st.ci.2.1.2.1
  have hGQ := GQ_le ν
  rw [hw] at hq
  have hEv := ev_lv (T := T) ν
  refine St.call (h := 59) (c_condition ih hw a) () st (fun _ => rfl) (by omega) (by rw [hw]; omega) hm rfl (fun v1 j1 A1 q1 n1' u1 st1 f1 hj1 hs1 hn1 => ?_)
  have l1 := f1.nn
  refine St.intoS2 (h := 40) (y := mm_f u1 346) (x := 3) (st1.mono (by omega)) (ev_b ev_nd fun _ _ => ev_swL hEv _ _ _) rfl rfl (by omega) (by omega) (fun _ => rfl) (fun _ => by have := hsl.1; omega) st1.sc346 (fun _ => rfl) (fun u2 s2 st2 f2 hf2 _ _ => ?_)
  have l2 := f2.nn
  refine st2.need (by omega) (fun u3 st3 f3 _ => ?_)
  have l3 := f3.nn
  have hlk : GD u3 → lkO (psW w (w_B w + 1) s2) := fun gd => (st3.gd gd).lkO
  have st4 := st3.sameW (w' := bkW (psW w (w_B w + 1) s2)) (u := mm_setf u3 355 (mm_f u3 355 + 1)) Fr_bk (fun _ => by rw [th_bk]; exact tle.rfl') (fun q => q.bk (by have := hsl.2.2.1; exact this)) (fun q => q.bk)
  have l4 : fN (mm_setf u3 355 (mm_f u3 355 + 1)) 315 = fN u3 315 := fN_eq (f_other (by decide))
  refine St.node (h := 39) st4 (by omega) (by omega) (fun n5 u5 st5 f5 nw => ?_)
  have l5 := f5.nn
  have gg : GD u5 → GD u1 := fun z => f2.1 (f3.1 (f5.1 z))
  refine st5.setown (by decide) (own_new nw f5 st4) (fun t t1 t2 st6 f6 => ?_)
  have l6 := f6.nn
  refine sw_loop (w := bkW (psW w (w_B w + 1) s2)) (w0 := psW w (w_B w + 1) s2) (x := w_x w) (θ := th σ) (l0 := i + 1) (ν := ν) rfl hI ih hw rfl (by omega) (by omega) (τ0 := u5) (fun b h A m j r u st hr => ?_) (fun b h A m j u v5 v6 wv7 wv8 st hl hm0 o4 hτ => ?_) (t_e T + 1) true 39 _ _ (j1 + 1) _ false 0 0 _ _ (fun _ => by omega) (fun gd => by have := hj1 (gg gd); omega) (fun _ => by omega) (by omega) (by omega) ((own_new nw f5 st4).mono f6) (fun z => absurd rfl z) rfl (fun z => f6.1 z) st6
  · exact st.fail (by omega) hr (fun u9 ng st9 f9 => (st9.bad ng trivial).2 ng)
  · refine b3105_166 _ _ _ _ _ _ _ _ _ _ _ _ (st.need (by omega) (fun u7 st7 f7 _ => ?_))
    have hlk7 : GD u7 → lkO (psW w (w_B w + 1) s2) := fun gd7 => hlk (f5.1 (hτ (f7.1 gd7)))
    have st8 := st7.sameW (w' := psW w (w_B w + 1) s2) (u := mm_setf u7 355 (mm_f u7 355 - 1)) Fr_bk (fun _ => by rw [th_bk]; exact tle.rfl') (fun q => q.bkB (hlk7 q.2.1)) (fun q => q.bk)
    refine (st8.ret (fun _ => rfl) (fun _ => rfl) (fun gd => by have := hl (f7.1 gd); omega) 0 (fun _ => by omega) (fun _ => Nat.le_refl _) (fun gd => ?_) (fun _ => trivial)).1
    obtain ⟨t4, y1, y2, y3⟩ := o4
    have l7 := f7.nn
    refine ⟨t4, y1, y3 (f7.1 gd), ?_⟩
    rw [fN_eq (f_other (by decide) : mm_f (mm_setf (mm_setf u7 355 (mm_f u7 355 - 1)) 346 (mm_f u1 346)) 315 = mm_f (mm_setf u7 355 (mm_f u7 355 - 1)) 315), fN_eq (f_other (by decide) : mm_f (mm_setf u7 355 (mm_f u7 355 - 1)) 315 = mm_f u7 315)]
    omega
end SWITCH
