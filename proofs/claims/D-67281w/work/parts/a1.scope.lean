/-! PHASE 3. Scopes and contexts of statements; block(), condition(), loop() -/
theorem s_blk_nd {β : Type} {T : sT} {s : Int32} {i : Nat} {f : Unit → Nat → sR β} : s_blk (s_b (s_nd T s i) f) = s_b (s_nd T s i) (fun v j => s_blk (f v j)) := by
  unfold s_nd
  cases t_sg T i s with
  | false => rfl
  | true => rw [cond_true, s_b_r, s_b_r]
/-- within a loop; where break may stand -/
def lpW (w : cW) : cW := (x_loop (w_x w), w_in w, w_nu w, w_B w, w_sc w, w_hr w, w_lb w, ((w_lk w).1 + 1, (w_lk w).2 + 1), w_cl w)
def bkW (w : cW) : cW := (x_brk (w_x w), w_in w, w_nu w, w_B w, w_sc w, w_hr w, w_lb w, ((w_lk w).1, (w_lk w).2 + 1), w_cl w)
def lkSl (w : cW) : Prop := (w_lk w).1 + w_nu w < 48 ∧ (w_lk w).2 + w_nu w < 48
def lkO (w : cW) : Prop := (w_x w).2.2.1 = decide (0 < (w_lk w).1) ∧ (w_x w).2.2.2.1 = decide (0 < (w_lk w).2)
section STM2
variable {β : Type} {T : sT} {Sh : β → Nat → Int32 → mmS → Prop} {N : Int32 → mmS → Prop} {g : Nat} {w0 : cW} {m0 e0 : Nat} {θ : cTh} {l0 : Nat} {Z : Int32 → mmS → Prop} {b : Bool} {h : Nat} {w : cW} {A : cA} {m e : Nat} {r : sR β} {σ u : mmS} {i j : Nat}
variable {ν a d : Nat} {Q : mmQ}
theorem cG.lkO (h : cG T w A m e σ i) : lkO w := ⟨h.2.2.2.2.1.2.2.1.2.2, h.2.2.2.2.1.2.2.2.1.2.2⟩
theorem cG.ctx {x2 : sX} {lk2 : Nat × Nat} (h : cG T w A m e σ i) (I : cI T u) (hf : ∀ k, k ≠ 354 → k ≠ 355 → k ≠ 356 → mm_f u k = mm_f σ k) (ha : ∀ k, k ≠ 361 → k ≠ 362 → mm_a u k = mm_a σ k) (hn : mm_n u = mm_n σ) (hX : cX (w_nu w) (w_lb w) lk2 x2 u) : cG T (x2, w_in w, w_nu w, w_B w, w_sc w, w_hr w, w_lb w, lk2, w_cl w) A m e u i := by
  obtain ⟨h1, h2, h3, h4, h5, h6, h7, h8, h9, h10, h11, h12, hc⟩ := h
  have f (k : Nat) (hk : (k == 354 || k == 355 || k == 356) = false := by rfl) : mm_f u k = mm_f σ k := by
    simp only [Bool.or_eq_false_iff, beq_eq_false_iff_ne] at hk
    exact hf k hk.1.1 hk.1.2 hk.2
  have fe (k : Nat) (hk : (k == 354 || k == 355 || k == 356) = false := by rfl) := fN_eq (f k hk)
  have n (k : Nat) (hk : (k == 361 || k == 362) = false := by rfl) : mm_a u k = mm_a σ k := by
    simp only [Bool.or_eq_false_iff, beq_eq_false_iff_ne] at hk
    exact ha k hk.1 hk.2
  refine ⟨I, (f 303).trans h2, by rw [f 311]; exact h3, by rw [f 312]; exact h4, hX, by rw [f 346, f 347]; exact h6, h7.of (f 324) (f 325) (f 346) (fun k k1 k2 => ⟨ha k (by omega) (by omega), by rw [hn]⟩), by rw [f 313]; exact h8, ?_, by rw [fe 336, cntF_of (σ := σ) (u := u) (fun _ _ => by rw [n 337])]; exact h10, by rw [f 359]; exact h11, by rw [f 358]; exact h12, ?_⟩
  · rw [f 360, n 363]
    exact h9
  · unfold cC
    rw [fe 315, fe 324, fe 336, fe 325, f 371]
    exact hc
/-- a counter of the context is moved -/
theorem set2_f {k : Nat} {x y : Int32} (h1 : k ≠ 354) (h2 : k ≠ 355) : mm_f (mm_setf (mm_setf u 354 x) 355 y) k = mm_f u k := (f_other h2).trans (f_other h1)
theorem cG.lp2 {p q : Nat} {l1 l2 : Bool} {x y : Int32} (h : cG T w A m e u i) (hx : x = nI p) (hy : y = nI q) (hp : p + w_nu w ≤ 48) (hq : q + w_nu w ≤ 48) (e1 : l1 = decide (0 < p)) (e2 : l2 = decide (0 < q)) : cG T (((w_x w).1, (w_x w).2.1, l1, l2, (w_x w).2.2.2.2), w_in w, w_nu w, w_B w, w_sc w, w_hr w, w_lb w, (p, q), w_cl w) A m e (mm_setf (mm_setf u 354 x) 355 y) i := by
  refine h.ctx ((h.1.setf rfl).setf rfl) (fun k k1 k2 _ => set2_f k1 k2) (fun _ _ _ => rfl) rfl ?_
  have hX := h.2.2.2.2.1
  obtain ⟨⟨c1, c2, c3, c4, c5, c6⟩, r, -, -, y1, y2, y3, y4⟩ := hX
  have f (k : Nat) (hk : (k == 354 || k == 355) = false := by rfl) : mm_f (mm_setf (mm_setf u 354 x) 355 y) k = mm_f u k := by
    simp only [Bool.or_eq_false_iff, beq_eq_false_iff_ne] at hk
    exact set2_f hk.1 hk.2
  refine ⟨⟨(f 348).trans c1, (f 349).trans c2, (f 350).trans c3, (f 351).trans c4, (f 352).trans c5, (f 353).trans c6⟩, ?_, ⟨?_, hp, e1⟩, ⟨?_, hq, e2⟩, (f 357).trans y1, (f 356).trans y2, y3, y4⟩
  · rw [fN_eq (f 347)]
    exact r
  · rw [f_other (by decide), f_same]
    exact hx
  · rw [f_same]
    exact hy
theorem setf_idn {k : Nat} {x : Int32} (e : mm_f u k = x) : mm_setf u k x = u := by rw [← e]; exact setf_id rfl
theorem cG.lp (h : cG T w A m e u i) (hs : lkSl w) : cG T (lpW w) A m e (mm_setf (mm_setf u 354 (mm_f u 354 + 1)) 355 (mm_f (mm_setf u 354 (mm_f u 354 + 1)) 355 + 1)) i := by
  have hX := h.2.2.2.2.1
  refine h.lp2 (by rw [hX.2.2.1.1, nI_1]) (by rw [f_other (by decide), hX.2.2.2.1.1, nI_1]) (by have := hs.1; omega) (by have := hs.2; omega) (by simp) (by simp)
theorem cG.lpB (h : cG T (lpW w) A m e u i) (hk : Jvm.Pilot.CModuleGateLaw_law_r3505_57535a.lkO w) : cG T w A m e (mm_setf (mm_setf u 354 (mm_f u 354 - 1)) 355 (mm_f (mm_setf u 354 (mm_f u 354 - 1)) 355 - 1)) i := by
  have hX := h.2.2.2.2.1
  have ok := h.ok
  have o1 : (w_lk w).1 + 1 + w_nu w ≤ 48 := ok.2.2.1
  have o2 : (w_lk w).2 + 1 + w_nu w ≤ 48 := ok.2.2.2.1
  have z1 : mm_f u 354 = nI ((w_lk w).1 + 1) := hX.2.2.1.1
  have z2 : mm_f u 355 = nI ((w_lk w).2 + 1) := hX.2.2.2.1.1
  exact h.lp2 (p := (w_lk w).1) (q := (w_lk w).2) (by rw [z1, nI_pred]) (by rw [f_other (by decide), z2, nI_pred]) (by show (w_lk w).1 + w_nu w ≤ 48; omega) (by show (w_lk w).2 + w_nu w ≤ 48; omega) hk.1 hk.2
theorem cG.bk (h : cG T w A m e u i) (hs : (w_lk w).2 + w_nu w < 48) : cG T (bkW w) A m e (mm_setf u 355 (mm_f u 355 + 1)) i := by
  have hX := h.2.2.2.2.1
  have := h.lp2 (p := (w_lk w).1) (q := (w_lk w).2 + 1) (x := mm_f u 354) (y := mm_f u 355 + 1) hX.2.2.1.1 (by rw [hX.2.2.2.1.1, nI_1]) hX.2.2.1.2.1 (by omega) hX.2.2.1.2.2 (l2 := true) (by simp)
  rw [setf_id rfl] at this
  exact this
theorem cG.bkB (h : cG T (bkW w) A m e u i) (hk : Jvm.Pilot.CModuleGateLaw_law_r3505_57535a.lkO w) : cG T w A m e (mm_setf u 355 (mm_f u 355 - 1)) i := by
  have hX := h.2.2.2.2.1
  have ok := h.ok
  have o1 : (w_lk w).1 + w_nu w ≤ 48 := ok.2.2.1
  have o2 : (w_lk w).2 + 1 + w_nu w ≤ 48 := ok.2.2.2.1
  have z1 : mm_f u 354 = nI (w_lk w).1 := hX.2.2.1.1
  have z2 : mm_f u 355 = nI ((w_lk w).2 + 1) := hX.2.2.2.1.1
  have := h.lp2 (p := (w_lk w).1) (q := (w_lk w).2) (x := mm_f u 354) (y := mm_f u 355 - 1) z1 (by rw [z2, nI_pred]) (by show (w_lk w).1 + w_nu w ≤ 48; omega) (by show (w_lk w).2 + w_nu w ≤ 48; omega) hk.1 hk.2
  rw [setf_id rfl] at this
  exact this
theorem Fr_lp {x y : Int32} : Fr θ u (mm_setf (mm_setf u 354 x) 355 y) := (Fr.setf rfl (by decide) (by decide) (by decide) (by decide) (by decide) (by decide)).trans (Fr.setf rfl (by decide) (by decide) (by decide) (by decide) (by decide) (by decide))
theorem Fr_bk {y : Int32} : Fr θ u (mm_setf u 355 y) := Fr.setf rfl (by decide) (by decide) (by decide) (by decide) (by decide) (by decide)
theorem th_lp {x y : Int32} : th (mm_setf (mm_setf u 354 x) 355 y) = th u := (th_setf (by decide) (by decide) (by decide) (by decide)).trans (th_setf (by decide) (by decide) (by decide) (by decide))
theorem th_bk {y : Int32} : th (mm_setf u 355 y) = th u := th_setf (by decide) (by decide) (by decide) (by decide)
theorem cB.lp {x y : Int32} (h : cB T g u) : cB T g (mm_setf (mm_setf u 354 x) 355 y) := (h.setf rfl (by decide) (by decide) (by decide)).setf rfl (by decide) (by decide) (by decide)
theorem cB.bk {y : Int32} (h : cB T g u) : cB T g (mm_setf u 355 y) := h.setf rfl (by decide) (by decide) (by decide)
/-- a scope is begun: what is read there, as if from outside -/
theorem St.intoS {r : sR β} {x y : Int32} {C : Int32 → mmS → Prop} (st : St T Sh N g w0 m0 e0 θ l0 Z b (h + 16) w A m e (s_blk r) σ i) (hev : ev eS r) (ct : h_top x = false) (c27 : (x == 2 || x == 7) = false) (hd : 3 ≤ d) (hm : 4 ≤ m) (hw : GD σ → w = w0) (hB : GD σ → w_B w + 1 ≤ 2 * (48 - w_nu w) + 3) (hy : ∃ sc, y = nI sc ∧ sc < fN σ 324) (hy2 : GD σ → y = mm_f σ 346)
    (k : ∀ u sc, St T (fun v q n u => Sh v q n (mm_setf u 346 y)) (fun n u => N n (mm_setf u 346 y)) g (psW w (w_B w + 1) sc) m0 e0 θ l0 (fun n v => Z n (mm_setf v 346 y)) b h (psW w (w_B w + 1) sc) ((x, []) :: A.1, A.2) (m - 4) e r u i → Fr (th σ) σ u → (∀ k, k ≠ 324 → k ≠ 346 → mm_f u k = mm_f σ k) → C (nI sc) u) : mm_I (MC d) Q 3017 [.inr (.inr (3, a)), .inl x] σ C :=
  c_OS hd st.ci st.cap.2.1 (fun u o f => k u (fN σ 324) (st.scope (B := w_B w + 1) (x := x) (y := y) (es := []) (h' := h) (m' := m - 4) (e' := e) hw hy hy2 (fun _ => run_blkM hev ct c27) f (fun _ => (OS_row o).1) (by rw [o.1.2.1]; omega) (fun q => q.OS o hm (by rw [ct]; exact Nat.le_refl _) (hB q.2.1)) (fun q => by rw [← Nat.add_assoc] at q; exact cB.OS q o) (fun gd => by have := st.tl.2 gd; omega)) f (fun _ h4 h6 => OS_f o h4 h6))
theorem St.sc346 (st : St T Sh N g w0 m0 e0 θ l0 Z b h w A m e r σ i) : ∃ sc, mm_f σ 346 = nI sc ∧ sc < fN σ 324 := st.ci.2.2.2.2.2.1.1
/-- a block's reading stays, whatever is behind it -/
theorem c_block2 {K : Int32 → mmS → Prop} {X : Nat → mmS → Prop} (hI : cIt T ν) (hw : w_nu w = ν) (hsl : wSl w) (hd : 50 * ν + 12 ≤ d) (hq : g + 40 ≤ GQ (w_nu w)) (hm : 24 ≤ m) (en : cG T w A m e σ i ∨ (true = true ∧ cB T (g + 24) σ)) (k : ∀ n u, Rs T (shS σ) any2 g w (m + 2) e (th σ) (i + 1) A (s_block T (s_lv T ν) (w_x w) i) σ n u → K n u) : mm_ci (MC d) 3094 [.inr (.inr (3, a))] σ K X := by
  obtain ⟨d, rfl, hd⟩ := mc_pos (c := 50 * ν + 11) (by omega)
  refine mc_ci (P := mt3094) (L := 4) rfl rfl ⟨by decide, Nat.le_of_ble_eq_true rfl⟩ fun Q hK hX => b3094_0 _ _ _ _ _ _ _ ?_
  have st := St.startM (K := fun n u => Q (.inl (some (.inl n))) u) hq (by decide) en (fun n u rs => hK _ _ (k n u rs))
  have n1 := st.ci.2.1.2.1
  have hGQ := GQ_le ν
  rw [hw] at hq
  have hEv := ev_lv (T := T) ν
  obtain ⟨sc, sc1, sc2⟩ := st.sc346
  have hsc : GD σ → mm_f σ 346 = nI (w_sc w) := fun gd => (st.gd gd).2.2.2.2.2.1.1
  have st := st.rw (r' := s_b (s_nd T 0 i) (fun _ j => s_blk (s_b (s_list T (s_lv T ν) (w_x w) j) (fun _ k => s_nd T 1 k)))) (fun _ => by unfold s_block; rw [s_blk_nd])
  refine st.need (by omega) (fun u1 st1 f1 _ => ?_)
  have l1 := f1.nn
  have l1' := f1.2.2.2.2.1.2.1
  refine St.intoS (h := 8) (y := mm_f σ 346) (x := 3) st1 (ev_b (ev_list hEv) fun _ _ => ev_nd) rfl rfl (by omega) (by omega) (fun _ => rfl) (fun _ => by have := hsl.1; omega) ⟨sc, sc1, by omega⟩ (fun gd => (hsc (f1.1 gd)).trans (st1.gd gd).2.2.2.2.2.1.1.symm) (fun u2 s2 st2 f2 hf2 => ?_)
  have l2 := f2.nn
  refine St.call (h := 7) (c_list hI (w := psW w (w_B w + 1) s2) hw a) () st2 (fun _ => rfl) (by omega) (by show g + 7 + 10 ≤ GQ (w_nu w); rw [hw]; omega) (by omega) rfl (fun v j B q n u3 st3 f3 hj3 hs3 hn3 => ?_)
  have l3 := f3.nn
  refine St.node (h := 6) st3 (by omega) (by omega) (fun n4 u4 st4 f4 nw => ?_)
  have l4 := f4.nn
  have st4 := st4.rw (r' := s_b (s_nd T 1 j) (fun _ k => s_r () k)) (fun _ => s_b_ret.symm)
  refine st4.need (by omega) (fun u5 st5 f5 _ => ?_)
  refine st5.ret (fun _ => rfl) (fun _ => rfl) (fun gd => by have := hj3 (f4.1 (f5.1 gd)); omega) 0 (fun _ => by omega) (fun _ => Nat.le_refl _) (fun gd => ⟨fN u3 315, nw.1, by omega, ?_⟩) (fun _ => trivial)
  have l5 := f5.nn
  have := nw.2.1
  rw [fN_eq (f_other (by decide) : mm_f (mm_setf u5 346 (mm_f σ 346)) 315 = mm_f u5 315)]
  omega
theorem c_block (hI : cIt T ν) (hw : w_nu w = ν) (hsl : wSl w) (a : Nat) : CI T shS any2 (50 * ν + 12) 24 40 true 1 w (s_block T (s_lv T ν) (w_x w)) 3094 [.inr (.inr (3, a))] := by
  intro d g A m e i σ K X hd hq hm en k
  refine c_block2 hI hw hsl hd hq hm en (fun n u rs => k n u ⟨rs.1, ?_⟩)
  rcases rs.2 with ⟨v, j, B, q, x1, x2, x3, x4⟩ | x
  · exact Or.inl ⟨v, j, B, q + 2, x1, by rw [show m + (q + 2) = m + 2 + q by omega]; exact x2, x3, x4⟩
  · exact Or.inr x
theorem c_condition (ih : cAsg T ν) (hw : w_nu w = ν) (a : Nat) : CI T (shU (β := Unit)) any2 (50 * ν + 12) 1 10 true 1 w (s_cond2 T (s_lv T ν) (w_x w).1) 3097 [.inr (.inr (3, a))] := by
  intro d g A m e i σ K X hd hq hm en k
  obtain ⟨d, rfl, hd⟩ := mc_pos (c := 50 * ν + 11) (by omega)
  refine mc_ci (P := mt3097) (L := 2) rfl rfl ⟨by decide, Nat.le_of_ble_eq_true rfl⟩ fun Q hK hX => b3097_0 _ _ _ _ _ ?_
  have st := St.start (K := fun n u => Q (.inl (some (.inl n))) u) hq (by decide) en (fun n u rs => hK _ _ (k n u rs))
  have hGQ := GQ_le ν
  rw [hw] at hq
  refine St.need (f := fun _ j => s_b (s_expr T (s_lv T ν) (w_x w).1 true j) (fun _ k => s_nd T 3 k)) st (by omega) (fun u1 st1 f1 _ => ?_)
  refine St.call (h := 0) (c_expression (a := a) (inn := true) ih hw) (n_k 0) st1 (fun _ => rfl) (by omega) (by rw [hw]; omega) (by omega) rfl (fun v j B q n u2 st2 f2 hj2 hs2 hn2 => ?_)
  have st2 := st2.rw (r' := s_b (s_nd T 3 j) (fun _ k => s_r () k)) (fun _ => s_b_ret.symm)
  refine st2.need (by omega) (fun u3 st3 f3 _ => ?_)
  exact st3.ret (fun _ => rfl) (fun _ => rfl) (fun gd => by have := hj2 (f3.1 gd); omega) 0 (fun _ => by omega) (fun _ => Nat.le_refl _) (fun _ => trivial) (fun _ => trivial)
theorem c_loop (hS : cStm T ν) (hw : w_nu w = ν) (hsl : lkSl w) (a : Nat) : CI T (shU (β := Unit)) any2 (50 * ν + 11) 0 0 true 1 w ((s_lv T ν).2.2.2.2.2.2.2 (x_loop (w_x w))) 3100 [.inr (.inr (3, a))] := by
  intro d g A m e i σ K X hd hq hm en k
  obtain ⟨d, rfl, hd⟩ := mc_pos (c := 50 * ν + 10) (by omega)
  refine mc_ci (P := mt3100) (L := 2) rfl rfl ⟨by decide, Nat.le_of_ble_eq_true rfl⟩ fun Q hK hX => b3100_0 _ _ _ _ _ ?_
  have st := St.start (K := fun n u => Q (.inl (some (.inl n))) u) hq (by decide) en (fun n u rs => hK _ _ (k n u rs))
  have hlk : GD σ → Jvm.Pilot.CModuleGateLaw_law_r3505_57535a.lkO w := fun gd => (st.gd gd).lkO
  have st2 := st.sameW (w' := lpW w) (u := mm_setf (mm_setf σ 354 (mm_f σ 354 + 1)) 355 (mm_f (mm_setf σ 354 (mm_f σ 354 + 1)) 355 + 1)) Fr_lp (fun _ => by rw [th_lp]; exact tle.rfl') (fun q => q.lp hsl) (fun q => q.lp)
  have st2 := st2.rw (r' := s_b ((s_lv T ν).2.2.2.2.2.2.2 (x_loop (w_x w)) i) (fun _ k => s_r () k)) (fun _ => s_b_ret.symm)
  refine St.call (h := 0) (hS a (lpW w) hw) () st2 (fun _ => rfl) (by omega) hq hm rfl (fun v j B q n u3 st3 f3 hj3 hs3 hn3 => ?_)
  have g3 : GD u3 → GD σ := fun gd => f3.1 gd
  have st4 := st3.sameW (w' := w) (u := mm_setf (mm_setf u3 354 (mm_f u3 354 - 1)) 355 (mm_f (mm_setf u3 354 (mm_f u3 354 - 1)) 355 - 1)) Fr_lp (fun _ => by rw [th_lp]; exact tle.rfl') (fun q => q.lpB (hlk (g3 q.2.1))) (fun q => q.lp)
  exact st4.ret (fun _ => rfl) (fun _ => rfl) (fun gd => hj3 gd) 0 (fun _ => by omega) (fun _ => Nat.le_refl _) (fun _ => trivial) (fun _ => trivial)
end STM2
