/-! PHASE 3. tryAt(): the walk -/
def s_catP (T : sT) (E : sE) (x : sX) (i : Nat) : sR Unit := bif t_sg T i 2 then s_b (s_bind T E x.1 1 (i + 1)) (fun _ k => s_nd T 3 k) else s_r () i
def s_catF (T : sT) (E : sE) (x : sX) (k : Nat) : sR Unit := s_b (s_nd T 0 k) (fun _ m => s_b (s_list T E x m) (fun _ q => s_nd T 1 q))
def s_catch (T : sT) (E : sE) (x : sX) (i : Nat) : sR Unit := s_blk (s_b (s_catP T E x i) (fun _ k => s_catF T E x k))
section TRY
variable {β : Type} {T : sT} {Sh : β → Nat → Int32 → mmS → Prop} {N : Int32 → mmS → Prop} {g : Nat} {w0 : cW} {m0 e0 : Nat} {θ : cTh} {l0 : Nat} {Z : Int32 → mmS → Prop} {b : Bool} {h : Nat} {w : cW} {A : cA} {m e : Nat} {r : sR β} {σ u : mmS} {i j : Nat}
variable {ν a d : Nat} {Q : mmQ}
/-- nodes' rows that a frame keeps -/
theorem Fr.row (f : Fr (th σ) σ u) (gd : GD u) {s k : Nat} (h1 : 1 ≤ k) (h2 : k < fN σ 315) (s1 : 316 ≤ s) (s2 : s ≤ 323) : mm_a u s k = mm_a σ s k := (f.2.2.2.2.2.2.2 gd).2.1 s s1 s2 k h1 h2
theorem ev_catP {E : sE} (h : EvE E) {x : sX} : ev (eK 1) (s_catP T E x i) := ev_i (ev_b (ev_bind h) fun _ _ => ev_nd) ev_r
theorem ev_catF {E : sE} (h : EvE E) {x : sX} : ev eS (s_catF T E x i) := ev_b ev_nd fun _ _ => ev_b (ev_list h) fun _ _ => ev_nd
/-- the parameter of catch -/
theorem c_catP {v1 v3 v4 : Int32} {k4 : Nat} {wv5 wv6 : Option mmV} (ih : cAsg T ν) (hE : cEl T ν) (hR : cRst T ν) (hw : w_nu w = ν) (hd : 50 * ν + 14 ≤ d) (hq : g + 30 ≤ GQ ν) (hm : 24 ≤ m) (tl : GD σ → tle θ (th σ)) (n1 : 1 ≤ k4) (k2 : k4 < fN σ 315) (ho : GD σ → θ.1 ≤ k4) (r20 : GD σ → mm_a σ 320 k4 = 0) (en : cG T w A m e σ i ∨ (true = true ∧ cB T (g + 10) σ))
    (kk : ∀ n u, Rs T (fun (_ : Unit) _ _ u => mm_a u 320 k4 = 0) any2 g w m e θ i A (s_catP T (s_lv T ν) (w_x w) i) σ n u → k4 < fN u 315 → ∀ wv5, mm_W mt3106 (MC d) Q (71, [some (.inr (.inr (3, a))), some (.inl v1), some (.inl (nI k4)), some (.inl v3), some (.inl v4), wv5, wv6], []) u) :
    mm_I (MC d) Q 3022 [.inr (.inr (3, a)), .inl 2] σ (fun x11 σ10 => mm_br (x11 = 0) (mm_W mt3106 (MC d) Q (71, [some (.inr (.inr (3, a))), some (.inl v1), some (.inl (nI k4)), some (.inl v3), some (.inl v4), wv5, wv6], []) σ10) (mm_I (MC d) Q 3050 [.inr (.inr (3, a)), .inl 1] σ10 (fun x13 σ12 => mm_S σ12 318 (nI k4) x13 (fun σ14 => mm_V (MC d) Q 3036 [.inr (.inr (3, a)), .inl 3] σ14 (fun σ15 => mm_W mt3106 (MC d) Q (71, [some (.inr (.inr (3, a))), some (.inl v1), some (.inl (nI k4)), some (.inl v3), some (.inl v4), some (.inl x13), wv6], []) σ15))))) := by
  have hGQ := GQ_le ν
  have st : St T (fun (_ : Unit) _ _ u => mm_a u 320 k4 = 0) any2 g w m e θ i (fun _ u => k4 < fN u 315 → ∀ wv5, mm_W mt3106 (MC d) Q (71, [some (.inr (.inr (3, a))), some (.inl v1), some (.inl (nI k4)), some (.inl v3), some (.inl v4), wv5, wv6], []) u) true 10 w A m e (s_catP T (s_lv T ν) (w_x w) i) σ i := by
    rcases en with hG | ⟨-, hB⟩
    · exact Or.inl ⟨hG, tl hG.2.1, by omega, fun n u rs => kk n u rs⟩
    · exact Or.inr ⟨rfl, hB, fun n u f c hn => kk n u ⟨f, Or.inr ⟨Or.inr hB.no, c, trivial⟩⟩⟩
  refine st.eat (by omega) (fun z => ?_) (fun u1 z st1 f1 => ?_)
  · exact (st.rw (r' := s_r () i) (fun gd => by unfold s_catP; rw [z gd]; rfl)).ret (n := 0) (fun _ => rfl) (fun _ => rfl) (fun _ => Nat.le_refl _) 0 (fun _ => by omega) (fun _ => Nat.le_refl _) r20 (fun _ => trivial) k2 _
  · have l1 := f1.nn
    have st1 := st1.rw (r' := s_b (s_bind T (s_lv T ν) (w_x w).1 1 (i + 1)) (fun _ k => s_b (s_nd T 3 k) (fun _ k => s_r () k))) (fun gd1 => by
      unfold s_catP
      rw [z (f1.1 gd1), cond_true]
      exact congrArg _ (funext fun _ => funext fun k => s_b_ret.symm))
    refine St.callP (h := 9) (c := 1) (m' := m + 12 + 8) (s := 1) (bb := true) (Sh' := shBd (2 * ν + 2)) (N' := nid) (r1 := s_bind T (s_lv T ν) (w_x w).1 1) (fun en kk => c_binding (a := a) (v1 := 1) ih hE hR hw (by decide) (by omega) (by omega) (by omega) en kk) (false, []) st1 (fun _ => rfl) rfl (fun bd j B q x u2 st2 f2 hj2 hs2 hn2 => ?_)
    have l2 := f2.nn
    refine st2.setn (k := k4) (by decide) (Or.inl (by decide)) rfl (by omega) (fun gd => ho (f1.1 (f2.1 gd))) (Or.inl ⟨by decide, by decide⟩) (fun st3 => ?_)
    refine st3.need (by omega) (fun u4 st4 f4 _ => ?_)
    have l4 : fN u2 315 ≤ fN u4 315 := f4.nn
    refine st4.ret (n := 0) (fun _ => rfl) (fun _ => rfl) (fun gd4 => by have := hj2 (f4.1 gd4); omega) 0 (fun _ => by omega) (fun _ => Nat.le_refl _) (fun gd4 => ?_) (fun _ => trivial) (by omega) _
    have g2 : GD u2 := f4.1 gd4
    rw [f4.row gd4 n1 (show k4 < fN u2 315 by omega) (by decide) (by decide), a_seta_n (by decide), f2.row g2 n1 (by omega) (by decide) (by decide), f1.row (f2.1 g2) n1 k2 (by decide) (by decide)]
    exact r20 (f1.1 (f2.1 g2))
theorem ev_catE {γ : Type} {es : hE} {P : Nat → Bool} {r : sR γ} (h : ev P r) : ev P (s_catE es r) := fun v j α e x hx => by
  cases hr : r with
  | none => rw [hr] at e; exact nomatch e
  | some z =>
    obtain ⟨v1, j1, cv, pu, nf, nc, ok, evs⟩ := z
    rw [hr] at e
    have e : some (v1, j1, cv, pu, nf, nc, ok && s_ok m_blk es evs, evs.filter (fun x => x.1 == 0)) = some (v, j, α) := e
    simp only [Option.some.injEq, Prod.mk.injEq] at e
    obtain ⟨-, -, e⟩ := e
    subst e
    exact h v1 j1 _ hr x (List.mem_filter.mp hx).1
theorem s_catE_nd {es : hE} {s : Int32} {f : Unit → Nat → sR β} : s_catE es (s_b (s_nd T s i) f) = s_b (s_nd T s i) (fun v j => s_catE es (f v j)) := by
  unfold s_nd
  cases t_sg T i s with
  | false => rfl
  | true => rw [cond_true, s_b_r, s_b_r]
/-- catch, behind its word -/
theorem c_catch {v1 : Int32} {k4 : Nat} {wv5 wv6 : Option mmV} (hI : cIt T ν) (ih : cAsg T ν) (hE : cEl T ν) (hR : cRst T ν) (hw : w_nu w = ν) (hsl : wSl w) (hd : 50 * ν + 15 ≤ d) (hq : g + 130 ≤ GQ ν) (hm : 28 ≤ m) (tl : GD σ → tle θ (th σ)) (n1 : 1 ≤ k4) (k2 : k4 < fN σ 315) (ho : GD σ → θ.1 ≤ k4) (r20 : GD σ → mm_a σ 320 k4 = 0) (en : cG T w A m e σ i ∨ (true = true ∧ cB T (g + 100) σ))
    (kk : ∀ n u, Rs T (fun (_ : Unit) _ _ u => ¬ mm_a u 319 k4 = 0 ∧ mm_a u 320 k4 = 0) any2 g w m e θ (i + 1) A (s_catch T (s_lv T ν) (w_x w) i) σ n u → ∀ wv3 wv4 wv5 wv6 : Option mmV, mm_W mt3106 (MC d) Q (118, [some (.inr (.inr (3, a))), some (.inl v1), some (.inl (nI k4)), wv3, wv4, wv5, wv6], []) u) :
    mm_I (MC d) Q 3017 [.inr (.inr (3, a)), .inl 4] σ (fun x8 σ7 => mm_S σ7 321 (nI k4) x8 (fun σ9 => mm_I (MC d) Q 3022 [.inr (.inr (3, a)), .inl 2] σ9 (fun x11 σ10 => mm_br (x11 = 0) (mm_W mt3106 (MC d) Q (71, [some (.inr (.inr (3, a))), some (.inl v1), some (.inl (nI k4)), some (.inl (mm_f σ 346)), some (.inl x8), wv5, wv6], []) σ10) (mm_I (MC d) Q 3050 [.inr (.inr (3, a)), .inl 1] σ10 (fun x13 σ12 => mm_S σ12 318 (nI k4) x13 (fun σ14 => mm_V (MC d) Q 3036 [.inr (.inr (3, a)), .inl 3] σ14 (fun σ15 => mm_W mt3106 (MC d) Q (71, [some (.inr (.inr (3, a))), some (.inl v1), some (.inl (nI k4)), some (.inl (mm_f σ 346)), some (.inl x8), some (.inl x13), wv6], []) σ15))))))) := by
  have hGQ := GQ_le ν
  have hEv := ev_lv (T := T) ν
  have st : St T (fun (_ : Unit) _ _ u => ¬ mm_a u 319 k4 = 0 ∧ mm_a u 320 k4 = 0) any2 g w m e θ (i + 1) (fun _ u => ∀ wv3 wv4 wv5 wv6 : Option mmV, mm_W mt3106 (MC d) Q (118, [some (.inr (.inr (3, a))), some (.inl v1), some (.inl (nI k4)), wv3, wv4, wv5, wv6], []) u) true 100 w A m e (s_blk (s_b (s_catP T (s_lv T ν) (w_x w) i) (fun _ k => s_catE (s_evs (s_catP T (s_lv T ν) (w_x w) i)) (s_catF T (s_lv T ν) (w_x w) k)))) σ i := by
    rw [← s_blk_cat (ev_catP hEv)]
    rcases en with hG | ⟨-, hB⟩
    · exact Or.inl ⟨hG, tl hG.2.1, by omega, fun n u rs => kk n u rs⟩
    · exact Or.inr ⟨rfl, hB, fun n u f c hn => kk n u ⟨f, Or.inr ⟨Or.inr hB.no, c, trivial⟩⟩⟩
  refine St.intoS2 (h := 84) (y := mm_f σ 346) (x := 4) st (ev_b (ev_3 (ev_catP hEv) (by decide)) fun _ _ => ev_catE (ev_catF hEv)) rfl rfl (by omega) (by omega) (fun _ => rfl) (fun _ => by have := hsl.1; omega) st.sc346 (fun _ => rfl) (fun u1 s1 st1 f1 hf1 _ _ => ?_)
  have l1 := f1.nn
  refine st1.setn (k := k4) (by decide) (Or.inl (by decide)) rfl (by omega) (fun gd => ho (f1.1 gd)) (Or.inl ⟨by decide, by decide⟩) (fun st2 => ?_)
  have l2 : fN (mm_seta u1 321 k4 (nI s1)) 315 = fN u1 315 := rfl
  have r20b : GD (mm_seta u1 321 k4 (nI s1)) → mm_a (mm_seta u1 321 k4 (nI s1)) 320 k4 = 0 := fun gd => by
    have gd1 : GD u1 := gd
    rw [a_seta_n (by decide), f1.row gd1 n1 k2 (by decide) (by decide)]
    exact r20 (f1.1 gd1)
  refine St.callR (h := 74) (c := 10) (s := 0) (bb := true) (m' := m - 4) (e' := e) (θ1 := θ) (Sh' := fun _ (_ : Unit) _ _ u => mm_a u 320 k4 = 0) (N' := any2) (r1 := s_catP T (s_lv T ν) (w_x w)) (C := fun n u => k4 < fN u 315 → ∀ wv5, mm_W mt3106 (MC d) Q (71, [some (.inr (.inr (3, a))), some (.inl v1), some (.inl (nI k4)), some (.inl (mm_f σ 346)), some (.inl (nI s1)), wv5, wv6], []) u) (fun en kk => c_catP (w := psW w (w_B w + 1) s1) ih hE hR hw (by omega) (by omega) (by omega) st2.tl.1 n1 (by omega) (fun gd => ho (f1.1 gd)) r20b en (fun n u rs => kk n u rs)) () st2 (fun _ => rfl) rfl (fun _ => tle.rfl') (fun v j B q n u3 st3 f3 hj3 hr3 hs3 hn3 => ?_)
  intro k3 wv5
  have l3 := f3.nn
  have st3 := st3.rw (r' := s_b (s_nd T 0 j) (fun _ m => s_catE (s_evs (s_catP T (s_lv T ν) (w_x w) i)) (s_b (s_list T (s_lv T ν) (w_x w) m) (fun _ q => s_nd T 1 q)))) (fun _ => by unfold s_catF; rw [s_catE_nd])
  refine b3106_71 _ _ _ _ _ _ _ _ _ _ (st3.need (by omega) (fun u4 st4 f4 _ => ?_))
  have l4 := f4.nn
  refine c_OS (by omega) st4.ci st4.cap.2.1 (fun u5 o f5 => ?_)
  have l5 := f5.nn
  have st5 := st4.scope2 (B := w_B w + 2) (y := mm_f u4 346) (es := (7, []) :: B.1) (es2 := []) (h' := 58) (m' := m - 4 + q + 12 - 4) (e' := e) (r := s_b (s_list T (s_lv T ν) (w_x w) (j + 1)) (fun _ q => s_nd T 1 q)) (fun _ => rfl) st4.sc346 (fun _ => rfl) (fun gd4 => by
    obtain ⟨es4, b1, sm⟩ := run_cat (r := s_b (s_list T (s_lv T ν) (w_x w) (j + 1)) (fun _ q => s_nd T 1 q)) (ev_catP hEv) (ev_b (ev_list hEv) fun _ _ => ev_nd) (hr3 (f4.1 gd4))
    exact sm) f5 (fun _ => (OS_row o).1) (by rw [o.1.2.1]; omega) (fun q => q.OS o (by omega) (by show w_B w + 1 + 1 ≤ w_B w + 2; omega) (by have := hsl.1; exact this)) (fun q => cB.OS (q.mono (by omega)) o) (fun gd => by omega)
  refine St.call (h := 57) (c_list hI (w := psW (psW w (w_B w + 1) s1) (w_B w + 2) (fN u4 324)) hw a) () st5 (fun _ => rfl) (by omega) (by show g + 57 + 10 ≤ GQ (w_nu w); rw [hw]; omega) (by omega) rfl (fun v6 j6 B6 q6 n6 u6 st6 f6 hj6 hs6 hn6 => ?_)
  have l6 := f6.nn
  refine St.node (h := 56) st6 (by omega) (by omega) (fun n7 u7 st7 f7 nw => ?_)
  have l7 := f7.nn
  have g3 : GD u7 → GD u3 := fun z => f4.1 (f5.1 (f6.1 (f7.1 z)))
  have hgo : GD u7 → GD σ := fun z => f1.1 (f3.1 (g3 z))
  refine st7.setn (k := k4) (by decide) (Or.inl (by decide)) rfl (by omega) (fun gd => ho (hgo gd)) (Or.inl ⟨by decide, by decide⟩) (fun st8 => ?_)
  have st8 := st8.rw (r' := s_b (s_nd T 1 j6) (fun _ k => s_r () k)) (fun _ => s_b_ret.symm)
  refine st8.need (by omega) (fun u9 st9 f9 _ => ?_)
  have hcap6 := st6.cap.1
  have fin := (st9.ret (v := ()) (n := 0) (j := j6 + 1) (fun _ => rfl) (fun _ => rfl) (fun gd => by
    have g7 : GD u7 := f9.1 gd
    have := hj6 (f7.1 g7)
    have := hj3 (g3 g7)
    omega) 0 (fun _ => by omega) (fun _ => Nat.le_refl _) (fun gd => ?_) (fun _ => trivial)).1.1
  · rw [setf_setf] at fin
    exact fin _ _ _ _
  · have g7 : GD u7 := f9.1 gd
    have k7 : k4 < fN u7 315 := by omega
    show ¬ mm_a u9 319 k4 = 0 ∧ mm_a u9 320 k4 = 0
    rw [f9.row gd n1 (show k4 < fN u7 315 from k7) (by decide) (by decide), f9.row gd n1 (show k4 < fN u7 315 from k7) (by decide) (by decide), a_seta_s, a_seta_n (by decide), nw.1]
    refine ⟨nI_ne0 (by omega) (by omega), ?_⟩
    have g6 := f7.1 g7
    have g5 := f6.1 g6
    have g4 := f5.1 g5
    rw [f7.row g7 n1 (by omega) (by decide) (by decide), f6.row g6 n1 (by omega) (by decide) (by decide), f5.row g5 n1 (by omega) (by decide) (by decide), f4.row g4 n1 (by omega) (by decide) (by decide)]
    exact hs3 (g3 g7)
theorem c_try (hI : cIt T ν) (ih : cAsg T ν) (hE : cEl T ν) (hR : cRst T ν) (hw : w_nu w = ν) (hsl : wSl w) (a : Nat) : CI T shS any2 (50 * ν + 16) 200 240 true 1 w (s_try T (s_lv T ν) (w_x w)) 3106 [.inr (.inr (3, a))] := by
  intro d g A m e i σ K X hd hq hm en k
  obtain ⟨d, rfl, hd⟩ := mc_pos (c := 50 * ν + 15) (by omega)
  refine mc_ci (P := mt3106) (L := 7) rfl rfl ⟨by decide, Nat.le_of_ble_eq_true rfl⟩ fun Q hK hX => b3106_0 _ _ _ _ _ _ _ _ _ _ ?_
  have st := St.start (K := fun n u => Q (.inl (some (.inl n))) u) hq (by decide) en (fun n u rs => hK _ _ (k n u rs))
  have n1 := st.ci.2.1.2.1
  have hGQ := GQ_le ν
  rw [hw] at hq
  refine St.callP (h := 176) (c := 24) (m' := m + 2) (s := 1) (bb := true) (Sh' := shS) (N' := any2) (r1 := s_block T (s_lv T ν) (w_x w)) (fun en kk => c_block2 (a := a) hI hw hsl (by omega) (by rw [hw]; omega) hm en kk) () st (fun _ => rfl) rfl (fun v1 j B q x2 u1 st1 f1 hj1 hs1 hn1 => ?_)
  have l1 := f1.nn
  refine St.node (h := 175) st1 (by omega) (by omega) (fun n2 u2 st2 f2 nw => ?_)
  have l2 := f2.nn
  have e2 := nw.2.1
  have w3 := nw.2.2.2.2.2.1
  have w4 := nw.2.2.2.2.2.2.1
  have en2 := nw.1
  subst en2
  generalize hk4 : fN u1 315 = k4 at w3 w4 e2 st2 ⊢
  have hj2 : GD u2 → i + 1 ≤ j := fun gd => hj1 (f2.1 gd)
  have ho2 : GD u2 → (th σ).1 ≤ k4 := fun gd => by show fN σ 315 ≤ k4; omega
  have w139 : ∀ (b : Bool) (h : Nat) (A : cA) (m3 k : Nat) (u : mmS) (r : sR Unit) (wv3 wv4 wv5 wv6 : Option mmV), k4 < fN u 315 → m ≤ m3 → (GD u → i + 1 ≤ k) → (GD u → (mm_a u 319 k4 = 0 → mm_a u 320 k4 = 0 → r = none) ∧ ((¬ mm_a u 319 k4 = 0 ∨ ¬ mm_a u 320 k4 = 0) → r = s_r () k)) → St T (shS σ) any2 g w m e (th σ) (i + 1) (fun n u => Q (.inl (some (.inl n))) u) b h w A m3 e r u k → mm_W mt3106 (MC d) Q (139, [some (.inr (.inr (3, a))), some (.inl x2), some (.inl (nI k4)), wv3, wv4, wv5, wv6], []) u := fun b h A m3 k u r wv3 wv4 wv5 wv6 hk hm3 hjk hr st => by
    have ret : (GD u → (¬ mm_a u 319 k4 = 0 ∨ ¬ mm_a u 320 k4 = 0)) → Q (.inl (some (.inl (nI k4)))) u := fun hz =>
      (st.rw (r' := s_r () k) (fun gd => (hr gd).2 (hz gd))).ret (fun _ => rfl) (fun _ => rfl) hjk 0 (fun _ => by omega) (fun _ => Nat.le_refl _) (fun gd => ⟨k4, rfl, by omega, hk⟩) (fun _ => trivial)
    refine b3106_139 _ _ _ _ _ _ _ _ _ _ (st.rdn (by decide) rfl hk (br_p (fun c => st.rdn (by decide) rfl hk (br_p (fun c2 => ?_) (fun c2 => ret fun _ => Or.inr c2))) (fun c => ret fun _ => Or.inl c)))
    exact st.fail (by omega) (fun gd => (hr gd).1 c c2) (fun u5 ng st5 hf5 => st5.bad ng trivial)
  have w118 : ∀ (b : Bool) (A : cA) (m3 k : Nat) (c3 : Bool) (u : mmS) (wv3 wv4 wv5 wv6 : Option mmV), k4 < fN u 315 → 24 ≤ m3 → m ≤ m3 → (GD u → i + 1 ≤ k) → (GD u → (mm_a u 319 k4 = 0 ↔ c3 = false) ∧ mm_a u 320 k4 = 0) → St T (shS σ) any2 g w m e (th σ) (i + 1) (fun n u => Q (.inl (some (.inl n))) u) b 60 w A m3 e (bif t_wd T k 16 then s_block T (s_lv T ν) (w_x w) (k + 1) else bif c3 then s_r () k else none) u k → mm_W mt3106 (MC d) Q (118, [some (.inr (.inr (3, a))), some (.inl x2), some (.inl (nI k4)), wv3, wv4, wv5, wv6], []) u := fun b A m3 k c3 u wv3 wv4 wv5 wv6 hk hm24 hm3 hjk hr st => by
    refine b3106_118 _ _ _ _ _ _ _ _ _ _ (st.eatWord (by omega) (fun z => ?_) (fun u3 z st3 f3 => ?_))
    · refine w139 b 60 A m3 k u _ _ _ _ _ hk hm3 hjk (fun gd => ⟨fun y1 y2 => ?_, fun y => ?_⟩) st
      · rw [z gd, (hr gd).1.mp y1]; rfl
      · have hc : c3 = true := by
          cases hx : c3 with
          | true => rfl
          | false =>
            rcases y with y | y
            · exact absurd ((hr gd).1.mpr hx) y
            · exact absurd (hr gd).2 y
        rw [z gd, hc]; rfl
    · have l3 := f3.nn
      have st3 := st3.rw (r' := s_b (s_block T (s_lv T ν) (w_x w) (k + 1)) (fun _ k => s_r () k)) (fun gd => by rw [z (f3.1 gd), cond_true]; exact s_b_ret.symm)
      refine St.call (h := 36) (c_block hI hw hsl a) () st3 (fun _ => rfl) (by omega) (by rw [hw]; omega) (by omega) rfl (fun v4 j4 B4 q4 x4 u4 st4 f4 hj4 hs4 hn4 => ?_)
      have l4 := f4.nn
      refine st4.setn (k := k4) (by decide) (Or.inl (by decide)) rfl (by omega) (fun _ => by show fN σ 315 ≤ k4; omega) (Or.inl ⟨by decide, by decide⟩) (fun st5 => ?_)
      have hc4 := st4.cap.1
      refine w139 _ 36 B4 _ j4 _ _ _ _ _ _ (by show k4 < fN u4 315; omega) (by omega) (fun gd => by have := hj4 gd; have := hjk (f3.1 (f4.1 gd)); omega) (fun gd => ⟨fun _ y => ?_, fun _ => rfl⟩) st5
      have g4 : GD u4 := gd
      obtain ⟨kx, y1, y2, y3⟩ := hs4 g4
      rw [a_seta_s, y1] at y
      exact absurd y (nI_ne0 (by omega) (by omega))
  refine st2.eatWord (by omega) (fun z => ?_) (fun u3 z st3 f3 => ?_)
  · refine w118 _ _ _ j false u2 _ _ _ _ (by omega) (by omega) (by omega) hj2 (fun gd => ⟨⟨fun _ => rfl, fun _ => w3⟩, w4⟩) ((st2.rw fun gd => ?_).mono (by omega))
    rw [z gd, cond_false, s_b_r]
  · have l3 := f3.nn
    have st3 := st3.rw (r' := s_b (s_catch T (s_lv T ν) (w_x w) (j + 1)) (fun _ k => bif t_wd T k 16 then s_block T (s_lv T ν) (w_x w) (k + 1) else bif true then s_r () k else none)) (fun gd => by rw [z (f3.1 gd)]; rfl)
    refine St.callR (h := 75) (c := 100) (s := 1) (bb := true) (m' := m + 2 + q - 1 + 12) (e' := e) (θ1 := th σ) (Sh' := fun _ (_ : Unit) _ _ u => ¬ mm_a u 319 k4 = 0 ∧ mm_a u 320 k4 = 0) (N' := any2) (r1 := s_catch T (s_lv T ν) (w_x w)) (C := fun n u => k4 < fN u 315 → ∀ wv3 wv4 wv5 wv6 : Option mmV, mm_W mt3106 (MC d) Q (118, [some (.inr (.inr (3, a))), some (.inl x2), some (.inl (nI k4)), wv3, wv4, wv5, wv6], []) u) (fun en kk => c_catch hI ih hE hR hw hsl (by omega) (by omega) (by omega) st3.tl.1 (by omega) (by omega) (fun gd => by show fN σ 315 ≤ k4; omega) (fun gd => ?_) en (fun n u rs => kk n u rs (Nat.lt_of_lt_of_le (show k4 < fN u3 315 by omega) rs.1.nn))) () (st3.mono (by omega)) (fun _ => rfl) rfl (fun _ => tle.rfl') (fun v4 j4 B4 q4 x4 u4 st4 f4 hj4 hr4 hs4 hn4 => ?_)
    · exact (f3.row gd (by omega) (by omega) (by decide) (by decide)).trans w4
    · intro k5 wv3 wv4 wv5 wv6
      exact w118 _ _ _ j4 true u4 _ _ _ _ k5 (by omega) (by omega) (fun gd => by have := hj4 gd; have := hj2 (f3.1 (f4.1 gd)); omega) (fun gd => ⟨⟨fun y => absurd y (hs4 gd).1, fun y => nomatch y⟩, (hs4 gd).2⟩) (st4.mono (by omega))
end TRY
