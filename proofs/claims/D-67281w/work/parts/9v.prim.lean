/-! PHASE 3. primary() -/
theorem setf_setf {σ : mmS} {k : Nat} {x y : Int32} : mm_setf (mm_setf σ k x) k y = mm_setf σ k y := by
  unfold mm_setf mm_up
  refine Prod.ext (funext fun j => ?_) rfl
  show (if j = k then y else if j = k then x else σ.1 j) = if j = k then y else σ.1 j
  by_cases c : j = k
  · rw [if_pos c, if_pos c]
  · rw [if_neg c, if_neg c, if_neg c]
theorem adv2 {σ : mmS} : mm_setf (mm_setf σ 311 (mm_f σ 311 + 1)) 311 (mm_f (mm_setf σ 311 (mm_f σ 311 + 1)) 311 + 1) = mm_setf σ 311 (mm_f σ 311 + 2) := by
  rw [setf_setf, f_same, Int32.add_assoc]
  rfl
section PRIM
variable {T : sT} {ν : Nat}
theorem c_primary (hI : cIt T ν) (hE : cEl T ν) (hR : cRst T ν) (ih : cAsg T ν) (ihl : cLft T ν) : cPrm T ν := by
  intro a w hw hsl d g A m e i σ K X hd hq hm en k
  obtain ⟨d, rfl, hd⟩ := mc_pos (c := 50 * ν + 29) (by omega)
  have hGQ := GQ_le ν
  refine mc_ci (P := mt3075) (L := 4) rfl rfl ⟨by decide, Nat.le_of_ble_eq_true rfl⟩ fun Q hK hX => b3075_0 _ _ _ _ _ _ _ ?_
  have st := St.start (q := 460) (K := fun n u => Q (.inl (some (.inl n))) u) hq (by decide) en (fun n u rs => hK _ _ (k n u rs))
  rw [hw] at hq
  have n1 := st.ci.2.1.2.1
  refine st.wrong (fun gd st => ?_) (fun ng => st.bad ng (nid_0 st.ci))
  have st := st.rise (h' := 120) gd (by omega)
  have e1 : fN (mm_setf σ 311 (mm_f σ 311 + 1)) 315 = fN σ 315 := fN_eq (f_other (by decide))
  -- a node of one's own
  have nod : ∀ (b : Bool) (u : mmS) (m' j : Nat) (k x : Int32) (v : sN), fN σ 315 ≤ fN u 315 → m + 2 ≤ m' → (GD u → i + 1 ≤ j) → k = v.1 → (v.1 = 4 → x = v.2.1) → (v.1 == 26 || v.1 == 28 || v.1 == 35 || v.1 == 9 || v.1 == 10 || v.1 == 30 || v.1 == 31) = false → v.2.2.2.1 = false → v.2.2.2.2.1 = none →
      St T (shN T ν σ) nid g w m e (th σ) (i + 1) (fun n u => Q (.inl (some (.inl n))) u) b 120 w A m' e (s_r v j) u j → mm_I (MC d) Q 3051 [.inr (.inr (3, a)), .inl k, .inl x, .inl 0, .inl 0] u (fun x2 σ1 => Q (.inl (some (.inl x2))) σ1) := by
    intro b u m' j k x v hle hm' hj hk hx hv h4 h5 st
    simp only [Bool.or_eq_false_iff, beq_eq_false_iff_ne] at hv
    obtain ⟨⟨⟨⟨⟨⟨v1, v2⟩, v3⟩, v4⟩, v5⟩, v6⟩, v7⟩ := hv
    have k35 : (k == 35) = false := by rw [hk]; exact beq_eq_false_iff_ne.mpr v3
    refine St.node (h := 119) st (by omega) (by omega) (fun n2 u2 st2 f2 nw => ?_) (Or.inl k35)
    exact st2.ret (fun _ => rfl) (fun _ => rfl) (fun gd => hj (f2.1 gd)) 1 (fun _ => by omega) (fun _ => Nat.le_refl _) (fun gd => ⟨_, nw.1, sh_new nw n1 hle hk hx (fun q => by rcases q with q | q; exact absurd q v1; exact absurd q v2) h4 v3 (fun q => by rcases q with q | q; exact v4 q; exact v5 q) h5 (by rw [beq_eq_false_iff_ne.mpr v6, beq_eq_false_iff_ne.mpr v7]; rfl)⟩) (fun _ => nw.nid)
  have fin : ∀ (u2 : mmS) (x : Int32) (v : sN) (q j h m' : Nat) (B : cA), St T (shN T ν σ) nid g w m e (th σ) (i + 1) (fun n u => Q (.inl (some (.inl n))) u) true h w B (m' + q) e (s_r v j) u2 j → m ≤ m' → (GD u2 → i + 1 ≤ j) → (GD u2 → shN T ν σ v q x u2) → (¬ GD u2 → nid x u2) → Q (.inl (some (.inl x))) u2 := fun u2 x v q j h m' B st hm' hj hs hn =>
    st.ret (fun _ => rfl) (fun _ => rfl) hj q (fun _ => by omega) (fun _ => Nat.le_refl _) hs hn
  have fail : ∀ (u : mmS) (b : Bool) (m' j : Nat) (r : sR sN), (GD u → r = none) → St T (shN T ν σ) nid g w m e (th σ) (i + 1) (fun n u => Q (.inl (some (.inl n))) u) b 120 w A m' e r u j → mm_I (MC d) Q 3025 [.inr (.inr (3, a))] u (fun x4 σ3 => Q (.inl (some (.inl x4))) σ3) := fun u b m' j r hr st =>
    st.fail (by omega) hr (fun u5 ng st5 hf5 => st5.bad ng (nid_0 st5.ci))
  have fnA : ∀ (asy : Bool) (fl : Int32) (u : mmS) (m' j : Nat), fl = flF asy false → fN σ 315 ≤ fN u 315 → m + 6 ≤ m' → i + 1 ≤ j → St T (shN T ν σ) nid g w m e (th σ) (i + 1) (fun n u => Q (.inl (some (.inl n))) u) false 120 w A m' e (s_fnAt T (s_lv T ν) asy j) u j → mm_I (MC d) Q 3077 [.inr (.inr (3, a)), .inl fl] u (fun x6 σ5 => Q (.inl (some (.inl x6))) σ5) := by
    intro asy fl u m' j hfl h15 hm' hj st
    subst hfl
    have st2 := st.rw (r' := s_b (s_fnAt T (s_lv T ν) asy j) (fun n k => s_r n k)) (fun _ => s_b_ret.symm)
    refine St.callP (h := 20) (c := 0) (m' := m) (s := 0) (bb := false) (Sh' := shN T ν) (N' := nid) (r1 := s_fnAt T (s_lv T ν) asy) (fun en kk => c_functionAt (a := a) hI hE hR hw hsl (by omega) (by rw [hw]; omega) hm (by
      rcases en with q | ⟨z, -⟩
      · exact Or.inl (q.mono (by omega) (Nat.le_refl _))
      · exact absurd z (by decide)) kk) (n_k 0) (st2.mono (by omega)) (fun z => z) rfl (fun v j2 B q x u4 st4 f4 hj4 hs4 hn4 => ?_)
    refine fin u4 x v q j2 20 m B st4 (Nat.le_refl _) (fun gd => by have := hj4 gd; omega) (fun gd => ?_) hn4
    obtain ⟨kk, k1, k2⟩ := hs4 gd
    exact ⟨kk, k1, k2.lo n1 h15⟩
  have clA : ∀ (b : Bool) (x : Int32) (u : mmS) (m' j : Nat), (x = -1 ∨ ∃ k, x = nI k ∧ k < 2 ^ 31) → fN σ 315 ≤ fN u 315 → m + 10 ≤ m' → i + 1 ≤ j → (¬ GD u → mm_f u 311 = nI (t_e T)) → St T (shN T ν σ) nid g w m e (th σ) (i + 1) (fun n u => Q (.inl (some (.inl n))) u) b 120 w A m' (e + 1) (bif n_bad x then none else s_class T (s_lv T ν) (w_x w).1 j) u j → mm_I (MC d) Q 3068 [.inr (.inr (3, a)), .inl x] u (fun x6 σ5 => Q (.inl (some (.inl x6))) σ5) := by
    intro b x u m' j hx h15 hm' hj h11 st
    have st2 := st.rw (r' := s_b (bif n_bad x then none else s_class T (s_lv T ν) (w_x w).1 j) (fun n k => s_r n k)) (fun _ => s_b_ret.symm)
    refine St.callR (h := 20) (c := 100) (m' := m) (e' := e) (s := 0) (bb := true) (θ1 := th u) (Sh' := shN T ν) (N' := nid) (r1 := fun k => bif n_bad x then none else s_class T (s_lv T ν) (w_x w).1 k) (fun en kk => c_classAt (a := a) hI hE hR ih ihl hw hsl (by omega) (by omega) hm hx (by
      rcases en with q | ⟨-, q⟩
      · exact Or.inl (q.mono (by omega) (Nat.le_refl _))
      · exact Or.inr ⟨q, h11 q.no⟩) kk) (n_k 0) st2.tt (fun _ => rfl) rfl st2.tl.1 (fun v j2 B q x6 u4 st4 f4 hj4 hr hs4 hn4 => ?_)
    refine fin u4 x6 v q j2 20 m B st4 (Nat.le_refl _) (fun gd => by have := hj4 gd; omega) (fun gd => ?_) hn4
    obtain ⟨kk, k1, k2⟩ := hs4 gd
    exact ⟨kk, k1, k2.lo n1 h15⟩
  have tok : tokOK T := st.ci.1.2.2.2.2.2.2.2.2.2.1.1
  -- a word that is none of async function
  have w161 : ∀ x1 wv3, T.1 i = 1 → (t_wd T i 47 && t_wd T (i + 1) 18 && !t_ln T (i + 1)) = false → mm_W mt3075 (MC d) Q (161, [some (.inr (.inr (3, a))), some (.inl x1), some (.inl (t_v T i)), wv3], []) σ := by
    intro x1 wv3 k1 haf
    have nz : NZ T σ := ⟨i, st.good.2.2.1.1, kz_lt st.ci (by rw [k1]; decide), by rw [k1]; decide⟩
    have hkd : t_kd T i 1 = true := by unfold t_kd; rw [k1]; rfl
    have hid : t_id T i = decide (45 < t_v T i) := by unfold t_id t_v; rw [k1]; rfl
    have st := st.rw (r' := bif t_id T i then (bif t_v T i == 55 && (w_x w).1.2.2.2.2.2 then none else s_r (n_id (t_v T i)) (i + 1)) else
     bif t_v T i == 18 then s_fnAt T (s_lv T ν) false (i + 1) else
     bif t_v T i == 4 then (bif t_id T (i + 1) then (bif n_bad (t_v T (i + 1)) then none else s_class T (s_lv T ν) (w_x w).1 (i + 2)) else s_class T (s_lv T ν) (w_x w).1 (i + 1)) else
     bif t_v T i == 28 then s_r (n_k 5) (i + 1) else bif t_v T i == 24 then s_r (n_k 6) (i + 1) else bif t_v T i == 30 then s_r (n_k 7) (i + 1) else bif t_v T i == 15 then s_r (n_k 8) (i + 1) else none) (fun _ => by
      unfold s_prim
      rw [hkd, haf, show t_kd T i 4 = false by unfold t_kd; rw [k1]; rfl, show t_kd T i 5 = false by unfold t_kd; rw [k1]; rfl, show t_kd T i 6 = false by unfold t_kd; rw [k1]; rfl, show t_kd T i 7 = false by unfold t_kd; rw [k1]; rfl]
      rfl)
    have st1 := st.adv nz
    refine b3075_161 _ _ _ _ _ _ _ (br_p (fun c45 => ?_) (fun c45 => ?_))
    · rw [hid, decide_eq_true c45, cond_true] at st1
      refine br_p (fun c55 => br_p (fun c53 => ?_) (fun c53 => ?_)) (fun c55 => ?_)
      · refine st1.mark (by omega) (by decide) (fun u2 st2 f2 e2 => ?_)
        have l2 := f2.nn
        have y := st.good.2.2.2.2.1.1.2.2.2.2.2
        have z : (w_x w).1.2.2.2.2.2 = false := bI_0.mp (y.symm.trans c53)
        exact nod _ u2 (m + 12) (i + 1) 4 _ (n_id (t_v T i)) (by omega) (by omega) (fun _ => Nat.le_refl _) rfl (fun _ => rfl) rfl rfl rfl (st2.rw fun _ => by rw [z, Bool.and_false]; rfl)
      · refine fail _ _ _ _ _ (fun _ => ?_) st1
        have y := st.good.2.2.2.2.1.1.2.2.2.2.2
        have z : (w_x w).1.2.2.2.2.2 = true := by
          cases hx : (w_x w).1.2.2.2.2.2 with
          | true => rfl
          | false => exact absurd (y.trans (by rw [hx]; rfl)) c53
        rw [z, c55]; rfl
      · exact nod _ _ (m + 12) (i + 1) 4 _ (n_id (t_v T i)) (by omega) (by omega) (fun _ => Nat.le_refl _) rfl (fun _ => rfl) rfl rfl rfl (st1.rw fun _ => by rw [beq_eq_false_iff_ne.mpr c55]; rfl)
    · rw [hid, decide_eq_false c45, cond_false] at st1
      refine br_p (fun c18 => ?_) (fun c18 => ?_)
      · exact fnA false 0 _ (m + 12) (i + 1) (by decide) (by omega) (by omega) (Nat.le_refl _) (st1.rw fun _ => by rw [c18]; rfl)
      · rw [beq_eq_false_iff_ne.mpr c18, cond_false] at st1
        refine br_p (fun c4 => ?_) (fun c4 => ?_)
        · refine st1.isName (by omega) (fun z => ?_) (fun z nz1 => ?_)
          · have z := z gd
            have st2 := st.advE nz
            rw [hid, decide_eq_false c45, cond_false, beq_eq_false_iff_ne.mpr c18, cond_false, c4] at st2
            exact clA _ (-1) _ (m + 12) (i + 1) (Or.inl rfl) (by omega) (by omega) (Nat.le_refl _) (fun ng => absurd gd ng) (st2.rw fun _ => by rw [z]; rfl)
          · have z := z gd
            have st2 := st1.rw (r' := s_b (s_ident T (i + 1)) (fun x k => bif n_bad x then none else s_class T (s_lv T ν) (w_x w).1 k)) (fun _ => by rw [c4, z, show s_ident T (i + 1) = s_r (t_v T (i + 1)) (i + 1 + 1) by unfold s_ident; rw [z]; rfl, s_b_r]; rfl)
            refine st2.ident (by omega) (fun x u3 st3 f3 hx hb => ?_)
            have h315 : fN σ 315 ≤ fN u3 315 := by have := f3.nn; omega
            refine clA _ x u3 (m + 12 + 12) (i + 1 + 1) (Or.inr ?_) h315 (by omega) (by omega) (fun ng => (hb rfl ng).1) st3
            by_cases gd3 : GD u3
            · obtain ⟨h1, h2⟩ := hx gd3
              have k2 : T.1 (i + 1) = 1 := by
                unfold t_id at h2
                rw [Bool.and_eq_true] at h2
                exact eq_of_beq h2.1
              obtain ⟨k, q1, q2⟩ := (tok (i + 1)).2 k2
              exact ⟨k, h1.trans q1, by omega⟩
            · exact ⟨0, by rw [(hb rfl gd3).2, nI_0], by decide⟩
        · rw [beq_eq_false_iff_ne.mpr c4, cond_false] at st1
          refine br_p (fun c28 => ?_) (fun c28 => ?_)
          · refine st1.mark (by omega) (by decide) (fun u2 st2 f2 e2 => ?_)
            have l2 := f2.nn
            exact nod _ u2 (m + 12) (i + 1) 5 _ (n_k 5) (by omega) (by omega) (fun _ => Nat.le_refl _) rfl (fun z => absurd z (by decide)) rfl rfl rfl (st2.rw fun _ => by rw [c28]; rfl)
          · rw [beq_eq_false_iff_ne.mpr c28, cond_false] at st1
            refine br_p (fun c24 => ?_) (fun c24 => ?_)
            · exact nod _ _ (m + 12) (i + 1) 6 _ (n_k 6) (by omega) (by omega) (fun _ => Nat.le_refl _) rfl (fun z => absurd z (by decide)) rfl rfl rfl (st1.rw fun _ => by rw [c24]; rfl)
            · rw [beq_eq_false_iff_ne.mpr c24, cond_false] at st1
              refine br_p (fun c30 => ?_) (fun c30 => ?_)
              · exact nod _ _ (m + 12) (i + 1) 7 _ (n_k 7) (by omega) (by omega) (fun _ => Nat.le_refl _) rfl (fun z => absurd z (by decide)) rfl rfl rfl (st1.rw fun _ => by rw [c30]; rfl)
              · rw [beq_eq_false_iff_ne.mpr c30, cond_false] at st1
                refine br_p (fun c15 => ?_) (fun c15 => ?_)
                · exact nod _ _ (m + 12) (i + 1) 8 _ (n_k 8) (by omega) (by omega) (fun _ => Nat.le_refl _) rfl (fun z => absurd z (by decide)) rfl rfl rfl (st1.rw fun _ => by rw [c15]; rfl)
                · exact fail _ _ _ _ _ (fun _ => by rw [beq_eq_false_iff_ne.mpr c15]; rfl) st1
  have w90 : ∀ x1 wv3, T.1 i = x1 → ¬ x1 = 4 → ¬ x1 = 5 → ¬ x1 = 6 → (t_kd T i 7 && t_hd T i) = false → mm_W mt3075 (MC d) Q (90, [some (.inr (.inr (3, a))), some (.inl x1), some (.inl (t_v T i)), wv3], []) σ := by
    intro x1 wv3 hx1 c4 c5 c6 h7
    have k456 : (t_kd T i 4 || t_kd T i 5 || t_kd T i 6) = false := by
      unfold t_kd
      rw [hx1, beq_eq_false_iff_ne.mpr c4, beq_eq_false_iff_ne.mpr c5, beq_eq_false_iff_ne.mpr c6]; rfl
    refine b3075_90 _ _ _ _ _ _ _ (br_p (fun c1 => ?_) (fun c1 => ?_))
    · have k1 : T.1 i = 1 := hx1.trans c1
      have nz : NZ T σ := ⟨i, st.good.2.2.1.1, kz_lt st.ci (by rw [k1]; decide), by rw [k1]; decide⟩
      refine br_p (fun c47 => st.rdk1 (fun y1 hy1 _ => br_p (fun d1 => st.rdv1 (fun y2 hy2 => br_p (fun d18 => st.lineAt1 (by omega) (fun zl => ?_) (fun zl => ?_)) (fun d18 => ?_))) (fun d1 => ?_))) (fun c47 => ?_)
      · have h47 : t_wd T i 47 = true := by unfold t_wd; rw [k1]; unfold t_v at c47; rw [c47]; rfl
        have h18 : t_wd T (i + 1) 18 = true := by
          unfold t_wd
          rw [hy1 gd, d1, show T.2.1 (i + 1) = 18 from (hy2 gd).trans d18]; rfl
        have st1 := st.adv nz
        have st2 := st1.adv (NZ_wd st1.ci st1.good.2.2.1.1 h18)
        rw [adv2] at st2
        have e2 : fN (mm_setf σ 311 (mm_f σ 311 + 2)) 315 = fN σ 315 := fN_eq (f_other (by decide))
        refine fnA true 2 _ (m + 12 + 12) (i + 1 + 1) (by decide) (by omega) (by omega) (by omega) (st2.rw fun _ => ?_)
        unfold s_prim
        rw [k456, h7, h47, h18, zl gd, show t_kd T i 1 = true by unfold t_kd; rw [k1]; rfl]
        rfl
      · exact w161 _ _ k1 (by rw [zl gd]; simp)
      · exact w161 _ _ k1 (by
          have : t_wd T (i + 1) 18 = false := by
            unfold t_wd
            rw [beq_eq_false_iff_ne.mpr (show ¬ T.2.1 (i + 1) = 18 from fun q => d18 ((hy2 gd).symm.trans q)), Bool.and_false]
          rw [this]; simp)
      · exact w161 _ _ k1 (by
          have : t_wd T (i + 1) 18 = false := by
            unfold t_wd
            rw [hy1 gd, beq_eq_false_iff_ne.mpr d1]; rfl
          rw [this]; simp)
      · exact w161 _ _ k1 (by
          have : t_wd T i 47 = false := by
            unfold t_wd
            rw [beq_eq_false_iff_ne.mpr (show ¬ T.2.1 i = 47 from c47), Bool.and_false]
          rw [this]; rfl)
    · have hk1 : t_kd T i 1 = false := by unfold t_kd; rw [hx1]; exact beq_eq_false_iff_ne.mpr c1
      have st := st.rw (r' := bif t_sg T i 2 then s_b (s_expr T (s_lv T ν) (w_x w).1 true (i + 1)) (fun n j => s_b (s_nd T 3 j) (fun _ k => s_r (n_par n) k)) else
        bif t_sg T i 4 then s_b (s_arrL T (s_lv T ν) (w_x w).1 (t_e T + 1) (some 0) false (i + 1)) (fun c k => s_r (n_lit 9 c) k) else
        bif t_sg T i 0 then s_b (s_objL T (s_lv T ν) (w_x w).1 (t_e T + 1) (some 0) false (i + 1)) (fun c k => s_r (n_lit 10 c) k) else none) (fun _ => by
        unfold s_prim
        rw [k456, h7, hk1]; rfl)
      refine st.eat (by omega) (fun z2 => ?_) (fun u2 z2 st2 f2 => ?_)
      · have z2 := z2 gd
        refine st.sign (by omega) (fun z4 => ?_) (fun z4 nz => ?_)
        · have z4 := z4 gd
          refine st.sign (by omega) (fun z0 => ?_) (fun z0 nz => ?_)
          · exact fail _ _ _ _ _ (fun _ => by rw [z2, z4, z0 gd]; rfl) st
          · have z0 := z0 gd
            have st2 := st.rw (r' := s_b (s_b (s_objL T (s_lv T ν) (w_x w).1 (t_e T + 1) (some 0) false (i + 1)) (fun c k => s_r (n_lit 10 c) k)) (fun n k => s_r n k)) (fun _ => by rw [z2, z4, z0, s_b_ret]; rfl)
            refine St.callP (h := 40) (c := 0) (m' := m) (s := 1) (bb := false) (Sh' := shN T ν) (N' := nid) (r1 := fun k => s_b (s_objL T (s_lv T ν) (w_x w).1 (t_e T + 1) (some 0) false (k + 1)) (fun c k => s_r (n_lit 10 c) k)) (fun en kk => c_object (a := a) hI hE hR ih hw (by omega) (by rw [hw]; omega) hm nz en kk) (n_k 0) (st2.mono (by omega)) (fun z => z) rfl (fun v j2 B q x u4 st4 f4 hj4 hs4 hn4 => ?_)
            exact fin u4 x v q j2 40 m B st4 (Nat.le_refl _) hj4 hs4 hn4
        · have z4 := z4 gd
          have st2 := st.rw (r' := s_b (s_b (s_arrL T (s_lv T ν) (w_x w).1 (t_e T + 1) (some 0) false (i + 1)) (fun c k => s_r (n_lit 9 c) k)) (fun n k => s_r n k)) (fun _ => by rw [z2, z4, s_b_ret]; rfl)
          refine St.callP (h := 40) (c := 0) (m' := m) (s := 1) (bb := false) (Sh' := shN T ν) (N' := nid) (r1 := fun k => s_b (s_arrL T (s_lv T ν) (w_x w).1 (t_e T + 1) (some 0) false (k + 1)) (fun c k => s_r (n_lit 9 c) k)) (fun en kk => c_array (a := a) ih hw (by omega) (by rw [hw]; omega) hm nz en kk) (n_k 0) (st2.mono (by omega)) (fun z => z) rfl (fun v j2 B q x u4 st4 f4 hj4 hs4 hn4 => ?_)
          exact fin u4 x v q j2 40 m B st4 (Nat.le_refl _) hj4 hs4 hn4
      · have z2 := z2 gd
        have l2 := f2.nn
        have st3 := st2.rw (r' := s_b (s_expr T (s_lv T ν) (w_x w).1 true (i + 1)) (fun n j => s_b (s_nd T 3 j) (fun _ k => s_r (n_par n) k))) (fun _ => by rw [z2]; rfl)
        refine St.call (h := 40) (c_expression (inn := true) (a := a) ih hw) (n_k 0) (st3.mono (by omega)) (fun _ => rfl) (by omega) (by rw [hw]; omega) (by omega) rfl (fun v j B q x u4 st4 f4 hj4 hs4 hn4 => ?_)
        have nd4 := nd_of hs4 hn4
        refine st4.need (by omega) (fun u5 st5 f5 _ => ?_)
        obtain ⟨kk, k1, k2, k3⟩ := nd4
        have l4 := f4.nn
        have l5 := f5.nn
        show mm_S u5 323 x 1 _
        refine st5.setn (k := kk) (by decide) (Or.inr (Or.inr rfl)) k1 (by omega) (fun gd5 => ?_) (Or.inl ⟨by decide, by decide⟩) (fun st6 => ?_)
        · have s1 := (k3 (f5.1 gd5)).2.1
          show fN σ 315 ≤ kk
          omega
        · refine st6.ret (fun _ => rfl) (fun _ => rfl) (fun gd5 => by have := hj4 (f5.1 gd5); omega) 1 (fun _ => by omega) (fun _ => Nat.le_refl _) (fun gd5 => ?_) (fun _ => ⟨kk, k1, by show kk < fN u5 315; omega⟩)
          have gd5 : GD u5 := gd5
          obtain ⟨s1, s2, s3, s4, s5⟩ := (k3 (f5.1 gd5)).mono f5 gd5
          obtain ⟨a1, a2, a3, a4, a5, a6, a7, a8⟩ := s4
          have n0 (s : Nat) (hs : s ≠ 323) : mm_a (mm_seta u5 323 kk 1) s = mm_a u5 s := a_seta_n hs
          refine ⟨kk, k1, ⟨n1, Nat.le_refl _⟩, by omega, s3, ⟨by rw [n0 316 (by decide)]; exact a1, by rw [n0 317 (by decide)]; exact a2, by rw [n0 320 (by decide)]; exact a3, a_seta_s, by rw [n0 316 (by decide), n0 317 (by decide)]; exact a5, by rw [n0 322 (by decide)]; exact a6, a7, a8⟩, fun _ z => nomatch z⟩
  -- the start
  refine st.rdk (fun x1 hx1 zx1 => st.rdv (fun x2 hx2 => ?_))
  have hx1 := hx1 gd
  have hx2 := hx2 gd
  subst hx2
  have w45 : ∀ wv3, (x1 = 4 ∨ x1 = 5 ∨ x1 = 6) → mm_W mt3075 (MC d) Q (45, [some (.inr (.inr (3, a))), some (.inl x1), some (.inl (t_v T i)), wv3], []) σ := by
    intro wv3 hc
    have nz : NZ T σ := zx1 (by rcases hc with rfl | rfl | rfl <;> decide)
    have st1 := st.adv nz
    refine b3075_45 _ _ _ _ _ _ _ (nod _ _ (m + 12) (i + 1) 1 _ (n_k 1) (by omega) (by omega) (fun _ => Nat.le_refl _) rfl (fun z => absurd z (by decide)) rfl rfl rfl (st1.rw fun _ => ?_))
    unfold s_prim
    rw [show (t_kd T i 4 || t_kd T i 5 || t_kd T i 6) = true by unfold t_kd; rw [hx1]; rcases hc with rfl | rfl | rfl <;> rfl]
    rfl
  refine br_p (fun c4 => w45 _ (Or.inl c4)) (fun c4 => br_p (fun c5 => w45 _ (Or.inr (Or.inl c5))) (fun c5 => br_p (fun c6 => w45 _ (Or.inr (Or.inr c6))) (fun c6 => br_p (fun c7 => st.rdg (fun x3 hx3 => br_p (fun ch => ?_) (fun ch => ?_))) (fun c7 => ?_))))
  · exact w90 _ _ hx1 c4 c5 c6 (by
      have : t_hd T i = false := by unfold t_hd; rw [hx3 gd]; simp [ch]
      rw [this, Bool.and_false])
  · have k7 : T.1 i = 7 := hx1.trans c7
    have hh : t_hd T i = true := by unfold t_hd; rw [hx3 gd]; simp [ch]
    have st2 := st.rw (r' := s_b (s_tplL T (s_lv T ν) (w_x w).1 false (t_e T + 1) i) (fun _ k => s_r (n_k 13) k)) (fun _ => by
      unfold s_prim
      rw [hh, show (t_kd T i 4 || t_kd T i 5 || t_kd T i 6) = false by unfold t_kd; rw [k7]; rfl, show t_kd T i 7 = true by unfold t_kd; rw [k7]; rfl]
      rfl)
    refine St.callP (h := 40) (c := 0) (m' := m) (s := 1) (bb := false) (Sh' := shT T ν) (N' := nid) (r1 := s_tplL T (s_lv T ν) (w_x w).1 false (t_e T + 1)) (fun en kk => c_template (a := a) (tag := false) ih hw (by omega) (by rw [hw]; omega) hm ⟨fun _ => rfl, fun _ => rfl⟩ k7 en kk) () (st2.mono (by omega)) (fun z => z) rfl (fun v j2 B q x u4 st4 f4 hj4 hs4 hn4 => ?_)
    exact fin u4 x (n_k 13) q j2 40 m B st4 (Nat.le_refl _) hj4 hs4 hn4
  · exact w90 _ _ hx1 c4 c5 c6 (by
      have : t_kd T i 7 = false := by unfold t_kd; rw [hx1]; exact beq_eq_false_iff_ne.mpr c7
      rw [this]; rfl)
end PRIM
