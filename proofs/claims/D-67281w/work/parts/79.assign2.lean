/-! PHASE 3. assignIn(), assign() -/
section ASG2
variable {β : Type} {T : sT} {Sh : β → Nat → Int32 → mmS → Prop} {N : Int32 → mmS → Prop} {g : Nat} {w0 : cW} {m0 e0 : Nat} {θ : cTh} {l0 : Nat} {Z : Int32 → mmS → Prop} {b : Bool} {h : Nat} {w : cW} {A : cA} {m e : Nat} {r : sR β} {σ σ0 : mmS} {i : Nat}
variable {ν a d : Nat} {Q : mmQ}
/-- the contract of arrow() -/
def cArw (T : sT) (ν : Nat) : Prop := ∀ (a : Nat) (w : cW) (inn asy : Bool), w_nu w = ν → CI T (shN T ν) nid (50 * ν + 45) 0 1320 false 1 w (s_arrow T (s_lv T ν) (w_x w).1 inn asy) 3060 [.inr (.inr (3, a)), .inl (bI inn), .inl (if asy then 2 else 0)]
theorem i_sub0 {x y : Int32} : x - y = 0 ↔ x = y := by
  constructor
  · intro q
    have := congrArg (· + y) q
    simpa using this
  · intro q
    rw [q]
    exact Int32.sub_self y
theorem bin_ci (ih : cAsg T ν) (ihn : cNew T ν) (ihp : cPrm T ν) (ihu : cUna T ν) (hw : w_nu w = ν) (hsl : wSl w) {inn : Bool} : ∀ a, CI T (shN T ν) nid (50 * ν + 49) 4 650 false 1 w (s_bin T (s_lv T ν) (w_x w).1 inn 13 1) 3108 [.inr (.inr (3, a)), .inl 1, .inl (bI inn)] := by
  intro a d g A m e i σ K X hd hq hm en k
  refine bin_all ih ihn ihp ihu 13 1 d a g inn w A m e i σ K X hw hsl (by omega) (by omega) hm (by decide) (by decide) (by decide) ?_ k
  rcases en with en | ⟨z, -⟩
  · exact Or.inl en
  · exact absurd z (by decide)
theorem c_asgIn {inn : Bool} {K : Int32 → mmS → Prop} {X : Nat → mmS → Prop} (ih : cAsg T ν) (ihn : cNew T ν) (ihp : cPrm T ν) (ihu : cUna T ν) (iha : cArw T ν) (hw : w_nu w = ν) (hsl : wSl w) (hd : 50 * ν + 55 ≤ d) (hq : g + 1340 ≤ GQ (w_nu w)) (hm : 24 ≤ m) (en : cG T w A m e σ i ∨ (true = true ∧ cB T (g + 0) σ)) (k : ∀ n u, Rs T (shN T ν σ) nid g w m e (th σ) (i + 1) A (s_asg T (s_lv T ν) (w_x w).1 inn i) σ n u → K n u) :
    mm_ci (MC d) 3054 [.inr (.inr (3, a)), .inl (bI inn)] σ K X := by
  obtain ⟨d, rfl, hd⟩ := mc_pos (c := 50 * ν + 54) (by omega)
  refine mc_ci (P := mt3054) (L := 5) rfl rfl ⟨by decide, Nat.le_of_ble_eq_true rfl⟩ fun Q hK hX => b3054_0 _ _ _ _ _ _ _ _ ?_
  have st := St.start (q := 1340) (K := fun n u => Q (.inl (some (.inl n))) u) hq (by decide) en (fun n u rs => hK _ _ (k n u rs))
  have n1 := st.ci.2.1.2.1
  have hGQ := GQ_le ν
  rw [hw] at hq
  refine st.wrong (fun gd st => ?_) (fun ng => st.bad ng (nid_0 st.ci))
  have st : St T (shN T ν σ) nid g w m e (th σ) (i + 1) (fun n u => Q (.inl (some (.inl n))) u) false 8 w A m e (s_asg T (s_lv T ν) (w_x w).1 inn i) σ i := st.rise gd (by omega)
  have xx := st.good.2.2.2.2.1.1
  have tl0 := st.tl.1
  have hi := st.good.2.2.1.2
  -- a reading alone, and no more
  have one : ∀ (r : sR sN), r = s_b r (fun n k => s_r n k) := fun r => by
    cases r with
    | none => rfl
    | some z => obtain ⟨z1, z2, z3⟩ := z; simp only [s_b, s_r, sA_m0]
  have w31 : ((w_x w).1.1 && t_wd T i 37) = false → mm_W mt3054 (MC d) Q (31, [some (.inr (.inr (3, a))), some (.inl (bI inn)), none, none, none], []) σ := fun hy => by
    have w144 : ∀ (v2 : Int32), t_aarr T i = true → mm_W mt3054 (MC d) Q (144, [some (.inr (.inr (3, a))), some (.inl (bI inn)), some (.inl v2), none, none], []) σ := fun v2 hz => by
      have k1 : T.1 i ≠ 0 := by
        unfold t_aarr at hz
        rw [Bool.and_eq_true, Bool.and_eq_true] at hz
        exact wd_ne hz.1.1
      refine b3054_144 _ _ _ _ _ _ _ _ ?_
      have st := st.rw (r' := s_b (s_arrow T (s_lv T ν) (w_x w).1 inn true (i + 1)) (fun n k => s_r n k)) (fun _ => by rw [s_asg, hy, cond_false, hz, cond_true]; exact one _)
      have st := st.adv (NZ_g st.good k1)
      refine St.call (h := 8) (iha a w inn true hw) (n_k 0) st (fun z => z) (by omega) (by rw [hw]; omega) (by omega) rfl (fun v j B q x u st hf hj hs hn => ?_)
      have n2 : fN (mm_setf σ 311 (mm_f σ 311 + 1)) 315 = fN σ 315 := fN_eq (f_other (by decide))
      exact st.ret (fun _ => rfl) (fun _ => rfl) (fun gd => by have := hj gd; omega) q (fun _ => by omega) (fun _ => Nat.le_refl _) (fun gd => by
        obtain ⟨k, k1, k2⟩ := hs gd
        rw [n2] at k2
        exact ⟨k, k1, k2⟩) hn
    have w213 : ∀ (v2 : Int32), t_aarr T i = false → t_parr T i = false → mm_W mt3054 (MC d) Q (213, [some (.inr (.inr (3, a))), some (.inl (bI inn)), some (.inl v2), none, none], []) σ := fun v2 ha hp => by
      have st := st.rw (r' := s_b (s_cond T (s_lv T ν) (w_x w).1 inn i) (fun n j => bif t_kd T j 3 && decide (40 ≤ t_v T j) && decide (t_v T j < 56) then
    (bif t_v T j == 40 then s_aim n (j + 1) (fun _ k => s_b ((s_lv T ν).1 (w_x w).1 inn k) (fun _ m => s_r (n_d 28 0) m))
     else bif n_si n then s_b ((s_lv T ν).1 (w_x w).1 inn (j + 1)) (fun _ m => s_r (n_d 28 (t_v T j - 40)) m) else none) else s_r n j)) (fun _ => by rw [s_asg, hy, cond_false, ha, cond_false, hp, cond_false]; rfl)
      refine b3054_213 _ _ _ _ _ _ _ _ ?_
      refine St.call (h := 2) (c_cond (a := a) (inn := inn) ih hw (bin_ci ih ihn ihp ihu hw hsl)) (n_k 0) st (fun z => z) (by omega) (by rw [hw]; omega) hm rfl (fun v j B q x u st hf hj hs hn => ?_)
      have hx : ndK T ν (fN σ 315) v q x u := nd_of hs hn
      have fr := hf.mono tl0
      have rt : (GD u → (t_kd T j 3 && decide (40 ≤ t_v T j) && decide (t_v T j < 56)) = false) → Q (.inl (some (.inl x))) u := fun hz =>
        (st.f hz).ret (fun _ => rfl) (fun _ => rfl) (fun gd => hj gd) q (fun _ => Nat.le_refl _) (fun _ => Nat.le_refl _) hs hn
      refine st.wrong (fun gd2 st2 => ?_) (fun ng => st.bad ng (hn ng))
      refine st2.rdk (fun x3 hx3 hnz => br_p (fun c3 => st2.rdv (fun x4 hx4 => br_p (fun c4 => rt fun _ => ?_) (fun c4 => st2.rdv (fun x5 hx5 => br_p (fun c5 => st2.rdv (fun x6 hx6 => ?_)) (fun c5 => rt fun _ => ?_))))) (fun c3 => rt fun _ => ?_))
      · rw [hx4 gd2, decide_eq_false (fun z => absurd c4 (so_nlt.mpr z)), Bool.and_false]; rfl
      · -- an assignment
        have cnd : (t_kd T j 3 && decide (40 ≤ t_v T j) && decide (t_v T j < 56)) = true := by
          rw [show t_kd T j 3 = true by unfold t_kd; rw [hx3 gd2, c3]; rfl, decide_eq_true (by rw [hx4 gd2]; exact i_nlt c4), decide_eq_true (by rw [hx5 gd2]; exact c5)]; rfl
        have st3 := (st2.t fun _ => cnd).rise (h' := 72) gd2 (by omega)
        have nz := hnz (by rw [c3]; decide)
        have st4 := st3.adv nz
        have e315 : fN (mm_setf u 311 (mm_f u 311 + 1)) 315 = fN u 315 := fN_eq (f_other (by decide))
        have hx5' : ndK T ν (fN σ 315) v q x (mm_setf u 311 (mm_f u 311 + 1)) := hx.mono Fr_adv
        have v6 := hx6 gd2
        have mk : ∀ (u5 : mmS) (op x2 y : Int32) (B5 : cA) (m5 j5 h5 : Nat), St T (shN T ν σ) nid g w m e (th σ) (i + 1) (fun n u => Q (.inl (some (.inl n))) u) true (h5 + 1) w B5 m5 e (s_r (n_d 28 op) j5) u5 j5 → m + 2 ≤ m5 → fN σ 315 ≤ fN u5 315 → (GD u5 → i + 1 ≤ j5) →
            mm_I (MC d) Q 3056 [.inr (.inr (3, a)), .inl 28, .inl x2, .inl y, .inl 0, .inl op] u5 (fun x6 σ5 => Q (.inl (some (.inl x6))) σ5) := fun u5 op x2 y B5 m5 j5 h5 st hm5 hn5 hj5 => by
          refine St.node5 (h := h5) st (by omega) (by omega) (fun n7 u7 st hf7 nw => ?_)
          exact st.ret (fun _ => rfl) (fun _ => rfl) (fun gd => hj5 (hf7.1 gd)) 1 (fun _ => by omega) (fun _ => Nat.le_refl _) (fun gd => (ndK_d nw n1 hn5 rfl).sh gd) (fun _ => nw.nid)
        refine b3054_283 _ _ _ _ _ _ _ _ (br_p (fun c0 => ?_) (fun c0 => ?_))
        · have e40 : x6 = 40 := i_sub0.mp c0
          have st5 := st4.rw (r' := s_aim v (j + 1) (fun _ k => s_b ((s_lv T ν).1 (w_x w).1 inn k) (fun _ m => s_r (n_d 28 0) m))) (fun _ => by rw [v6, e40]; rfl)
          rw [show m + q + 12 = m + 12 + q by omega] at st5
          refine St.aim (h := 8) (m := m + 12) rfl st5 (by omega) (by omega) (by omega) (by have hq' := hq; unfold GQ at hq'; omega) hx5' (fun _ => Nat.le_refl _) (fun n' u6 B6 st6 fr6 hn6 => ?_)
          refine St.call (h := 8) (ih a w inn hw) (n_k 0) st6 (fun _ => rfl) (by omega) (by rw [hw]; omega) (by omega) rfl (fun v' j' B' q' x' u7 st7 hf7 hj7 hs7 hn7 => ?_)
          rw [c0]
          exact mk u7 0 n' x' B' _ j' 7 st7 (by omega) (by have := fr.nn; have := fr6.nn; have := hf7.nn; omega) (fun gd => by have := hj7 gd; have := hj gd2; omega)
        · have e40 : ¬ x6 = 40 := fun z => c0 (i_sub0.mpr z)
          have st5 := st4.rw (r' := bif n_si v then s_b ((s_lv T ν).1 (w_x w).1 inn (j + 1)) (fun _ m => s_r (n_d 28 (t_v T j - 40)) m) else none) (fun _ => by rw [v6, beq_eq_false_iff_ne.mpr e40]; rfl)
          refine st5.simp2 (by omega) hx5' (fun z => ?_) (fun z => ?_)
          · exact (st5.f z).fail (by omega) (fun _ => rfl) (fun u ng st hf => st.bad ng (nid_0 st.ci))
          · refine St.call (h := 8) (ih a w inn hw) (n_k 0) ((st5.t z).mono (by decide)) (fun _ => rfl) (by omega) (by rw [hw]; omega) (by omega) rfl (fun v' j' B' q' x' u7 st7 hf7 hj7 hs7 hn7 => ?_)
            rw [v6] at st7
            exact mk u7 (x6 - 40) x x' B' _ j' 7 st7 (by omega) (by have := fr.nn; have := hf7.nn; omega) (fun gd => by have := hj7 gd; have := hj gd2; omega)
      · rw [hx5 gd2, decide_eq_false c5, Bool.and_false]
      · rw [show t_kd T j 3 = false by unfold t_kd; rw [hx3 gd2]; exact beq_eq_false_iff_ne.mpr c3]; rfl
    have arr0 : t_aarr T i = false → t_parr T i = true → mm_I (MC d) Q 3060 [.inr (.inr (3, a)), .inl (bI inn), .inl 0] σ (fun x6 σ5 => Q (.inl (some (.inl x6))) σ5) := fun ha hp => by
      have st := st.rw (r' := s_b (s_arrow T (s_lv T ν) (w_x w).1 inn false i) (fun n k => s_r n k)) (fun _ => by rw [s_asg, hy, cond_false, ha, cond_false, hp, cond_true]; exact one _)
      refine St.call (h := 8) (iha a w inn false hw) (n_k 0) st (fun z => z) (by omega) (by rw [hw]; omega) (by omega) rfl (fun v j B q x u st hf hj hs hn => ?_)
      exact st.ret (fun _ => rfl) (fun _ => rfl) (fun gd => hj gd) q (fun _ => Nat.le_refl _) (fun _ => Nat.le_refl _) hs hn
    have w181 : ∀ (v2 : Int32), t_aarr T i = false → (t_id T i && t_ar T (i + 1)) = false → mm_W mt3054 (MC d) Q (181, [some (.inr (.inr (3, a))), some (.inl (bI inn)), some (.inl v2), none, none], []) σ := fun v2 ha h1 => by
      refine b3054_181 _ _ _ _ _ _ _ _ (st.sign (by omega) (fun z => w213 v2 ha ?_) (fun z _ => st.close0 (by omega) (st.isArrowC (by omega) (t_clL_le st.ci.1.2.2.2.2.2.2.2.2.1 _ _ _ hi) (fun z2 => w213 v2 ha ?_) (fun z2 => arr0 ha ?_))))
      · unfold t_parr; rw [h1, z gd]; rfl
      · unfold t_parr; rw [h1, show t_ar T (t_cl T i + 1) = false from z2, Bool.and_false]; rfl
      · unfold t_parr; rw [z gd, show t_ar T (t_cl T i + 1) = true from z2]; simp
    have w161 : ∀ (v2 : Int32), t_aarr T i = false → mm_W mt3054 (MC d) Q (161, [some (.inr (.inr (3, a))), some (.inl (bI inn)), some (.inl v2), none, none], []) σ := fun v2 ha => by
      refine b3054_161 _ _ _ _ _ _ _ _ (st.isName (by omega) (fun z => w181 v2 ha ?_) (fun z _ => st.isArrow1 (by omega) (fun z2 => w181 v2 ha ?_) (fun z2 => arr0 ha ?_)))
      · rw [z gd]; rfl
      · rw [z2 gd, Bool.and_false]
      · unfold t_parr; rw [z gd, z2 gd]; rfl
    have w107 : ∀ (v2 : Int32), (¬ v2 = 0 → (t_wd T i 47 && !t_ln T (i + 1)) = true) → (v2 = 0 → (t_wd T i 47 && !t_ln T (i + 1)) = false) → (t_kd T (i + 1) 1 && !(t_v T (i + 1) == 18) && t_ar T (i + 2)) = false ∨ v2 = 0 → mm_W mt3054 (MC d) Q (107, [some (.inr (.inr (3, a))), some (.inl (bI inn)), some (.inl v2), none, none], []) σ := fun v2 h1 h2 h3 => by
      refine b3054_107 _ _ _ _ _ _ _ _ (br_p (fun c => w161 v2 ?_) (fun c => ?_))
      · unfold t_aarr; rw [h2 c]; rfl
      · have h3 := h3.resolve_right c
        have h1 := h1 c
        have k1 : T.1 i ≠ 0 := by
          rw [Bool.and_eq_true] at h1
          exact wd_ne h1.1
        have hlt := lt_e st.ci hi k1
        refine st.signAt1 (by omega) (fun z => w161 v2 ?_) (fun z _ => st.close1 (by omega) hlt (st.isArrowC (by omega) (t_clL_le st.ci.1.2.2.2.2.2.2.2.2.1 _ _ _ hlt) (fun z2 => w161 v2 ?_) (fun z2 => w144 v2 ?_)))
        · unfold t_aarr; rw [h1, h3, z gd]; rfl
        · unfold t_aarr; rw [h1, h3, show t_ar T (t_cl T (i + 1) + 1) = false from z2, Bool.and_false]; rfl
        · unfold t_aarr; rw [h1, z gd, show t_ar T (t_cl T (i + 1) + 1) = true from z2]; simp
    have w58 : ∀ (s0 : Int32), (¬ s0 = 0 → (t_wd T i 47 && !t_ln T (i + 1)) = true) → (s0 = 0 → (t_wd T i 47 && !t_ln T (i + 1)) = false) → mm_W mt3054 (MC d) Q (58, [some (.inr (.inr (3, a))), some (.inl (bI inn)), none, none, none], [.inl s0]) σ := fun s0 h1 h2 => by
      refine b3054_58 _ _ _ _ _ _ _ _ _ (br_p (fun c => w107 s0 h1 h2 (Or.inr c)) (fun c => st.rdk1 (fun x hx _ => br_p (fun c1 => st.rdv1 (fun x2 hx2 => br_p (fun c2 => w107 s0 h1 h2 (Or.inl ?_)) (fun c2 => st.isArrow2 (by omega) (fun z => w107 s0 h1 h2 (Or.inl ?_)) (fun z => w144 s0 ?_)))) (fun c1 => w107 s0 h1 h2 (Or.inl ?_)))))
      · rw [hx2 gd, c2]; simp
      · rw [z gd, Bool.and_false]
      · unfold t_aarr
        rw [h1 c, show t_kd T (i + 1) 1 = true by unfold t_kd; rw [hx gd, c1]; rfl, hx2 gd, beq_eq_false_iff_ne.mpr c2, z gd]; rfl
      · rw [show t_kd T (i + 1) 1 = false by unfold t_kd; rw [hx gd]; exact beq_eq_false_iff_ne.mpr c1]; rfl
    refine b3054_31 _ _ _ _ _ _ _ _ (st.word (by omega) (fun z => w58 0 (fun c => absurd rfl c) (fun _ => ?_)) (fun z _ => st.lineAt1 (by omega) (fun z2 => w58 1 (fun _ => ?_) (fun c => absurd c (by decide))) (fun z2 => w58 0 (fun c => absurd rfl c) (fun _ => ?_))))
    · rw [z gd]; rfl
    · rw [z gd, z2 gd]; rfl
    · rw [z gd, z2 gd]; rfl
  refine br_p (fun c => w31 ?_) (fun c => st.word (by omega) (fun z => w31 ?_) (fun z _ => ?_))
  · rw [bI_0.mp (xx.1.symm.trans c)]; rfl
  · rw [z gd, Bool.and_false]
  · have hh : (w_x w).1.1 = true := by
      cases hx : (w_x w).1.1 with
      | true => rfl
      | false => exact absurd (xx.1.trans (by rw [hx]; rfl)) c
    have st := st.rw (r' := s_b (s_yield T (s_lv T ν) (w_x w).1 inn i) (fun n k => s_r n k)) (fun gd => by rw [s_asg, hh, z gd]; exact one _)
    refine St.callP (h := 8) (c := 0) (m' := m) (s := 1) (bb := false) (Sh' := shN T ν) (N' := nid) (r1 := s_yield T (s_lv T ν) (w_x w).1 inn) (fun en kk => c_yielding (a := a) ih hw (by omega) (by rw [hw]; omega) hm (wd_ne (z gd)) en kk) (n_k 0) st (fun z => z) rfl (fun v j B q x u st hf hj hs hn => ?_)
    exact st.ret (fun _ => rfl) (fun _ => rfl) (fun gd => hj gd) q (fun _ => Nat.le_refl _) (fun _ => Nat.le_refl _) hs hn
end ASG2
