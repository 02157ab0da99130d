/-! PHASE 3. unary(), the walk -/
section UNA2
variable {β : Type} {T : sT} {Sh : β → Nat → Int32 → mmS → Prop} {N : Int32 → mmS → Prop} {g : Nat} {w0 : cW} {m0 e0 : Nat} {θ : cTh} {l0 : Nat} {Z : Int32 → mmS → Prop} {b : Bool} {h : Nat} {w : cW} {A : cA} {m e : Nat} {r : sR β} {σ σ0 : mmS} {i : Nat}
variable {ν a d : Nat} {Q : mmQ}
theorem St.canDel {n : Int32} {lo q : Nat} {v : sN} {Ak Bk : mmS → Prop} (st : St T Sh N g w0 m0 e0 θ l0 Z b h w A m e r σ i) (hd : 1 ≤ d) (hn : ndK T ν lo v q n σ) (k0 : (GD σ → n_del v = false) → Ak σ) (k1 : (GD σ → n_del v = true) → Bk σ) : mm_I (MC d) Q 3110 [.inr (.inr (3, a)), .inl n] σ (fun x u => mm_br (x = 0) (Ak u) (Bk u)) := by
  obtain ⟨k, rfl, k2, k3⟩ := hn
  have ch := st.ci.2.2.2.1.2.2 k k2
  obtain ⟨j, hj⟩ : ∃ j, mm_a σ 316 k = 35 → mm_a σ 317 k = nI j ∧ j < fN σ 315 := by
    by_cases c : mm_a σ 316 k = 35
    · obtain ⟨j, j1⟩ := ch c
      exact ⟨j, fun _ => j1⟩
    · exact ⟨0, fun z => absurd z c⟩
  have e : GD σ → (!(mm_a σ 316 k == 4) && !(bif mm_a σ 316 k == 35 then mm_a σ 316 j == 16 else mm_a σ 316 k == 16)) = n_del v := fun gd => by
    obtain ⟨s1, s2, s3, ⟨r1, r2, r3, r4, r5, r6, -⟩, -⟩ := k3 gd
    unfold n_del
    rw [r1]
    cases h35 : v.1 == 35 with
    | false => rfl
    | true =>
      have z := eq_of_beq h35
      obtain ⟨j', j1, j2, j3, j4⟩ := r5 z
      obtain ⟨y1, y2⟩ := hj (r1.trans z)
      have hc := st.cap.1
      have : j = j' := nI_inj (by omega) (by omega) (y1.symm.trans j1)
      rw [this, j4]
  exact c_canDelete hd st.ci.2.1 k2 hj (br_0 (fun z => k0 fun gd => by rw [← e gd]; exact z) (fun z => k1 fun gd => by rw [← e gd]; exact z))
theorem ndK.rn {lo q : Nat} {v : sN} {n : Int32} {k : Nat} (hn : ndK T ν lo v q n σ) (h : n = nI k) (hk : k < fN σ 315) (hc : fN σ 315 ≤ 85000) (gd : GD σ) : rN v k σ := by
  obtain ⟨k', k1, k2, k3⟩ := hn
  have : k' = k := nI_inj (by omega) (by omega) (k1.symm.trans h)
  subst this
  exact (k3 gd).2.2.2.1
theorem St.simp2 {n : Int32} {lo q : Nat} {v : sN} {Ak Bk : mmS → Prop} (st : St T Sh N g w0 m0 e0 θ l0 Z b h w A m e r σ i) (hd : 1 ≤ d) (hn : ndK T ν lo v q n σ) (k0 : (GD σ → n_si v = false) → Ak σ) (k1 : (GD σ → n_si v = true) → Bk σ) : mm_I (MC d) Q 3102 [.inr (.inr (3, a)), .inl n] σ (fun x u => mm_br (x = 0) (Ak u) (Bk u)) := by
  obtain ⟨k, k1', k2, k3⟩ := id hn
  exact st.simple hd k1' k2 (fun gd => (k3 gd).2.2.2.1) k0 k1
/-- behind the operand: ** -/
theorem una_400 {lo q : Nat} {v : sN} {pw : Bool} {v2 v3 v4 : Int32} {wv5 wv6 : Option mmV} (ihu : cUna T ν) (hw : w_nu w = ν) (hd : 50 * ν + 10 ≤ d) (hq : g + 8 ≤ GQ ν) (hm : 24 ≤ m) (hm2 : m0 + q ≤ m) (h0 : 1 ≤ lo) (hlo : lo ≤ fN σ 315) (hl : GD σ → l0 ≤ i) (hn : ndK T ν lo v q v4 σ) (st : St T (shB T ν lo) nid g w m0 e θ l0 (fun n u => Q (.inl (some (.inl n))) u) b 2 w A m e (bif pw && t_sg T i 23 then s_b ((s_lv T ν).2.1 (w_x w).1 true (i + 1)) (fun _ m => s_r (n_d 25 23) m) else s_r v i) σ i) :
    mm_W mt3109 (MC d) Q (400, [some (.inr (.inr (3, a))), some (.inl (bI pw)), some (.inl v2), some (.inl v3), some (.inl v4), wv5, wv6], []) σ := by
  refine b3109_400 _ _ _ _ _ _ _ _ _ _ (br_p (fun c => ?_) (fun c => ?_))
  · have e1 := bI_0.mp c
    subst e1
    exact (st.f fun _ => rfl).ret (fun _ => rfl) (fun _ => rfl) hl q (fun _ => hm2) (fun _ => Nat.le_refl _) (fun gd => hn.sh gd) (fun _ => hn.nid)
  · have e1 : pw = true := by
      cases pw with
      | true => rfl
      | false => exact absurd rfl c
    subst e1
    refine st.eat (by omega) (fun z => ?_) (fun u z st hf => ?_)
    · exact (st.f fun gd => by rw [z gd]; rfl).ret (fun _ => rfl) (fun _ => rfl) hl q (fun _ => hm2) (fun _ => Nat.le_refl _) (fun gd => hn.sh gd) (fun _ => hn.nid)
    · have st := st.t (fun gd => by rw [z (hf.1 gd)]; rfl)
      refine St.callD (h := 2) (c := 0) (m' := m + 12) (s := 1) (bb := true) (Sh' := shN T ν) (N' := nid) (r1 := (s_lv T ν).2.1 (w_x w).1 true) (fun en kk => ihu d a (g + 2) w A (m + 12) e (i + 1) u Q true _ hw hd (by omega) (by omega) en kk) (n_k 0) st (fun _ => rfl) rfl (fun v' j B q' x u4 st hf4 hj4 hs4 hn4 => ?_)
      refine St.node5 (h := 1) st (by omega) (by omega) (fun n5 u5 st hf5 nw => ?_)
      refine st.ret (fun _ => rfl) (fun _ => rfl) (fun gd => by have := hj4 (hf5.1 gd); have := hl (hf.1 (hf4.1 (hf5.1 gd))); omega) 1 (fun _ => by omega) (fun _ => Nat.le_refl _) (fun gd => ?_) (fun _ => nw.nid)
      exact ⟨_, nw.1, sh_new nw h0 (by have := hf.nn; have := hf4.nn; show lo ≤ fN (dec u4) 315; omega) rfl (fun z => absurd (show (25 : Int32) = 4 from z) (by decide)) (fun z => absurd (show (25 : Int32) = 26 ∨ (25 : Int32) = 28 from z) (by decide)) rfl (fun z => absurd (show (25 : Int32) = 35 from z) (by decide)) (fun z => absurd (show (25 : Int32) = 9 ∨ (25 : Int32) = 10 from z) (by decide))⟩
theorem c_unary {pw : Bool} {K : Int32 → mmS → Prop} {X : Nat → mmS → Prop} (ih : cAsg T ν) (ihn : cNew T ν) (ihp : cPrm T ν) (ihu : cUna T ν) (hw : w_nu w = ν) (hsl : wSl w) (hd : 50 * ν + 35 ≤ d) (hq : g + 520 ≤ GQ (w_nu w)) (hm : 24 ≤ m) (en : cG T w A m e σ i ∨ (true = true ∧ cB T (g + 0) σ)) (k : ∀ n u, Rs T (shN T ν σ) nid g w m e (th σ) (i + 1) A (s_una T (s_lv T ν) (w_x w).1 pw i) σ n u → K n u) :
    mm_ci (MC d) 3109 [.inr (.inr (3, a)), .inl (bI pw)] σ K X := by
  obtain ⟨d, rfl, hd⟩ := mc_pos (c := 50 * ν + 34) (by omega)
  refine mc_ci (P := mt3109) (L := 7) rfl rfl ⟨by decide, Nat.le_of_ble_eq_true rfl⟩ fun Q hK hX => b3109_0 _ _ _ _ _ _ _ _ _ _ ?_
  have st := St.start (q := 520) (K := fun n u => Q (.inl (some (.inl n))) u) hq (by decide) en (fun n u rs => hK _ _ (k n u rs))
  have n1 := st.ci.2.1.2.1
  have hGQ := GQ_le ν
  have tok := st.ci.1.2.2.2.2.2.2.2.2.2.1.1
  rw [hw] at hq
  refine st.wrong (fun gd st => ?_) (fun ng => st.bad ng (nid_0 st.ci))
  have st : St T (shN T ν σ) nid g w m e (th σ) (i + 1) (fun n u => Q (.inl (some (.inl n))) u) false 8 w A m e (s_una T (s_lv T ν) (w_x w).1 pw i) σ i := st.rise gd (by omega)
  have x2 := st.good.2.2.2.2.1.1.2.1
  have tl0 := st.tl.1
  -- the operators that stand before an operand
  have w131 : ∀ (v3 : Int32) (wv4 wv5 wv6 : Option mmV), (t_un T i || (t_wd T i 0 && (w_x w).1.2.1)) = true → T.1 i ≠ 0 → mm_W mt3109 (MC d) Q (131, [some (.inr (.inr (3, a))), some (.inl (bI pw)), some (.inl (t_cd T i)), some (.inl v3), wv4, wv5, wv6], []) σ := fun v3 wv4 wv5 wv6 hc hz => by
    have st := st.rw (r' := s_b ((s_lv T ν).2.1 (w_x w).1 false (i + 1)) (fun v k => bif t_sg T k 23 || (t_wd T i 9 && !n_del v) then none else s_r (n_k (bif t_wd T i 0 then 34 else 23)) k)) (fun _ => by rw [s_una, hc]; rfl)
    have st := st.adv (NZ_g st.good hz)
    have e315 : fN (mm_setf σ 311 (mm_f σ 311 + 1)) 315 = fN σ 315 := fN_eq (f_other (by decide))
    refine b3109_131 _ _ _ _ _ _ _ _ _ _ ⟨by decide, ?_⟩
    refine St.callD (h := 8) (c := 0) (m' := m + 12) (s := 1) (bb := true) (Sh' := shN T ν) (N' := nid) (r1 := (s_lv T ν).2.1 (w_x w).1 false) (fun en kk => ihu d a (g + 8) w A (m + 12) e (i + 1) _ Q false _ hw (by omega) (by omega) (by omega) en kk) (n_k 0) st (fun _ => rfl) rfl (fun v j B q x u4 st hf4 hj4 hs4 hn4 => ?_)
    have hx := nd_of hs4 hn4
    have l4 := hf4.nn
    have fin : ∀ (v5 v6' : Int32), (GD (dec u4) → (t_sg T j 23 || (t_wd T i 9 && !n_del v)) = false) → mm_W mt3109 (MC d) Q (205, [some (.inr (.inr (3, a))), some (.inl (bI pw)), some (.inl (t_cd T i)), some (.inl v3), mm_lost wv4, some (.inl v5), some (.inl x)], []) (dec u4) := fun v5 v6' hz => by
      have st := st.f hz
      refine b3109_205 _ _ _ _ _ _ _ _ _ _ (br_p (fun c => ?_) (fun c => ?_))
      · have hwd : t_wd T i 0 = true := (cd_word tok i 0 0 rfl (by decide)).mp (by rw [c]; decide)
        have st := st.rw (r' := s_r (n_k 34) j) (fun _ => by rw [hwd]; rfl)
        refine St.node5 (h := 7) st (by omega) (by omega) (fun n5 u5 st hf5 nw => ?_)
        exact st.ret (fun _ => rfl) (fun _ => rfl) (fun gd => by have := hj4 (hf5.1 gd); omega) 1 (fun _ => by omega) (fun _ => Nat.le_refl _) (fun gd => ⟨_, nw.1, sh_new nw n1 (by omega) rfl (fun z => absurd (show (34 : Int32) = 4 from z) (by decide)) (fun z => absurd (show (34 : Int32) = 26 ∨ (34 : Int32) = 28 from z) (by decide)) rfl (fun z => absurd (show (34 : Int32) = 35 from z) (by decide)) (fun z => absurd (show (34 : Int32) = 9 ∨ (34 : Int32) = 10 from z) (by decide))⟩) (fun _ => nw.nid)
      · have hwd : t_wd T i 0 = false := by
          cases hx : t_wd T i 0 with
          | false => rfl
          | true => exact absurd ((cd_word tok i 0 0 rfl (by decide)).mpr hx) (by rw [show (100 : Int32) + 0 = 100 by decide]; exact c)
        have st := st.rw (r' := s_r (n_k 23) j) (fun _ => by rw [hwd]; rfl)
        refine St.node5 (h := 7) st (by omega) (by omega) (fun n5 u5 st hf5 nw => ?_)
        exact st.ret (fun _ => rfl) (fun _ => rfl) (fun gd => by have := hj4 (hf5.1 gd); omega) 1 (fun _ => by omega) (fun _ => Nat.le_refl _) (fun gd => ⟨_, nw.1, sh_new nw n1 (by omega) rfl (fun z => absurd (show (23 : Int32) = 4 from z) (by decide)) (fun z => absurd (show (23 : Int32) = 26 ∨ (23 : Int32) = 28 from z) (by decide)) rfl (fun z => absurd (show (23 : Int32) = 35 from z) (by decide)) (fun z => absurd (show (23 : Int32) = 9 ∨ (23 : Int32) = 10 from z) (by decide))⟩) (fun _ => nw.nid)
    refine st.sign (by omega) (fun z => br_p (fun c => st.canDel (by omega) hx (fun zd => ?_) (fun zd => fin _ 0 fun gd => ?_)) (fun c => fin _ 0 fun gd => ?_)) (fun z _ => ?_)
    · refine St.fail (st.t fun gd => ?_) (by omega) (fun _ => rfl) (fun u ng st hf => st.bad ng (nid_0 st.ci))
      have h9 : t_wd T i 9 = true := (cd_word tok i 9 9 rfl (by decide)).mp (by rw [c]; decide)
      rw [z gd, h9, zd gd]; rfl
    · rw [z gd, zd gd, Bool.not_true, Bool.and_false]; rfl
    · have h9 : t_wd T i 9 = false := by
        cases hx : t_wd T i 9 with
        | false => rfl
        | true => exact absurd ((cd_word tok i 9 9 rfl (by decide)).mpr hx) (by rw [show (100 : Int32) + 9 = 109 by decide]; exact c)
      rw [z gd, h9]; rfl
    · exact St.fail (st.t fun gd => by rw [z gd]; rfl) (by omega) (fun _ => rfl) (fun u ng st hf => st.bad ng (nid_0 st.ci))
  have F : ∀ (u : mmS) (v4 : Int32) (v : sN) (q m' j : Nat) (B : cA) (v2 v3 : Int32) (wv5 wv6 : Option mmV), St T (shN T ν σ) nid g w m e (th σ) (i + 1) (fun n u => Q (.inl (some (.inl n))) u) true 2 w B m' e (bif pw && t_sg T j 23 then s_b ((s_lv T ν).2.1 (w_x w).1 true (j + 1)) (fun _ m => s_r (n_d 25 23) m) else s_r v j) u j → 24 ≤ m' → m + q ≤ m' → Fr (th σ) σ u → (GD u → i + 1 ≤ j) → ndK T ν (fN σ 315) v q v4 u →
      mm_W mt3109 (MC d) Q (400, [some (.inr (.inr (3, a))), some (.inl (bI pw)), some (.inl v2), some (.inl v3), some (.inl v4), wv5, wv6], []) u := fun u v4 v q m' j B v2 v3 wv5 wv6 st hm1 hm2 fr hj hn =>
    una_400 (lo := fN σ 315) ihu hw (by omega) (by omega) hm1 hm2 n1 fr.nn hj hn st
  have w250 : ∀ (v3 : Int32) (wv4 wv5 wv6 : Option mmV), (t_un T i || (t_wd T i 0 && (w_x w).1.2.1)) = false → (t_sg T i 24 || t_sg T i 25) = true → T.1 i ≠ 0 → mm_W mt3109 (MC d) Q (250, [some (.inr (.inr (3, a))), some (.inl (bI pw)), some (.inl (t_cd T i)), some (.inl v3), wv4, wv5, wv6], []) σ := fun v3 wv4 wv5 wv6 hc hs hz => by
    have st := st.rw (r' := s_b ((s_lv T ν).2.1 (w_x w).1 false (i + 1)) (fun v k => s_b (bif n_si v then s_r (n_k 24) k else none) (fun v k => bif pw && t_sg T k 23 then s_b ((s_lv T ν).2.1 (w_x w).1 true (k + 1)) (fun _ m => s_r (n_d 25 23) m) else s_r v k))) (fun _ => by rw [s_una, hc, cond_false, hs, cond_true, s_b_b])
    have st := st.adv (NZ_g st.good hz)
    have e315 : fN (mm_setf σ 311 (mm_f σ 311 + 1)) 315 = fN σ 315 := fN_eq (f_other (by decide))
    refine b3109_250 _ _ _ _ _ _ _ _ _ _ ?_
    refine St.callD (h := 8) (c := 0) (m' := m + 12) (s := 1) (bb := true) (Sh' := shN T ν) (N' := nid) (r1 := (s_lv T ν).2.1 (w_x w).1 false) (fun en kk => ihu d a (g + 8) w A (m + 12) e (i + 1) _ Q false _ hw (by omega) (by omega) (by omega) en kk) (n_k 0) st (fun _ => rfl) rfl (fun v j B q x u4 st hf4 hj4 hs4 hn4 => ?_)
    have l4 := hf4.nn
    have fr4 : Fr (th σ) σ (dec u4) := Fr.trans Fr_adv (hf4.mono fun _ => by rw [th_setf (by decide) (by decide) (by decide) (by decide)]; exact tle.rfl')
    obtain ⟨k, k1, k2, k3⟩ := nd_of hs4 hn4
    have hx : ndK T ν (fN (mm_setf σ 311 (mm_f σ 311 + 1)) 315) v q x (dec u4) := ⟨k, k1, k2, k3⟩
    refine st.simp2 (by omega) hx (fun zs => ?_) (fun zs => ?_)
    · exact St.fail (st.rw fun gd => by rw [zs gd]; rfl) (by omega) (fun _ => rfl) (fun u ng st hf => st.bad ng (nid_0 st.ci))
    · have st := st.rw (r' := bif pw && t_sg T j 23 then s_b ((s_lv T ν).2.1 (w_x w).1 true (j + 1)) (fun _ m => s_r (n_d 25 23) m) else s_r (n_k 24) j) (fun gd => by rw [zs gd, cond_true, s_b_r])
      have tl4 := st.tl.1
      have go : ∀ z5, mm_I (MC d) Q 3051 [.inr (.inr (3, a)), .inl 24, .inl x, .inl z5, .inl 1] (dec u4) (fun x9 σ8 => mm_W mt3109 (MC d) Q (400, [some (.inr (.inr (3, a))), some (.inl (bI pw)), some (.inl (t_cd T i)), some (.inl v3), some (.inl x9), some (.inl x), wv6], []) σ8) := fun z5 =>
        St.node (h := 7) st (by omega) (by omega) (fun n5 u5 st hf5 nw => F u5 n5 (n_k 24) 1 _ j B _ _ _ _ (st.mono (by decide)) (by omega) (by omega) (fr4.trans (hf5.mono tl4)) (fun gd => by have := hj4 (hf5.1 gd); omega) (ndK_new nw n1 (by omega) rfl))
      exact br_p (fun _ => go 1) (fun _ => go 0)
  have w238 : ∀ (v3 : Int32) (wv4 wv5 wv6 : Option mmV), (t_un T i || (t_wd T i 0 && (w_x w).1.2.1)) = false → mm_W mt3109 (MC d) Q (238, [some (.inr (.inr (3, a))), some (.inl (bI pw)), some (.inl (t_cd T i)), some (.inl v3), wv4, wv5, wv6], []) σ := fun v3 wv4 wv5 wv6 hc => by
    refine b3109_238 _ _ _ _ _ _ _ _ _ _ (br_p (fun c => ?_) (fun c => br_p (fun c2 => ?_) (fun c2 => ?_)))
    · have z := (cd_sign tok i 24 24 rfl (by decide)).mp c
      exact w250 v3 wv4 wv5 wv6 hc (by rw [z]; rfl) (sg_ne z)
    · have z := (cd_sign tok i 25 25 rfl (by decide)).mp c2
      exact w250 v3 wv4 wv5 wv6 hc (by rw [z, Bool.or_true]) (sg_ne z)
    · have z4 : t_sg T i 24 = false := by
        cases hx : t_sg T i 24 with
        | false => rfl
        | true => exact absurd ((cd_sign tok i 24 24 rfl (by decide)).mpr hx) c
      have z5 : t_sg T i 25 = false := by
        cases hx : t_sg T i 25 with
        | false => rfl
        | true => exact absurd ((cd_sign tok i 25 25 rfl (by decide)).mpr hx) c2
      have st := st.rw (r' := s_b (s_left T (s_lv T ν) (w_x w).1 i) (fun v k => s_b (bif !t_ln T k && (t_sg T k 24 || t_sg T k 25) then (bif n_si v then s_r (n_k 24) (k + 1) else none) else s_r v k) (fun v k => bif pw && t_sg T k 23 then s_b ((s_lv T ν).2.1 (w_x w).1 true (k + 1)) (fun _ m => s_r (n_d 25 23) m) else s_r v k))) (fun _ => by rw [s_una, hc, cond_false, z4, z5, Bool.or_false, cond_false, s_b_b])
      refine St.callP (h := 8) (c := 0) (m' := m) (s := 1) (bb := false) (Sh' := shN T ν) (N' := nid) (r1 := s_left T (s_lv T ν) (w_x w).1) (fun en kk => c_leftHand (a := a) ih ihn ihp hw hsl (by omega) (by rw [hw]; omega) hm en kk) (n_k 0) st (fun z => z) rfl (fun v j B q x u st hf hj hs hn => ?_)
      have hx : ndK T ν (fN σ 315) v q x u := nd_of hs hn
      have fr := hf.mono tl0
      have w400 : (GD u → (!t_ln T j && (t_sg T j 24 || t_sg T j 25)) = false) → mm_W mt3109 (MC d) Q (400, [some (.inr (.inr (3, a))), some (.inl (bI pw)), some (.inl (t_cd T i)), some (.inl v3), some (.inl x), wv5, wv6], []) u := fun hz =>
        F u x v q (m + q) j B _ _ _ _ ((st.rw fun gd => by rw [hz gd, cond_false, s_b_r]).mono (by decide)) (by omega) (Nat.le_refl _) fr (fun gd => hj gd) hx
      have w351 : (GD u → (!t_ln T j && (t_sg T j 24 || t_sg T j 25)) = true) → NZ T u → mm_W mt3109 (MC d) Q (351, [some (.inr (.inr (3, a))), some (.inl (bI pw)), some (.inl (t_cd T i)), some (.inl v3), some (.inl x), wv5, wv6], []) u := fun hz nz => by
        have st := st.rw (r' := s_b (bif n_si v then s_r (n_k 24) (j + 1) else none) (fun v k => bif pw && t_sg T k 23 then s_b ((s_lv T ν).2.1 (w_x w).1 true (k + 1)) (fun _ m => s_r (n_d 25 23) m) else s_r v k)) (fun gd => by rw [hz gd, cond_true])
        refine b3109_351 _ _ _ _ _ _ _ _ _ _ (st.simp2 (by omega) hx (fun zs => ?_) (fun zs => ?_))
        · exact St.fail (st.rw fun gd => by rw [zs gd]; rfl) (by omega) (fun _ => rfl) (fun u ng st hf => st.bad ng (nid_0 st.ci))
        · have st := st.rw (r' := bif pw && t_sg T (j + 1) 23 then s_b ((s_lv T ν).2.1 (w_x w).1 true (j + 1 + 1)) (fun _ m => s_r (n_d 25 23) m) else s_r (n_k 24) (j + 1)) (fun gd => by rw [zs gd, cond_true, s_b_r])
          have go : ∀ y5, mm_I (MC d) Q 3051 [.inr (.inr (3, a)), .inl 24, .inl x, .inl y5, .inl 0] u (fun x8 σ7 => mm_W mt3109 (MC d) Q (400, [some (.inr (.inr (3, a))), some (.inl (bI pw)), some (.inl (t_cd T i)), some (.inl v3), some (.inl x8), wv5, wv6], []) (mm_setf σ7 311 (mm_f σ7 311 + 1))) := fun y5 =>
            St.node (h := 7) st (by omega) (by omega) (fun n5 u5 st5 hf5 nw => by
              have tl := st.tl.1
              have nz5 : NZ T u5 := by
                obtain ⟨p, p1, p2, p3⟩ := nz
                exact ⟨p, (nw.2.2.2.2.2.2.2.2.2 311 (by decide)).trans p1, p2, p3⟩
              have st6 := st5.adv nz5
              refine F _ n5 (n_k 24) 1 (m + q - 1 + 12) (j + 1) B _ _ _ _ (st6.mono (by decide)) (by omega) (by omega) ((fr.trans (hf5.mono tl)).trans (Fr_adv.mono st5.tl.1)) (fun gd => ?_) ((ndK_new nw n1 hf.nn rfl).mono Fr_adv)
              have g5 : GD u5 := gd
              have := hj (hf5.1 g5)
              omega)
          exact st.sign (by omega) (fun _ => go 0) (fun _ _ => go 1)
      refine st.line (by omega) (fun zl => st.sign (by omega) (fun y4 => st.sign (by omega) (fun y5 => w400 fun gd => ?_) (fun y5 nz => w351 (fun gd => ?_) nz)) (fun y4 nz => w351 (fun gd => ?_) nz)) (fun zl => w400 fun gd => ?_)
      · rw [y4 gd, y5 gd]; simp
      · rw [zl gd, y5 gd]; simp
      · rw [zl gd, y4 gd]; rfl
      · rw [zl gd]; rfl
  have w113 : ∀ (s0 : Int32) (wv3 wv4 wv5 wv6 : Option mmV), (s0 = 0 ↔ t_un T i = false) → (T.1 i = 1 ∨ T.1 i = 3 ∨ (t_un T i || (t_wd T i 0 && (w_x w).1.2.1)) = false) → mm_W mt3109 (MC d) Q (113, [some (.inr (.inr (3, a))), some (.inl (bI pw)), some (.inl (t_cd T i)), wv3, wv4, wv5, wv6], [.inl s0]) σ := fun s0 wv3 wv4 wv5 wv6 hs hk => by
    have nz : (t_un T i || (t_wd T i 0 && (w_x w).1.2.1)) = true → T.1 i ≠ 0 := fun z => by
      rcases hk with h | h | h
      · rw [h]; decide
      · rw [h]; decide
      · rw [h] at z; exact absurd z (by decide)
    refine b3109_113 _ _ _ _ _ _ _ _ _ _ _ (br_p (fun c => ?_) (fun c => ?_))
    · have u0 := hs.mp c
      refine br_p (fun c1 => ?_) (fun c1 => ?_)
      · have z0 : t_wd T i 0 = true := (cd_word tok i 0 0 rfl (by decide)).mp (by rw [c1]; decide)
        refine br_p (fun c2 => ?_) (fun c2 => ?_)
        · refine w238 _ _ _ _ ?_
          rw [u0, z0, bI_0.mp (x2.symm.trans c2)]; rfl
        · have hh : (w_x w).1.2.1 = true := by
            cases hx : (w_x w).1.2.1 with
            | true => rfl
            | false => exact absurd (x2.trans (by rw [hx]; rfl)) c2
          have e : (t_un T i || (t_wd T i 0 && (w_x w).1.2.1)) = true := by rw [u0, z0, hh]; rfl
          exact w131 _ _ _ _ e (nz e)
      · refine w238 _ _ _ _ ?_
        have z0 : t_wd T i 0 = false := by
          cases hx : t_wd T i 0 with
          | false => rfl
          | true => exact absurd ((cd_word tok i 0 0 rfl (by decide)).mpr hx) (by rw [show (100 : Int32) + 0 = 100 by decide]; exact c1)
        rw [u0, z0]; rfl
    · have u1 : t_un T i = true := by
        cases hx : t_un T i with
        | true => rfl
        | false => exact absurd (hs.mpr hx) c
      have e : (t_un T i || (t_wd T i 0 && (w_x w).1.2.1)) = true := by rw [u1]; rfl
      exact w131 _ _ _ _ e (nz e)
  have w63 : ∀ (wv2 wv3 wv4 wv5 wv6 : Option mmV), (T.1 i = 1 ∨ T.1 i = 3 ∨ (t_un T i || (t_wd T i 0 && (w_x w).1.2.1)) = false) → mm_W mt3109 (MC d) Q (63, [some (.inr (.inr (3, a))), some (.inl (bI pw)), wv2, wv3, wv4, wv5, wv6], [.inl (t_cd T i)]) σ := fun wv2 wv3 wv4 wv5 wv6 hk => by
    have un := t_un_iff tok i
    have y : t_un T i = true → mm_W mt3109 (MC d) Q (113, [some (.inr (.inr (3, a))), some (.inl (bI pw)), some (.inl (t_cd T i)), wv3, wv4, wv5, wv6], [.inl 1]) σ := fun z => w113 1 wv3 wv4 wv5 wv6 ⟨fun q => absurd q (by decide), fun q => by rw [z] at q; exact absurd q (by decide)⟩ hk
    refine b3109_63 _ _ _ _ _ _ _ _ _ _ _ (br_p (fun c => y (by rw [un, c]; rfl)) fun c1 => br_p (fun c => y (by rw [un, c]; rfl)) fun c2 => br_p (fun c => y (by rw [un, c]; rfl)) fun c3 => br_p (fun c => y (by rw [un, c]; rfl)) fun c4 => br_p (fun c => y (by rw [un, c]; rfl)) fun c5 => br_p (fun c => y (by rw [un, c]; rfl)) fun c6 => br_p (fun c => y (by rw [un, c]; rfl)) fun c7 => ?_)
    have e : t_un T i = false := by
      rw [un, beq_eq_false_iff_ne.mpr c1, beq_eq_false_iff_ne.mpr c2, beq_eq_false_iff_ne.mpr c3, beq_eq_false_iff_ne.mpr c4, beq_eq_false_iff_ne.mpr c5, beq_eq_false_iff_ne.mpr c6, beq_eq_false_iff_ne.mpr c7]; rfl
    exact w113 0 wv3 wv4 wv5 wv6 ⟨fun _ => e, fun _ => rfl⟩ hk
  refine st.rdk (fun y1 hy1 _ => br_p (fun c => st.rdv (fun y2 hy2 => ?_)) (fun c => st.rdk (fun y3 hy3 _ => br_p (fun c3 => st.rdv (fun y4 hy4 => ?_)) (fun c3 => ?_))))
  · have e1 := (hy1 gd).trans c
    have e2 : y2 = t_cd T i := by unfold t_cd; rw [if_pos e1]; exact (hy2 gd).symm
    rw [e2]
    exact w63 _ _ _ _ _ (Or.inr (Or.inl e1))
  · have e1 := (hy3 gd).trans c3
    have e0 : ¬ T.1 i = 3 := fun z => c ((hy1 gd).symm.trans z)
    have e2 : 100 + y4 = t_cd T i := by unfold t_cd; rw [if_neg e0, if_pos e1, ← hy4 gd]; rfl
    rw [e2]
    exact w63 _ _ _ _ _ (Or.inl e1)
  · have e0 : ¬ T.1 i = 3 := fun z => c ((hy1 gd).symm.trans z)
    have e1 : ¬ T.1 i = 1 := fun z => c3 ((hy3 gd).symm.trans z)
    have e2 : (-1 : Int32) = t_cd T i := by unfold t_cd; rw [if_neg e0, if_neg e1]
    rw [e2]
    refine w63 _ _ _ _ _ (Or.inr (Or.inr ?_))
    rw [t_un_iff tok i, ← e2]
    have : t_wd T i 0 = false := by
      unfold t_wd
      rw [beq_eq_false_iff_ne.mpr e1]; rfl
    rw [this, Bool.false_and]
    decide
end UNA2
