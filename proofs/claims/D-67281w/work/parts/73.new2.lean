/-! PHASE 3. new one nest deeper; leftHand() -/
section NEW2
variable {β : Type} {T : sT} {Sh : β → Nat → Int32 → mmS → Prop} {N : Int32 → mmS → Prop} {g : Nat} {w0 : cW} {m0 e0 : Nat} {θ : cTh} {l0 : Nat} {Z : Int32 → mmS → Prop} {b : Bool} {h : Nat} {w : cW} {A : cA} {m e : Nat} {r : sR β} {σ σ0 : mmS} {i : Nat}
variable {ν a d : Nat} {Q : mmQ}
theorem bI_f : bI false = 0 := rfl
theorem bI_t : bI true = 1 := rfl
theorem new_no : cNew T 0 := by
  intro d a g w A m e i σ Q wv1 wv2 hw hd hg hm hG k
  have st : St T (shN T 0 σ) nid g w (m - 1) e (th σ) (i + 1) (fun n u => Q (.inl (some (.inl n))) u) false 1 w A m e (none : sR sN) σ i := Or.inl ⟨hG, tle.rfl', by have := GQ_le 0; omega, fun n u rs => k n u rs⟩
  refine st.enter (by omega) (fun _ => rfl) (fun u st hf hp he => ?_)
  have ng : ¬ GD u := fun z => by have := hp z; omega
  refine st.word (by omega) (fun _ => st.word (by omega) (fun _ => ?_) (fun _ nz => absurd (END_GD st.ci he nz) ng)) (fun _ nz => absurd (END_GD st.ci he nz) ng)
  obtain ⟨d, rfl, hd⟩ := mc_pos (c := 13) (by omega)
  refine mc_ci (P := mt3075) (L := 4) rfl rfl ⟨by decide, Nat.le_of_ble_eq_true rfl⟩ fun Q2 hK hX => b3075_0 _ _ _ _ _ _ _ (br_n ng (hK _ _ ?_))
  have n0 : nid 0 u := nid_0 st.ci
  refine b3070_93 _ _ _ _ _ _ _ (st.rdn (by decide) nI_0.symm st.ci.2.1.2.1 (br_p (fun c => ?_) (fun c => ?_)))
  · exact st.fail (by omega) (fun gd => absurd gd ng) (fun u2 ng2 st hf => st.bad ng2 (nid_0 st.ci))
  · obtain ⟨d, rfl, hd⟩ := mc_pos (c := 12) (by omega)
    refine mc_ci (P := mt3084) (L := 6) rfl rfl ⟨by decide, Nat.le_of_ble_eq_true rfl⟩ fun Q2 hK hX => b3084_0 _ _ _ _ _ _ _ _ _ (b3084_5 _ _ _ _ _ _ _ _ _ (br_n ng (b3084_343 _ _ _ _ _ _ _ _ _ (br_y rfl (hK _ _ ?_)))))
    refine st.sign (by omega) (fun _ => ?_) (fun _ nz => absurd (END_GD st.ci he nz) ng)
    refine b3070_133 _ _ _ _ _ _ _ ?_
    have st2 := st.same (u := mm_setf u 312 (mm_f u 312 - 1)) (h' := 1) (m' := m) (e' := e) (i' := i) Fr_312' (fun z => absurd z ng) (fun z => absurd z ng) (fun q => absurd q.2.1 ng) (fun c => c.setf rfl (by decide) (by decide) (by decide))
    exact st2.node (h := 0) (by omega) (by omega) (fun n u st hf nw => st.bad (fun z => ng (hf.1 z)) nw.nid)
theorem new_up (ih : cAsg T ν) (ihn : cNew T ν) (ihp : cPrm T ν) : cNew T (ν + 1) := by
  intro d a g w A m e i σ Q wv1 wv2 hw hd hg hm hG k
  have hGQ := GQ_le (ν + 1)
  have hQ : GQ ν = GQ (ν + 1) + 1370 := by
    have := hG.ok.1
    unfold GQ
    omega
  have gd := hG.2.1
  have ok := hG.ok
  have n1 := hG.1.2.1.2.1
  have st : St T (shN T (ν + 1) σ) nid g w (m - 1) e (th σ) (i + 1) (fun n u => Q (.inl (some (.inl n))) u) false 8 w A m e (s_newb T (s_lv T ν) (w_x w).1 i) σ i := Or.inl ⟨hG, tle.rfl', by omega, fun n u rs => k n u rs⟩
  refine st.enter (by omega) (fun z => by omega) (fun u st hf hp he => ?_)
  have hν : w_nu w - 1 = ν := by omega
  rw [hν] at st
  have hwd : w_nu (dn w ν) = ν := rfl
  -- behind the base
  have rest : ∀ (u2 : mmS) (x : Int32) (v : sN) (q j : Nat) (B : cA), St T (shN T (ν + 1) σ) nid g w (m - 1) e (th σ) (i + 1) (fun n u => Q (.inl (some (.inl n))) u) true 6 (dn w ν) B (m + q) e (bif v.1 == 21 then none else s_b (s_mem T (s_lv T ν) (w_x w).1 false v j) (fun _ k => bif t_sg T k 2 then s_b (s_args T (s_lv T ν) (w_x w).1 k) (fun _ m => s_r (n_k 18) m) else s_r (n_k 18) k)) u2 j → Fr (th σ) σ u2 → (GD u2 → i + 1 ≤ j) → ndK T ν (fN σ 315) v q x u2 →
      mm_W mt3070 (MC d) Q (93, [some (.inr (.inr (3, a))), wv1, wv2], [.inl x]) u2 := fun u2 x v q j B st fr hj hn => by
    obtain ⟨kk, k1, k2, k3⟩ := id hn
    refine b3070_93 _ _ _ _ _ _ _ (st.rdn (by decide) k1 k2 (br_p (fun c => ?_) (fun c => ?_)))
    · exact (st.t fun gd => by rw [← (k3 gd).2.2.2.1.1, c]; rfl).fail (by omega) (fun _ => rfl) (fun u ng st hf => st.bad ng (nid_0 st.ci))
    · have st := st.f fun gd => by rw [← (k3 gd).2.2.2.1.1]; exact beq_eq_false_iff_ne.mpr c
      have tl2 := st.tl.1
      have lo2 : fN σ 315 ≤ fN u2 315 := fr.nn
      refine St.callP (h := 2) (c := 4) (m' := m) (bb := true) (s := 0) (Sh' := fun _ => shB T ν (fN σ 315)) (N' := nid) (r1 := s_mem T (s_lv T ν) (w_x w).1 false v) (fun en kk => c_members (a := a) (calls := false) ih hwd (by omega) (by rw [hwd]; omega) hm n1 lo2 hn en kk) (n_k 0) st (fun z => z) rfl (fun v2 j2 B2 q2 x4 u4 st hf4 hj4 hs4 hn4 => ?_)
      have nx4 : nid x4 u4 := by
        by_cases g4 : GD u4
        · obtain ⟨k, k1, k2⟩ := hs4 g4
          exact ⟨k, k1, k2.2.2.1⟩
        · exact hn4 g4
      have fin : ∀ (u5 : mmS) (y : Int32) (B5 : cA) (m5 j5 : Nat), St T (shN T (ν + 1) σ) nid g w (m - 1) e (th σ) (i + 1) (fun n u => Q (.inl (some (.inl n))) u) true 1 (dn w ν) B5 m5 e (s_r (n_k 18) j5) u5 j5 → (m ≤ m5 ∧ (GD u5 → m + 1 ≤ m5)) → Fr (th σ) σ u5 → (GD u5 → i + 1 ≤ j5) →
          mm_W mt3070 (MC d) Q (133, [some (.inr (.inr (3, a))), some (.inl x4), wv2], [.inl y]) u5 := fun u5 y B5 m5 j5 st hm5 fr hj5 => by
        refine b3070_133 _ _ _ _ _ _ _ ?_
        rw [← hν] at st
        have st := st.leave (fun _ => by omega) ok
        have hm6 := hm5.1
        refine st.node (h := 0) (by omega) (by omega) (fun n6 u6 st6 hf6 nw => ?_)
        refine st6.ret (fun _ => rfl) (fun _ => rfl) (fun gd => hj5 (hf6.1 gd)) 1 (fun gd => by have := hm5.2 (hf6.1 gd); omega) (fun _ => Nat.le_refl _) (fun gd => sh_k nw n1 ?_ rfl) (fun _ => nw.nid)
        rw [fN_eq (f_other (by decide) : mm_f (mm_setf u5 312 (mm_f u5 312 - 1)) 315 = mm_f u5 315)]
        exact fr.nn
      have fr4 : Fr (th σ) σ u4 := fr.trans (hf4.mono tl2)
      have tl4 := st.tl.1
      refine st.sign (by omega) (fun z2 => ?_) (fun z2 nz => ?_)
      · exact fin u4 0 B2 _ j2 ((St.f st z2).mono (by decide)) ⟨by omega, fun gd => by obtain ⟨_, _, z⟩ := hs4 gd; have := z.1.2; omega⟩ fr4 (fun gd => by have := hj4 gd; have := hj (hf4.1 gd); omega)
      · have st := St.t st z2
        refine st.callP (h := 1) (fun en kk => c_arguments ih hwd (by omega) (by rw [hwd]; omega) (by omega) nz en kk) () (fun z => z) rfl (fun v6 j6 B6 q6 x6 u6 st hf6 hj6 hs6 hn6 => ?_)
        exact fin u6 x6 B6 _ j6 st ⟨by omega, fun gd => by obtain ⟨_, _, z⟩ := hs4 (hf6.1 gd); have := z.1.2; omega⟩ (fr4.trans (hf6.mono tl4)) (fun gd => by have := hj6 gd; have := hj4 (hf6.1 gd); have := hj (hf4.1 (hf6.1 gd)); omega)
  have e0 : Fr (th u) (u) u := Fr.rfl'
  have tlu := st.tl.1
  have stb : St T (shN T (ν + 1) σ) nid g w (m - 1) e (th σ) (i + 1) (fun n u => Q (.inl (some (.inl n))) u) true 8 (dn w ν) A m e (s_b (s_base T (s_lv T ν) (w_x w).1 i) (fun n j => bif n.1 == 21 then none else s_b (s_mem T (s_lv T ν) (w_x w).1 false n j) (fun _ k => bif t_sg T k 2 then s_b (s_args T (s_lv T ν) (w_x w).1 k) (fun _ m => s_r (n_k 18) m) else s_r (n_k 18) k))) u i := st
  have nn := hf.nn
  have nd : ∀ (u4 : mmS) (x : Int32) (v : sN) (q : Nat), (GD u4 → shN T ν u v q x u4) → (¬ GD u4 → nid x u4) → ndK T ν (fN σ 315) v q x u4 := fun u4 x v q hs hn => by
    obtain ⟨k, k1, k2, k3⟩ := nd_of hs hn
    exact ⟨k, k1, k2, fun gd => (k3 gd).lo n1 (by omega)⟩
  refine stb.word (by omega) (fun z23 => stb.word (by omega) (fun z26 => ?_) (fun z26 nz => ?_)) (fun z23 nz => ?_)
  · have st := stb.rw (r' := s_b (s_prim T (s_lv T ν) (w_x w).1 i) _) (fun gd => by rw [s_base, z23 gd, z26 gd]; rfl)
    refine St.call (h := 8) (ihp a (dn w ν) hwd (wSl_dn ok (by omega))) (n_k 0) st (fun _ => rfl) (by omega) (by rw [hwd]; omega) hm rfl (fun v j B q x u4 st hf4 hj4 hs4 hn4 => ?_)
    exact rest u4 x v q j B (st.mono (by decide)) (hf.trans (hf4.mono tlu)) (fun gd => hj4 gd) (nd u4 x v q hs4 hn4)
  · have gdu := END_GD stb.ci he nz
    have st := (stb.strong gdu).rw (r' := s_b (s_sup T (s_lv T ν) (w_x w).1 i) _) (fun gd => by rw [s_base, z23 gd, z26 gd]; rfl)
    refine St.callP (h := 8) (c := 0) (m' := m) (s := 1) (bb := false) (Sh' := shN T ν) (N' := nid) (r1 := s_sup T (s_lv T ν) (w_x w).1) (fun en kk => c_superAt (a := a) ih hwd (by omega) (by rw [hwd]; omega) hm (wd_ne (z26 gdu)) en kk) (n_k 0) st (fun z => z) rfl (fun v j B q x u4 st hf4 hj4 hs4 hn4 => ?_)
    exact rest u4 x v q j B (st.mono (by decide)) (hf.trans (hf4.mono tlu)) (fun gd => hj4 gd) (nd u4 x v q hs4 hn4)
  · have gdu := END_GD stb.ci he nz
    have st := (stb.strong gdu).rw (r' := s_b (s_new T (s_lv T ν) (w_x w).1 i) _) (fun gd => by rw [s_base, z23 gd]; rfl)
    refine St.callP (h := 8) (c := 0) (m' := m) (s := 1) (bb := false) (Sh' := shN T ν) (N' := nid) (r1 := s_new T (s_lv T ν) (w_x w).1) (fun en kk => c_newAt (a := a) ihn hwd (by omega) (by rw [hwd]; omega) hm (wd_ne (z23 gdu)) en kk) (n_k 0) st (fun z => z) rfl (fun v j B q x u4 st hf4 hj4 hs4 hn4 => ?_)
    exact rest u4 x v q j B (st.mono (by decide)) (hf.trans (hf4.mono tlu)) (fun gd => hj4 gd) (nd u4 x v q hs4 hn4)
theorem c_leftHand {K : Int32 → mmS → Prop} {X : Nat → mmS → Prop} (ih : cAsg T ν) (ihn : cNew T ν) (ihp : cPrm T ν) (hw : w_nu w = ν) (hsl : wSl w) (hd : 50 * ν + 31 ≤ d) (hq : g + 480 ≤ GQ (w_nu w)) (hm : 24 ≤ m) (en : cG T w A m e σ i ∨ (false = true ∧ cB T (g + 0) σ)) (k : ∀ n u, Rs T (shN T ν σ) nid g w m e (th σ) (i + 1) A (s_left T (s_lv T ν) (w_x w).1 i) σ n u → K n u) :
    mm_ci (MC d) 3069 [.inr (.inr (3, a))] σ K X := by
  obtain ⟨d, rfl, hd⟩ := mc_pos (c := 50 * ν + 30) (by omega)
  refine mc_ci (P := mt3069) (L := 2) rfl rfl ⟨by decide, Nat.le_of_ble_eq_true rfl⟩ fun Q hK hX => b3069_0 _ _ _ _ _ ?_
  have st := St.start (q := 480) (K := fun n u => Q (.inl (some (.inl n))) u) hq (by decide) en (fun n u rs => hK _ _ (k n u rs))
  have n1 := st.ci.2.1.2.1
  have hGQ := GQ_le ν
  rw [hw] at hq
  have gd := st.good.2.1
  have stb : St T (shN T ν σ) nid g w m e (th σ) (i + 1) (fun n u => Q (.inl (some (.inl n))) u) false 8 w A m e (s_b (s_base T (s_lv T ν) (w_x w).1 i) (fun n j => s_mem T (s_lv T ν) (w_x w).1 true n j)) σ i := st.rise gd (by omega)
  have tlu := stb.tl.1
  have rest : ∀ (u2 : mmS) (x : Int32) (v : sN) (q j : Nat) (B : cA), St T (shN T ν σ) nid g w m e (th σ) (i + 1) (fun n u => Q (.inl (some (.inl n))) u) true 6 w B (m + q) e (s_mem T (s_lv T ν) (w_x w).1 true v j) u2 j → Fr (th σ) σ u2 → (GD u2 → i + 1 ≤ j) → (GD u2 → shN T ν σ v q x u2) → (¬ GD u2 → nid x u2) →
      mm_I (MC d) Q 3084 [.inr (.inr (3, a)), .inl x, .inl 1] u2 (fun x8 σ7 => Q (.inl (some (.inl x8))) σ7) := fun u2 x v q j B st fr hj hs hn => by
    have st := st.rw (r' := s_b (s_mem T (s_lv T ν) (w_x w).1 true v j) (fun n k => s_r n k)) (fun _ => by
      cases hx : s_mem T (s_lv T ν) (w_x w).1 true v j with
      | none => rfl
      | some z => obtain ⟨z1, z2, z3⟩ := z; simp only [s_b, s_r, sA_m0])
    obtain ⟨k, k1, k2, k3⟩ := nd_of hs hn
    refine St.callP (h := 2) (c := 4) (m' := m) (bb := true) (s := 0) (Sh' := fun _ => shB T ν (fN σ 315)) (N' := nid) (r1 := s_mem T (s_lv T ν) (w_x w).1 true v) (fun en kk => c_members (a := a) (calls := true) ih hw (by omega) (by rw [hw]; omega) hm n1 fr.nn ⟨k, k1, k2, k3⟩ en kk) (n_k 0) st (fun z => z) rfl (fun v2 j2 B2 q2 x4 u4 st hf4 hj4 hs4 hn4 => ?_)
    exact st.ret (fun _ => rfl) (fun _ => rfl) (fun gd => by have := hj4 gd; have := hj (hf4.1 gd); omega) q2 (fun _ => Nat.le_refl _) (fun _ => Nat.le_refl _) hs4 hn4
  refine stb.word (by omega) (fun z23 => stb.word (by omega) (fun z26 => ?_) (fun z26 nz => ?_)) (fun z23 nz => ?_)
  · have st := stb.rw (r' := s_b (s_prim T (s_lv T ν) (w_x w).1 i) _) (fun gd => by rw [s_base, z23 gd, z26 gd]; rfl)
    refine St.call (h := 8) (ihp a w hw hsl) (n_k 0) st (fun _ => rfl) (by omega) (by rw [hw]; omega) hm rfl (fun v j B q x u4 st hf4 hj4 hs4 hn4 => ?_)
    exact rest u4 x v q j B (st.mono (by decide)) (hf4.mono tlu) (fun gd => hj4 gd) hs4 hn4
  · have st := stb.rw (r' := s_b (s_sup T (s_lv T ν) (w_x w).1 i) _) (fun gd => by rw [s_base, z23 gd, z26 gd]; rfl)
    refine St.callP (h := 8) (c := 0) (m' := m) (s := 1) (bb := false) (Sh' := shN T ν) (N' := nid) (r1 := s_sup T (s_lv T ν) (w_x w).1) (fun en kk => c_superAt (a := a) ih hw (by omega) (by rw [hw]; omega) hm (wd_ne (z26 gd)) en kk) (n_k 0) st (fun z => z) rfl (fun v j B q x u4 st hf4 hj4 hs4 hn4 => ?_)
    exact rest u4 x v q j B (st.mono (by decide)) (hf4.mono tlu) (fun gd => hj4 gd) hs4 hn4
  · have st := stb.rw (r' := s_b (s_new T (s_lv T ν) (w_x w).1 i) _) (fun gd => by rw [s_base, z23 gd]; rfl)
    refine St.callP (h := 8) (c := 0) (m' := m) (s := 1) (bb := false) (Sh' := shN T ν) (N' := nid) (r1 := s_new T (s_lv T ν) (w_x w).1) (fun en kk => c_newAt (a := a) ihn hw (by omega) (by rw [hw]; omega) hm (wd_ne (z23 gd)) en kk) (n_k 0) st (fun z => z) rfl (fun v j B q x u4 st hf4 hj4 hs4 hn4 => ?_)
    exact rest u4 x v q j B (st.mono (by decide)) (hf4.mono tlu) (fun gd => hj4 gd) hs4 hn4
end NEW2
