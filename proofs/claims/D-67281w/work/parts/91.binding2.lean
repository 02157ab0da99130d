/-! PHASE 3. binding(), restElement(), element() -/
theorem NZ.of {T : sT} {σ u : mmS} (h : NZ T σ) (e : mm_f u 311 = mm_f σ 311) : NZ T u := by
  obtain ⟨q, q1, q2⟩ := h
  exact ⟨q, e.trans q1, q2⟩
theorem fN_312 {u : mmS} {x : Int32} {k : Nat} (h : k ≠ 312) : fN (mm_setf u 312 x) k = fN u k := fN_eq (f_other h)
theorem shBd.lo {D : Nat} {σ σ1 u : mmS} {v : Bool × List Int32} {q : Nat} {n : Int32} (h : shBd D σ1 v q n u) (h1 : 1 ≤ fN σ 315) (hl : fN σ 315 ≤ fN σ1 315) : shBd D σ v q n u := by
  obtain ⟨k, k1, k2, k3, k4, k5, k6, f, k7⟩ := h
  exact ⟨k, k1, h1, by omega, k4, k5, k6, f, tlR_same hl (Nat.le_refl _) (fun _ _ _ _ _ _ => rfl) _ _ f _ _ _ _ (Nat.le_refl _) (Nat.le_refl _) k7⟩
theorem shBd.dec {D : Nat} {σ u : mmS} {v : Bool × List Int32} {q : Nat} {n x : Int32} (h : shBd D σ v q n u) : shBd D σ v q n (mm_setf u 312 x) := by
  obtain ⟨k, k1, k2, k3, k4, k5, k6, f, k7⟩ := h
  refine ⟨k, k1, k2, k3, by rw [fN_312 (by decide)]; exact k4, k5, k6, f, ?_⟩
  rw [fN_312 (by decide)]
  exact tlR_same (u := u) (v := mm_setf u 312 x) (Nat.le_refl _) (Nat.le_refl _) (fun _ _ _ _ _ _ => rfl) _ _ f _ _ _ _ (Nat.le_refl _) (Nat.le_refl _) k7
/-- a pattern that was read -/
def bdK (D lo : Nat) (v : Bool × List Int32) (n : Int32) (u : mmS) : Prop := ∃ k, n = nI k ∧ lo ≤ k ∧ k < fN u 315 ∧ (mm_a u 316 k = 4 ↔ v.1 = true) ∧ mm_a u 322 k = 0 ∧ ∃ f, tlR u lo (fN u 315) D f false k = some v.2
theorem bdK_of {D D2 : Nat} {σ u : mmS} {lo q : Nat} {v : Bool × List Int32} {n : Int32} (h : shBd D σ v q n u) (hl : lo ≤ fN σ 315) (hD : D ≤ D2 := by exact Nat.le_refl _) : bdK D2 lo v n u := by
  obtain ⟨k, k1, k2, k3, k4, k5, k6, f, k7⟩ := h
  exact ⟨k, k1, by omega, k4, k5, k6, f, tlR_same hl (Nat.le_refl _) (fun _ _ _ _ _ _ => rfl) _ _ f _ _ _ _ hD (Nat.le_refl _) k7⟩
theorem bdK.mono {D : Nat} {u u' : mmS} {lo : Nat} {v : Bool × List Int32} {n : Int32} (h : bdK D lo v n u) (h1 : 1 ≤ lo) (f : Fr (th u) u u') (gd : GD u') : bdK D lo v n u' := by
  obtain ⟨k, k1, k2, k3, k4, k5, fu, k6⟩ := h
  have fn := f.nn
  have fg := (f.2.2.2.2.2.2.2 gd).2.1
  refine ⟨k, k1, k2, by omega, by rw [fg 316 (by decide) (by decide) k (by omega) k3]; exact k4, by rw [fg 322 (by decide) (by decide) k (by omega) k3]; exact k5, fu, ?_⟩
  exact tlR_same (Nat.le_refl _) fn (fun s s1 s2 j j1 j2 => fg s s1 s2 j (by omega) j2) _ _ fu _ _ _ _ (Nat.le_refl _) (Nat.le_refl _) k6
theorem patG.nil {D : Nat} {σ u : mmS} {w y z n : Int32} {lo : Nat} (nw : NwN σ w 0 y z 0 n u) (hw : w = 50 ∨ w = 51) (hl : lo ≤ fN σ 315)   : patG D lo n 0 [] u := by
  obtain ⟨y1, y2, y3, y4, y5, y6, y7, y8, y9, -⟩ := nw
  exact ⟨fN σ 315, [], y1, hl, by omega, by rw [y3]; exact hw, y8, y4, fun y hy => (nomatch hy), by simp, Or.inl ⟨rfl, rfl⟩, rfl⟩
theorem s_b_ret {β : Type} {r : sR β} : s_b r (fun n k => s_r n k) = r := by
  cases r with
  | none => rfl
  | some z => obtain ⟨z1, z2, z3⟩ := z; simp only [s_b, s_r, sA_m0]
section BIND2
variable {β : Type} {T : sT} {Sh : β → Nat → Int32 → mmS → Prop} {N : Int32 → mmS → Prop} {g : Nat} {w0 : cW} {m0 e0 : Nat} {θ : cTh} {l0 : Nat} {Z : Int32 → mmS → Prop} {b : Bool} {h : Nat} {w : cW} {A : cA} {m e : Nat} {r r' : sR β} {σ σ0 : mmS} {i : Nat}
variable {ν a d : Nat} {Q : mmQ}
theorem c_binding {v1 : Int32} {as : Nat} {K : Int32 → mmS → Prop} {X : Nat → mmS → Prop} (ih : cAsg T ν) (hE : cEl T ν) (hR : cRst T ν) (hw : w_nu w = ν) (hc : cls v1 = as) (hd : 50 * ν + 13 ≤ d) (hq : g + 20 ≤ GQ ν) (hm : 24 ≤ m) (en : cG T w A m e σ i ∨ (true = true ∧ cB T (g + 1) σ)) (k : ∀ n u, Rs T (shBd (2 * ν + 2) σ) nid g w (m + 8) e (th σ) (i + 1) A (s_bind T (s_lv T ν) (w_x w).1 as i) σ n u → K n u) : mm_ci (MC d) 3050 [.inr (.inr (3, a)), .inl v1] σ K X := by
  obtain ⟨d, rfl, hd⟩ := mc_pos (c := 50 * ν + 12) (by omega)
  have hGQ := GQ_le ν
  refine mc_ci (P := mt3050) (L := 9) rfl rfl ⟨by decide, Nat.le_of_ble_eq_true rfl⟩ fun Q hK hX => b3050_0 _ _ _ _ _ _ _ _ _ _ _ _ ?_
  have st := St.startM (q := 20) (K := fun n u => Q (.inl (some (.inl n))) u) (l0 := i + 1) (m0 := m + 8) (r := s_bind T (s_lv T ν) (w_x w).1 as i) (Sh := shBd (2 * ν + 2) σ) (N := nid) (by rw [hw]; exact hq) (by decide) en (fun n u rs => hK _ _ (k n u rs))
  have n1 := st.ci.2.1.2.1
  refine st.wrong (fun gd st => ?_) (fun ng => st.bad ng (nid_0 st.ci))
  have st := st.rise (h' := 8) gd (by omega)
  refine st.sign (by omega) (fun z4 => st.sign (by omega) (fun z0 => ?_) (fun z0 nz => ?_)) (fun z4 nz => ?_)
  · have rN : s_bind T (s_lv T ν) (w_x w).1 as i = s_named T as i := by rw [s_bind, z4 gd, z0 gd]; rfl
    refine c_named (D := 2 * ν + 2) (w := w) (A := A) (m := m) (e := e) (i := i) (as := as) (g := g) (by omega) (by rw [hw]; omega) (by omega) hc (Or.inl st.good) (fun n u rs => hK _ _ (k n u ?_))
    rw [rN]
    exact rs
  · refine st.node (h := 7) (by omega) (by omega) (fun n3 u3 st3 hf3 nw => ?_)
    have st4 := (st3.adv (nz.of (nw.2.2.2.2.2.2.2.2.2 311 (by decide)))).rw (r' := s_bobL T (s_lv T ν) (w_x w).1 as (t_e T + 1) [] (i + 1)) (fun _ => by rw [s_bind, z4 gd, z0 gd]; rfl)
    exact bindO_loop (σ0 := σ) ih hE hw (by omega) (by omega) hc n1 (t_e T + 1) _ 7 A _ (i + 1) _ 0 n3 [] _ _ _ _ _ (fun _ => by omega) (fun _ => Nat.le_refl _) (fun _ => by omega) (by omega) (by omega) ((own_new nw hf3 st).mono Fr_adv) (fun z => absurd rfl z) (fun gd4 => (patG.nil nw (Or.inr rfl) (Nat.le_refl _)).mono n1 Fr_adv gd4) st4
  · refine st.node (h := 7) (by omega) (by omega) (fun n3 u3 st3 hf3 nw => ?_)
    have st4 := (st3.adv (nz.of (nw.2.2.2.2.2.2.2.2.2 311 (by decide)))).rw (r' := s_barL T (s_lv T ν) (w_x w).1 as (t_e T + 1) [] (i + 1)) (fun _ => by rw [s_bind, z4 gd]; rfl)
    exact bindA_loop (σ0 := σ) hE hR hw (by omega) (by omega) hc n1 (t_e T + 1) _ 7 A _ (i + 1) _ 0 n3 [] _ _ _ _ _ (fun _ => by omega) (fun _ => Nat.le_refl _) (fun _ => by omega) (by omega) (by omega) ((own_new nw hf3 st).mono Fr_adv) (fun z => absurd rfl z) (fun gd4 => (patG.nil nw (Or.inl rfl) (Nat.le_refl _)).mono n1 Fr_adv gd4) st4
theorem rst_up (ih : cAsg T ν) (hE : cEl T ν) (hR : cRst T ν) : cRst T (ν + 1) := by
  intro a w ro as hw hc d g A m e i σ K X hd hq hm en k
  rcases en with hG | ⟨-, hB⟩
  · obtain ⟨d, rfl, hd⟩ := mc_pos (d := d) (c := 50 * ν + 59) (by omega)
    refine mc_ci (P := mt3049) (L := 3) rfl rfl ⟨by decide, Nat.le_of_ble_eq_true rfl⟩ fun Q hK hX => b3049_0 _ _ _ _ _ _ ?_
    have ok := hG.ok
    have hQ : GQ ν = GQ (w_nu w) + 1370 := by
      have := ok.1
      unfold GQ
      omega
    have n1 := hG.1.2.1.2.1
    have hν : w_nu w - 1 = ν := by omega
    have st : St T (shBd (2 * (ν + 1)) σ) nid g w m e (th σ) (i + 1) (fun n u => Q (.inl (some (.inl n))) u) false 1 w A m e (s_bind T (s_lv T ν) (w_x w).1 as i) σ i := Or.inl ⟨hG, tle.rfl', by have := GQ_le (w_nu w); omega, fun n u rs => hK _ _ (k n u rs)⟩
    refine st.enter (by omega) (fun z => by omega) (fun u st hf hp he => ?_)
    rw [hν] at st
    have st2 := st.rw (r' := s_b (s_bind T (s_lv T ν) (w_x w).1 as i) (fun n k => s_r n k)) (fun _ => s_b_ret.symm)
    refine St.callP (h := 0) (c := 1) (m' := m + 8) (s := 1) (bb := true) (Sh' := shBd (2 * ν + 2)) (N' := nid) (r1 := s_bind T (s_lv T ν) (w_x w).1 as) (fun en kk => c_binding (w := dn w ν) (a := a) ih hE hR rfl hc (by omega) (by omega) hm en kk) (false, []) st2 (fun _ => rfl) rfl (fun v j B q x u4 st hf4 hj4 hs4 hn4 => ?_)
    rw [← hν] at st
    have st := st.leave (fun _ => by omega) ok
    refine st.ret (fun _ => rfl) (fun _ => rfl) (fun gd => hj4 gd) q (fun _ => by omega) (fun _ => Nat.le_refl _) (fun gd => ?_) (fun ng => ?_)
    · rw [hν]; exact ((hs4 gd).lo n1 hf.nn).dec
    · exact (hn4 ng).mono Fr_312
  · exact bd_rest hB (by omega) (fun u c f => k 0 u ⟨f, Or.inr ⟨Or.inr hB.no, c, nid_0 c.1⟩⟩)
/-- what is behind the pattern of an element -/
theorem el_tail {D : Nat} {v1 v2 v3 v4 : Int32} {v : Bool × List Int32} {bi : Bool} (ok : GD σ → wOK w) (hν : w_nu w = ν + 1) (hd : 3 ≤ d) (n1 : 1 ≤ fN σ0 315) (st : St T (shEl (D) σ0) nidE g w m0 e (th σ0) l0 (fun n u => Q (.inl (some (.inl n))) u) b 1 (dn w ν) A m e (s_r (v.1, bi, v.2) i) σ i) (hm : m0 + 1 ≤ m) (hl : GD σ → l0 ≤ i) (hb : GD σ → bdK (D) (fN σ0 315) v v3 σ) (h3 : nid v3 σ) (h4 : GD σ → (v4 = 0 ↔ bi = false)) : mm_W mt3052 (MC d) Q (55, [some (.inr (.inr (3, a))), some (.inl v1), some (.inl v2), some (.inl v3), some (.inl v4)], []) σ := by
  refine b3052_55 _ _ _ _ _ _ _ _ ?_
  rw [← show w_nu w - 1 = ν by omega] at st
  have st : St T (shEl (D) σ0) nidE g w m0 e (th σ0) l0 (fun n u => Q (.inl (some (.inl n))) u) b 1 w A m e (s_r (v.1, bi, v.2) i) (mm_setf σ 312 (mm_f σ 312 - 1)) i := by
    by_cases gd : GD σ
    · exact st.leave (fun _ => by omega) (ok gd)
    · exact st.bd (β' := Unit) gd Fr_312' (fun c => c.setf rfl (by decide) (by decide) (by decide))
  refine st.node (h := 0) (by omega) (by omega) (fun n5 u5 st5 hf5 nw => ?_)
  refine st5.ret (fun _ => rfl) (fun _ => rfl) (fun gd => hl (hf5.1 gd)) 0 (fun _ => by omega) (fun _ => Nat.le_refl _) (fun gd => ?_) (fun _ => ⟨_, nw.1, by rw [nw.2.1]; omega, by rw [nw.2.2.2.1]; exact (h3.mono Fr_312).mono hf5⟩)
  have gds : GD σ := hf5.1 gd
  obtain ⟨k, k1, k2, k3, k4, k5, f, k6⟩ := hb gds
  obtain ⟨y1, y2, y3, y4, y5, y6, y7, y8, y9, -⟩ := nw
  have fg := (hf5.2.2.2.2.2.2.2 gd).2.1
  have e5 : fN (mm_setf σ 312 (mm_f σ 312 - 1)) 315 = fN σ 315 := fN_312 (by decide)
  rw [e5] at y1 y2 y3 y4 y5 y8
  have fg : ∀ s, 316 ≤ s → s ≤ 323 → ∀ j, 1 ≤ j → j < fN σ 315 → mm_a u5 s j = mm_a σ s j := fun s s1 s2 j j1 j2 => fg s s1 s2 j j1 (by show j < fN (mm_setf σ 312 (mm_f σ 312 - 1)) 315; omega)
  refine ⟨_, k, y1, n1, by omega, by omega, y3, y4.trans k1, k2, by omega, ?_, ?_, y8, f, ?_⟩
  · rw [fg 316 (by decide) (by decide) k (by omega) k3]; exact k4
  · rw [y5]; exact h4 gds
  · exact tlR_same (Nat.le_refl _) (Nat.le_refl _) (fun s s1 s2 j j1 j2 => fg s s1 s2 j (by omega) j2) _ _ f _ _ _ _ (Nat.le_refl _) (Nat.le_refl _) k6
theorem el_28 {D : Nat} {v1 v2 v3 s0 : Int32} {v : Bool × List Int32} {bi : Bool} {wv4 : Option mmV} (ok : GD σ → wOK w) (hν : w_nu w = ν + 1) (hd : 3 ≤ d) (n1 : 1 ≤ fN σ0 315) (st : St T (shEl (D) σ0) nidE g w m0 e (th σ0) l0 (fun n u => Q (.inl (some (.inl n))) u) b 1 (dn w ν) A m e (s_r (v.1, bi, v.2) i) σ i) (hm : m0 + 1 ≤ m) (hl : GD σ → l0 ≤ i) (hb : GD σ → bdK (D) (fN σ0 315) v v3 σ) (h3 : nid v3 σ) (h4 : GD σ → (s0 = 0 ↔ bi = false)) : mm_W mt3052 (MC d) Q (28, [some (.inr (.inr (3, a))), some (.inl v1), some (.inl v2), some (.inl v3), wv4], [.inl s0]) σ := by
  refine b3052_28 _ _ _ _ _ _ _ _ _ (br_p (fun _ => el_tail ok hν hd n1 st hm hl hb h3 h4) (fun _ => br_p (fun _ => ?_) (fun _ => el_tail ok hν hd n1 st hm hl hb h3 h4)))
  exact st.flag (by decide) (fun u2 st2 hf2 e2 => el_tail (fun gd => ok (hf2.1 gd)) hν hd n1 st2 hm (fun gd => hl (hf2.1 gd)) (fun gd => (hb (hf2.1 gd)).mono n1 hf2 gd) (h3.mono hf2) (fun gd => h4 (hf2.1 gd)))
theorem el_4 {D : Nat} {v1 v2 v3 : Int32} {v : Bool × List Int32} {wv4 : Option mmV} (ih : cAsg T ν) (ok : GD σ → wOK w) (hν : w_nu w = ν + 1) (hd : 50 * ν + 10 ≤ d) (hq : g + 1 ≤ GQ ν) (n1 : 1 ≤ fN σ0 315) (st : St T (shEl (D) σ0) nidE g w m0 e (th σ0) l0 (fun n u => Q (.inl (some (.inl n))) u) b 1 (dn w ν) A m e (bif t_sg T i 40 then s_b ((s_lv T ν).1 (w_x w).1 true (i + 1)) (fun _ k => s_r (v.1, true, v.2) k) else s_r (v.1, false, v.2) i) σ i) (hm : m0 + 1 ≤ m) (hm2 : 24 ≤ m) (hl : GD σ → l0 ≤ i) (hb : GD σ → bdK (D) (fN σ0 315) v v3 σ) (h3 : nid v3 σ) :
    mm_I (MC d) Q 3022 [.inr (.inr (3, a)), .inl 40] σ (fun x5 σ4 => mm_br (x5 = 0) (mm_W mt3052 (MC d) Q (28, [some (.inr (.inr (3, a))), some (.inl v1), some (.inl v2), some (.inl v3), wv4], [.inl 0]) σ4)
        (mm_I (MC d) Q 3053 [.inr (.inr (3, a)), .inl 1] σ4 (fun x7 σ6 => mm_W mt3052 (MC d) Q (28, [some (.inr (.inr (3, a))), some (.inl v1), some (.inl v2), some (.inl v3), wv4], [.inl x7]) σ6))) := by
  refine st.eat (by omega) (fun z => ?_) (fun u z st2 hf2 => ?_)
  · exact el_28 ok hν (by omega) n1 (st.f z) hm hl hb h3 (fun _ => ⟨fun _ => rfl, fun _ => rfl⟩)
  · have st2 := st2.rw (r' := s_b ((s_lv T ν).1 (w_x (dn w ν)).1 true (i + 1)) (fun _ k => s_r (v.1, true, v.2) k)) (fun gd => by rw [z (hf2.1 gd)]; rfl)
    refine St.call (h := 1) (ih a (dn w ν) true rfl) (n_k 0) st2 (fun _ => rfl) (by omega) hq (by omega) rfl (fun v' j B q n u3 st3 hf3 hj hs hn => ?_)
    refine el_28 (fun gd => ok (hf2.1 (hf3.1 gd))) hν (by omega) n1 st3 (by omega) (fun gd => by have := hl (hf2.1 (hf3.1 gd)); have := hj gd; omega) (fun gd => ((hb (hf2.1 (hf3.1 gd))).mono n1 hf2 (hf3.1 gd)).mono n1 hf3 gd) ((h3.mono hf2).mono hf3) (fun gd => ⟨fun z => ?_, fun z => nomatch z⟩)
    obtain ⟨k, k1, k2, k3, k4, -⟩ := (hs gd).sh
    have := st3.cap.1
    exact absurd (k1.symm.trans z) (nI_ne0 (by omega) (by omega))
theorem el_up (ih : cAsg T ν) (hE : cEl T ν) (hR : cRst T ν) : cEl T (ν + 1) := by
  intro a w ro key as hw hc d g A m e i σ K X hd hq hm en k
  obtain ⟨d, rfl, hd⟩ := mc_pos (d := d) (c := 50 * ν + 59) (by omega)
  refine mc_ci (P := mt3052) (L := 5) rfl rfl ⟨by decide, Nat.le_of_ble_eq_true rfl⟩ fun Q hK hX => b3052_0 _ _ _ _ _ _ _ _ ?_
  rcases en with hG | ⟨-, hB⟩
  · have ok := hG.ok
    have hQ : GQ ν = GQ (w_nu w) + 1370 := by
      have := ok.1
      unfold GQ
      omega
    have n1 := hG.1.2.1.2.1
    have hν : w_nu w - 1 = ν := by omega
    have st : St T (shEl (2 * (ν + 1)) σ) nidE g w m e (th σ) (i + 1) (fun n u => Q (.inl (some (.inl n))) u) false 2 w A m e (s_elem T (s_lv T ν) (w_x w).1 as i) σ i := Or.inl ⟨hG, tle.rfl', by have := GQ_le (w_nu w); omega, fun n u rs => hK _ _ (k n u rs)⟩
    refine st.enter (by omega) (fun z => by omega) (fun u st hf hp he => ?_)
    rw [hν] at st
    refine St.callP (h := 1) (c := 1) (m' := m + 8) (s := 1) (bb := true) (Sh' := shBd (2 * ν + 2)) (N' := nid) (r1 := s_bind T (s_lv T ν) (w_x w).1 as) (fun en kk => c_binding (w := dn w ν) (a := a) ih hE hR rfl hc (by omega) (by omega) hm en kk) (false, []) st (fun _ => rfl) rfl (fun v j B q x u4 st hf4 hj4 hs4 hn4 => ?_)
    exact el_4 ih (fun _ => ok) hw (by omega) (by omega) n1 st (by omega) (by omega) hj4 (fun gd => bdK_of (hs4 gd) hf.nn) (by
      by_cases gd : GD u4
      · obtain ⟨k, k1, k2⟩ := bdK_of (hs4 gd) (Nat.le_refl _)
        exact ⟨k, k1, k2.2.1⟩
      · exact hn4 gd)
  · have hQ : GQ (w_nu w) ≤ GQ ν := by
      unfold GQ
      omega
    refine bd_enter hB (by omega) (fun u c f _ => bd_binding c.no (by omega) ?_)
    have st : St T (shEl (2 * (ν + 1)) σ) nidE g w m e (th σ) (i + 1) (fun n u => Q (.inl (some (.inl n))) u) true 1 (dn w ν) A (m + 1) e (bif t_sg T i 40 then s_b ((s_lv T ν).1 (w_x w).1 true (i + 1)) (fun _ k => s_r (false, true, []) k) else s_r (false, false, []) i) u i := Or.inr ⟨rfl, c, fun n u' f' c' hn => hK _ _ (k n u' ⟨f.trans f', Or.inr ⟨Or.inr hB.no, c', hn⟩⟩)⟩
    exact el_4 (v := (false, [])) ih (fun z => absurd z c.no) hw (by omega) (by omega) hB.1.2.1.2.1 st (Nat.le_refl _) (by omega) (fun z => absurd z c.no) (fun z => absurd z c.no) (nid_0 c.1)
theorem el_no : cEl T 0 := by
  intro a w ro key as hw hc d g A m e i σ K X hd hq hm en k
  obtain ⟨d, rfl, hd⟩ := mc_pos (d := d) (c := 11) (by omega)
  refine mc_ci (P := mt3052) (L := 5) rfl rfl ⟨by decide, Nat.le_of_ble_eq_true rfl⟩ fun Q hK hX => b3052_0 _ _ _ _ _ _ _ _ ?_
  rw [hw] at hq
  have fin : ∀ u, cB T (g + 1) u → (∀ n u', Fr (th σ) u u' → cB T g u' → nidE n u' → Q (.inl (some (.inl n))) u') → mm_ci (MC d) 3050 [.inr (.inr (3, a)), .inl ro] u (fun x3 σ2 => mm_I (MC d) Q 3022 [.inr (.inr (3, a)), .inl 40] σ2 (fun x5 σ4 => mm_br (x5 = 0) (mm_W mt3052 (MC d) Q (28, [some (.inr (.inr (3, a))), some (.inl ro), some (.inl key), some (.inl x3), none], [.inl 0]) σ4)
        (mm_I (MC d) Q 3053 [.inr (.inr (3, a)), .inl 1] σ4 (fun x7 σ6 => mm_W mt3052 (MC d) Q (28, [some (.inr (.inr (3, a))), some (.inl ro), some (.inl key), some (.inl x3), none], [.inl x7]) σ6)))) (fun e u => Q (.inr e) u) := fun u c z => by
    refine bd_binding c.no (by omega) ?_
    have st : St T (shEl (2 * 0) σ) nidE g w m e (th σ) (i + 1) (fun n u => Q (.inl (some (.inl n))) u) true 1 (dn (dn w 1) 0) A (m + 1) e (bif t_sg T i 40 then s_b ((s_lv T 0).1 (w_x (dn w 1)).1 true (i + 1)) (fun _ k => s_r (false, true, []) k) else s_r (false, false, []) i) u i := Or.inr ⟨rfl, c, z⟩
    have n1 := c.1.2.1.2.1
    have st2 : St T (shEl (2 * 0) u) nidE g (dn w 1) m e (th u) (i + 1) (fun n u => Q (.inl (some (.inl n))) u) true 1 (dn (dn w 1) 0) A (m + 1) e (bif t_sg T i 40 then s_b ((s_lv T 0).1 (w_x (dn w 1)).1 true (i + 1)) (fun _ k => s_r (false, true, []) k) else s_r (false, false, []) i) u i := Or.inr ⟨rfl, c, fun n u' f' c' hn => z n u' (f'.mono fun q => absurd q c.no) c' hn⟩
    exact el_4 (ν := 0) (v := (false, [])) asg_no (fun q => absurd q c.no) rfl (by omega) (by omega) n1 st2 (Nat.le_refl _) (by omega) (fun q => absurd q c.no) (fun q => absurd q c.no) (nid_0 c.1)
  rcases en with hG | ⟨-, hB⟩
  · have st : St T (shEl (2 * 0) σ) nidE g w m e (th σ) (i + 1) (fun n u => Q (.inl (some (.inl n))) u) false 1 w A m e (none : sR (Bool × Bool × List Int32)) σ i := Or.inl ⟨hG, tle.rfl', by have := GQ_le 0; omega, fun n u rs => hK _ _ (k n u rs)⟩
    refine st.enter (by omega) (fun _ => rfl) (fun u st hf hp he => ?_)
    have ng : ¬ GD u := fun z => by have := hp z; omega
    rcases st with ⟨q, -⟩ | ⟨-, c, z⟩
    · exact absurd q.2.1 ng
    · exact fin u c z
  · exact bd_enter hB (by omega) (fun u c f _ => fin u c (fun n u' f' c' hn => hK _ _ (k n u' ⟨f.trans f', Or.inr ⟨Or.inr hB.no, c', hn⟩⟩)))
end BIND2
