/-! PHASE 3. objectAt() -/
section OBJECT
variable {T : sT} {g : Nat} {w : cW} {A : cA} {m m0 e l0 : Nat} {σ σ0 : mmS} {i : Nat}
variable {ν a d : Nat} {Q : mmQ}
theorem shP_of {σ1 u : mmS} {p : Int32 × sN × Bool} {q : Nat} {n : Int32} (h1 : GD u → shP T ν σ1 p q n u) (h2 : ¬ GD u → nid n u) : ∃ k, n = nI k ∧ k < fN u 315 ∧ (GD u → fN σ1 315 ≤ k ∧ mm_a u 322 k = 0 ∧ oE T (6 * ν + 4) (mm_a u) (k, fN σ1 315, fN u 315, n_pc p, q, p.1 == 4)) := by
  by_cases gd : GD u
  · obtain ⟨k, k1, k2, k3, k4, k5⟩ := h1 gd
    exact ⟨k, k1, k3, fun _ => ⟨k2, k4, k5⟩⟩
  · obtain ⟨k, k1, k2⟩ := h2 gd
    exact ⟨k, k1, k2, fun z => absurd z gd⟩
theorem obj_rd (hI : cIt T ν) (hE : cEl T ν) (hR : cRst T ν) (ih : cAsg T ν) (hw : w_nu w = ν) (hd : 50 * ν + 28 ≤ d) (hq : g + 410 ≤ GQ ν) (h0 : 1 ≤ fN σ0 315) (h01 : fN σ0 315 ≤ 85000) (f : Nat) : ∀ (b : Bool) (h : Nat) (A : cA) (m j : Nat) (σ : mmS) (tl : Int32) (wv3 : Option mmV) (c : Option Int) (sp : Bool) (l : List LE) (bb : Nat) (tr : Bool), (GD σ → l0 ≤ j) → (GD σ → t_e T < f + j) → 24 ≤ m → m0 + cq l + 1 ≤ m → own (th σ0) (nI (fN σ0 315)) σ → (¬ tl = 0 → own (th σ0) tl σ) →
    (GD σ → lsG (oE T (6 * ν + 4)) 10 (fN σ0 315) tl l bb tr σ ∧ (bif sp then none else c) = cs l true ∧ (t_sg T j 1 = true → c = cs l tr) ∧ (t_sg T j 1 = false → tr = false)) →
    St T (shN T ν σ0) nid g w m0 e (th σ0) l0 (fun n u => Q (.inl (some (.inl n))) u) b h w A m e (s_b (s_objL T (s_lv T ν) (w_x w).1 f c sp j) (fun c k => s_r (n_lit 10 c) k)) σ j → mm_W mt3079 (MC d) Q (22, [some (.inr (.inr (3, a))), some (.inl (nI (fN σ0 315))), some (.inl tl), wv3], []) σ := by
  have hGQ := GQ_le ν
  -- the end
  have fin : ∀ (b : Bool) (h : Nat) (A : cA) (m j : Nat) (σ : mmS) (c : Option Int) (l : List LE) (bb : Nat) (tr : Bool) (tl : Int32), (GD σ → l0 ≤ j) → m0 + cq l + 1 ≤ m + 12 → own (th σ0) (nI (fN σ0 315)) σ → (GD σ → lsG (oE T (6 * ν + 4)) 10 (fN σ0 315) tl l bb tr σ ∧ c = cs l tr) →
      St T (shN T ν σ0) nid g w m0 e (th σ0) l0 (fun n u => Q (.inl (some (.inl n))) u) b h w A m e (s_b (s_nd T 1 j) (fun _ k => s_r (n_lit 10 c) k)) σ j → mm_V (MC d) Q 3036 [.inr (.inr (3, a)), .inl 1] σ (fun σ15 => Q (.inl (some (.inl (nI (fN σ0 315))))) σ15) := fun b h A m j σ c l bb tr tl hl hm2 ho hg st => by
    refine st.need (by omega) (fun u st2 hf _ => st2.ret (fun _ => rfl) (fun _ => rfl) (fun gd => by have := hl (hf.1 gd); omega) (cq l + 1) (fun _ => by omega) (fun _ => Nat.le_refl _) (fun gd => ?_) (fun _ => (ho.mono hf).nid))
    obtain ⟨g1, g2⟩ := hg (hf.1 gd)
    have g3 := g1.mono oE.congr hf gd
    have cv := cv_obj (ν := ν) (D := 6 * ν + 4) (by omega) g3
    obtain ⟨a1, a2, a3, a4, a5, a6, a7, a8, a9⟩ := g3
    have := a1.le
    subst g2
    exact ⟨_, rfl, ⟨h0, by omega⟩, Nat.le_refl _, by omega, ⟨a6, fun z => absurd (show (10 : Int32) = 4 from z) (by decide), fun z => absurd (show (10 : Int32) = 26 ∨ (10 : Int32) = 28 from z) (by decide), a8, fun z => absurd (show (10 : Int32) = 35 from z) (by decide), a7, fun z => absurd (Or.inr rfl) z, show ¬ (10 : Int32) = 30 by decide, show ¬ (10 : Int32) = 31 by decide⟩, fun _ _ => cv.qm (Nat.le_succ _)⟩
  induction f with
  | zero =>
    intro b h A m j σ tl wv3 c sp l bb tr hl hf hm hm2 ho ht hg st
    refine b3079_22 _ _ _ _ _ _ _ (st.wrong (fun gd st => ?_) (fun ng => ?_))
    · have := hf gd
      have := (st.gd gd).2.2.1.2
      omega
    · refine St.need (s := 1) (f := fun _ _ => none) (st.bd (β' := Unit) ng Fr.rfl' (fun z => z) (h' := h) (w' := w) (A' := A) (m' := m) (e' := e) (i' := j)) (by omega) (fun u st hf _ => st.bad (fun z => ng (hf.1 z)) (ho.mono hf).nid)
  | succ f IH =>
    intro b h A m j σ tl wv3 c sp l bb tr hl hf hm hm2 ho ht hg st
    refine b3079_22 _ _ _ _ _ _ _ (st.wrong (fun gd st => ?_) (fun ng => ?_))
    · have st := st.rise (h' := 3) gd (by omega)
      have hi := hf gd
      obtain ⟨hG, hC, hc, htr⟩ := hg gd
      have hj0 := hl gd
      refine st.sign (by omega) (fun z5 => ?_) (fun z5 _ => ?_)
      · have htr := htr (z5 gd)
        subst htr
        have tl0 := st.tl.1
        have st := st.rw (r' := s_b (s_prop T (s_lv T ν) (w_x w).1 j) (fun p k => s_b (bif t_sg T k 1 then s_r (n_cb (cs l true) (n_pc p)) (k + 1) else s_b (s_nd T 9 k) (fun _ q => s_objL T (s_lv T ν) (w_x w).1 f (bif p.1 == 4 && t_sg T q 1 then none else n_cb (cs l true) (n_pc p)) (p.1 == 4) q)) (fun c k => s_r (n_lit 10 c) k))) (fun gd => by rw [s_objL, z5 gd, cond_false, hC, s_b_b])
        refine St.call (h := 3) (c_property (a := a) hI hE hR ih hw) (0, n_k 0, false) st (fun z => nomatch z) (by omega) (by rw [hw]; omega) hm rfl (fun p j' A' q1 x u st hfu hj hs hn => ?_)
        obtain ⟨k, k1, k2, k3⟩ := shP_of hs hn
        have fr : Fr (th σ0) σ u := hfu.mono tl0
        have hx : own (th σ0) x u := ⟨k, k1, k2, fun gdu => Nat.le_trans (tl0 gd).1 (k3 gdu).1⟩
        have both : ∀ u2, St T (shN T ν σ0) nid g w m0 e (th σ0) l0 (fun n u => Q (.inl (some (.inl n))) u) true 3 w A' (m + q1) e (s_b (bif t_sg T j' 1 then s_r (n_cb (cs l true) (n_pc p)) (j' + 1) else s_b (s_nd T 9 j') (fun _ q => s_objL T (s_lv T ν) (w_x w).1 f (bif p.1 == 4 && t_sg T q 1 then none else n_cb (cs l true) (n_pc p)) (p.1 == 4) q)) (fun c k => s_r (n_lit 10 c) k)) u2 j' → Fr (th σ0) u u2 → (GD u2 → GD u ∧ lsG (oE T (6 * ν + 4)) 10 (fN σ0 315) x (l ++ [(k, fN σ 315, fN u 315, n_pc p, q1, p.1 == 4)]) (fN u 315) false u2) →
            mm_W mt3079 (MC d) Q (63, [some (.inr (.inr (3, a))), some (.inl (nI (fN σ0 315))), some (.inl tl), some (.inl x)], []) u2 := by
          intro u2 st2 fr2 hg2
          have hx2 := hx.mono fr2
          have ho2 := (ho.mono fr).mono fr2
          have hcap := st2.cap.1
          refine b3079_63 _ _ _ _ _ _ _ (st2.sign (by omega) (fun y5 => ?_) (fun y5 _ => ?_))
          · have st3 := st2.rw (r' := s_b (s_nd T 9 j') (fun _ q => s_b (s_objL T (s_lv T ν) (w_x w).1 f (bif p.1 == 4 && t_sg T q 1 then none else n_cb (cs l true) (n_pc p)) (p.1 == 4) q) (fun c k => s_r (n_lit 10 c) k))) (fun gd2 => by rw [y5 gd2, cond_false, s_b_b])
            refine st3.need (by omega) (fun u3 st4 hf4 _ => ?_)
            have gdj : GD u3 → j + 1 ≤ j' := fun z => hj (hg2 (hf4.1 z)).1
            refine st4.sign (by omega) (fun y6 => ?_) (fun y6 _ => ?_)
            · refine IH true 3 A' (m + q1 + 12) (j' + 1) u3 x _ _ (p.1 == 4) (l ++ [(k, fN σ 315, fN u 315, n_pc p, q1, p.1 == 4)]) (fN u 315) false (fun z => by have := gdj z; omega) (fun z => by have := gdj z; omega) (by omega) (by rw [cq_snoc]; omega) (ho2.mono hf4) (fun _ => hx2.mono hf4) (fun z => ⟨(hg2 (hf4.1 z)).2.mono oE.congr hf4 z, ?_, fun y => absurd (y.symm.trans (y6 z)) (by decide), fun _ => rfl⟩) st4
              rw [y6 z, cs_snoc, Bool.and_false, Bool.and_true]; rfl
            · obtain ⟨kn, n1, n2, n3⟩ := ho2.mono hf4
              have hcap3 := st4.cap.1
              have en : fN σ0 315 = kn := nI_inj (by omega) (by omega) n1
              subst en
              refine st4.setn (by decide) (Or.inl (by decide)) rfl n2 n3 (Or.inl ⟨by decide, by decide⟩) (fun st5 => ?_)
              have fr5 : Fr (th σ0) u3 (mm_seta u3 320 (fN σ0 315) 1) := Fr.seta (by decide) n3
              refine IH true 3 A' (m + q1 + 12) (j' + 1) _ x _ _ (p.1 == 4) (l ++ [(k, fN σ 315, fN u 315, n_pc p, q1, p.1 == 4)]) (fN u 315) true (fun z => by have := gdj z; omega) (fun z => by have := gdj z; omega) (by omega) (by rw [cq_snoc]; omega) ((ho2.mono hf4).mono fr5) (fun _ => (hx2.mono hf4).mono fr5) (fun z => ⟨((hg2 (hf4.1 z)).2.mono oE.congr hf4 z).flag oE.congr, ?_, fun _ => ?_, fun y => absurd (y.symm.trans (y6 z)) (by decide)⟩) st5
              · rw [y6 z, cs_snoc, Bool.and_true]
                cases (p.1 == 4) <;> rfl
              · rw [y6 z, cs_snoc]
          · have st3 := st2.rw (r' := s_b (s_nd T 1 j') (fun _ k => s_r (n_lit 10 (n_cb (cs l true) (n_pc p))) k)) (fun gd2 => by rw [y5 gd2, cond_true, s_nd, y5 gd2, cond_true]; simp only [s_b_r])
            refine fin true 3 A' (m + q1) j' u2 _ (l ++ [(k, fN σ 315, fN u 315, n_pc p, q1, p.1 == 4)]) (fN u 315) false x (fun z => by have := hj (hg2 z).1; omega) (by rw [cq_snoc]; omega) ho2 (fun z => ⟨(hg2 z).2, ?_⟩) st3
            rw [cs_snoc, Bool.and_false]; rfl
        have hp : GD u → lsG (oE T (6 * ν + 4)) 10 (fN σ0 315) tl l bb false u ∧ x = nI k ∧ bb ≤ fN σ 315 ∧ fN σ 315 ≤ k ∧ k < fN u 315 ∧ fN u 315 ≤ fN u 315 ∧ oE T (6 * ν + 4) (mm_a u) (k, fN σ 315, fN u 315, n_pc p, q1, p.1 == 4) ∧ mm_a u 322 k = 0 := fun gdu => by
          obtain ⟨y1, y2, y3⟩ := k3 gdu
          exact ⟨hG.mono oE.congr hfu gdu, k1, hG.2.1, y1, k2, Nat.le_refl _, y3, y2⟩
        exact St.linkK oE.congr st (ho.mono fr) (by omega) (fun z => (ht z).mono fr) hx.nid hp (fun u2 st2 fr2 er en hg2 => ⟨both u2 st2 fr2 hg2, both u2 st2 fr2 hg2⟩)
      · have st := st.rw (r' := s_b (s_nd T 1 j) (fun _ k => s_r (n_lit 10 c) k)) (fun gd => by rw [s_objL, z5 gd, cond_true, s_nd, z5 gd, cond_true]; simp only [s_b_r])
        exact fin _ _ _ _ _ _ _ l bb tr tl hl (by omega) ho (fun gd => ⟨hG, hc (z5 gd)⟩) st
    · refine St.need (s := 1) (f := fun _ _ => none) (st.bd (β' := Unit) ng Fr.rfl' (fun z => z) (h' := h) (w' := w) (A' := A) (m' := m) (e' := e) (i' := j)) (by omega) (fun u st hf _ => st.bad (fun z => ng (hf.1 z)) (ho.mono hf).nid)
theorem c_object {K : Int32 → mmS → Prop} {X : Nat → mmS → Prop} (hI : cIt T ν) (hE : cEl T ν) (hR : cRst T ν) (ih : cAsg T ν) (hw : w_nu w = ν) (hd : 50 * ν + 29 ≤ d) (hq : g + 420 ≤ GQ (w_nu w)) (hm : 24 ≤ m) (nz : NZ T σ) (en : cG T w A m e σ i ∨ (false = true ∧ cB T (g + 0) σ)) (k : ∀ n u, Rs T (shN T ν σ) nid g w m e (th σ) (i + 1) A (s_b (s_objL T (s_lv T ν) (w_x w).1 (t_e T + 1) (some 0) false (i + 1)) (fun c k => s_r (n_lit 10 c) k)) σ n u → K n u) :
    mm_ci (MC d) 3079 [.inr (.inr (3, a))] σ K X := by
  obtain ⟨d, rfl, hd⟩ := mc_pos (c := 50 * ν + 28) (by omega)
  have hGQ := GQ_le (w_nu w)
  refine mc_ci (P := mt3079) (L := 4) rfl rfl ⟨by decide, Nat.le_of_ble_eq_true rfl⟩ fun Q hK hX => b3079_0 _ _ _ _ _ _ _ ?_
  have hG : cG T w A m e σ i := by
    rcases en with y | y
    · exact y
    · exact absurd y.1 (by decide)
  have st := St.start (q := 420) (K := fun n u => Q (.inl (some (.inl n))) u) hq (by decide) en (fun n u rs => hK _ _ (k n u rs))
  have st := st.rise (h' := 6) hG.2.1 (by omega)
  have n1 := hG.1.2.1.2.1
  have hcap := hG.caps
  rw [hw] at hq
  refine St.node (h := 5) st (by omega) (by omega) (fun n2 u2 st2 hf2 nw => ?_)
  obtain ⟨q, q1, q2, q3⟩ := nz
  have nz2 : NZ T u2 := ⟨q, by rw [nw.2.2.2.2.2.2.2.2.2 311 (by decide)]; exact q1, q2, q3⟩
  have st3 := st2.adv nz2
  have fa : Fr (th u2) u2 (mm_setf u2 311 (mm_f u2 311 + 1)) := Fr_adv
  have o1 : own (th σ) n2 u2 := own_new nw hf2 st
  obtain ⟨k1, k2, k4, k5, k6, k7, k8, k9, k10, -⟩ := nw
  subst k1
  have e5 : fN (mm_setf u2 311 (mm_f u2 311 + 1)) 315 = fN u2 315 := fN_eq (f_other (by decide))
  refine obj_rd hI hE hR ih hw (by omega) (by omega) n1 (by omega) (t_e T + 1) false 5 A (m - 1 + 12) (i + 1) _ 0 _ (some 0) false [] (fN σ 315 + 1) false (fun _ => Nat.le_refl _) (fun _ => by omega) (by omega) (by show m + 0 + 1 ≤ _; omega) (o1.mono fa) (fun y => absurd rfl y) (fun z => ⟨⟨Nat.le_refl _, by rw [e5]; omega, k5, Or.inl ⟨rfl, rfl⟩, n1, k4, k9, k10, k8⟩, rfl, fun _ => rfl, fun _ => rfl⟩) st3
end OBJECT
