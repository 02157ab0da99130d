/-! PHASE 3. arrayAt() -/
section ARRAY
variable {β : Type} {T : sT} {Sh : β → Nat → Int32 → mmS → Prop} {N : Int32 → mmS → Prop} {g : Nat} {w0 : cW} {m0 e0 : Nat} {θ : cTh} {l0 : Nat} {Z : Int32 → mmS → Prop} {b : Bool} {h : Nat} {w : cW} {A : cA} {m e : Nat} {r : sR β} {σ σ0 : mmS} {i : Nat}
variable {ν a d : Nat} {Q : mmQ}
/-- an element is put behind the others -/
theorem St.linkK {P : (Nat → Nat → Int32) → LE → Prop} {wk tl x : Int32} {k0 bb k lo hi q : Nat} {c : Option Int} {sp tr : Bool} {l : List LE} {C1 C2 : mmS → Prop} (hP : PC P) (st : St T Sh N g w0 m0 e0 θ l0 Z b h w A m e r σ i) (hn : own θ (nI k0) σ) (hk : k0 < 2 ^ 31) (ht : ¬ tl = 0 → own θ tl σ) (hx : nid x σ)
    (hp : GD σ → lsG P wk k0 tl l bb tr σ ∧ x = nI k ∧ bb ≤ lo ∧ lo ≤ k ∧ k < hi ∧ hi ≤ fN σ 315 ∧ P (mm_a σ) (k, lo, hi, c, q, sp) ∧ mm_a σ 322 k = 0)
    (kk : ∀ u, St T Sh N g w0 m0 e0 θ l0 Z b h w A m e r u i → Fr θ σ u → (∀ s j, s ≠ 317 → s ≠ 322 → mm_a u s j = mm_a σ s j) → fN u 315 = fN σ 315 → (GD u → GD σ ∧ lsG P wk k0 x (l ++ [(k, lo, hi, c, q, sp)]) hi tr u) → C1 u ∧ C2 u) : mm_br (tl = 0) (mm_S σ 317 (nI k0) x C1) (mm_S σ 322 tl x C2) := by
  have hc := st.cap.1
  refine br_p (fun z => ?_) (fun z => ?_)
  · obtain ⟨k', e1, e2, e3⟩ := hn
    have e4 : k0 = k' := nI_inj hk (by omega) e1
    subst e4
    refine st.setn (by decide) (Or.inl (by decide)) rfl e2 e3 (Or.inr (Or.inl ⟨rfl, Or.inl hx⟩)) (fun st2 => (kk _ st2 (Fr.seta (by decide) e3) (fun s j s1 s2 => by rw [a_seta_n s1]) rfl (fun gd => ?_)).1)
    have gds : GD σ := gd
    obtain ⟨p1, p2, p3, p4, p5, p6, p7, p8⟩ := hp gds
    subst p2
    subst z
    exact ⟨gds, p1.link0 hP hc p3 p4 p5 p6 p7 p8⟩
  · obtain ⟨t, t1, t2, t3⟩ := ht z
    refine st.setn (by decide) (Or.inl (by decide)) t1 t2 t3 (Or.inl ⟨by decide, by decide⟩) (fun st2 => (kk _ st2 (Fr.seta (by decide) t3) (fun s j s1 s2 => by rw [a_seta_n s2]) rfl (fun gd => ?_)).2)
    have gds : GD σ := gd
    obtain ⟨p1, p2, p3, p4, p5, p6, p7, p8⟩ := hp gds
    subst p2
    exact ⟨gds, (p1.link1 hP hc t1 t2 z p3 p4 p5 p6 p7 p8).1⟩
theorem asN_of {u : mmS} {v : sN} {q : Nat} {n : Int32} (h1 : GD u → asN T ν σ v q n u) (h2 : ¬ GD u → nid n u) : ∃ k, n = nI k ∧ k < fN u 315 ∧ (GD u → ∃ μ, ν = μ + 1 ∧ shK T μ (fN σ 315) v q k u) := by
  by_cases gd : GD u
  · obtain ⟨μ, e, k, k1, k2⟩ := h1 gd
    exact ⟨k, k1, k2.2.2.1, fun _ => ⟨μ, e, k2⟩⟩
  · obtain ⟨k, k1, k2⟩ := h2 gd
    exact ⟨k, k1, k2, fun z => absurd z gd⟩
/-- an expression as a plain element -/
theorem plE_of {μ lo q k : Nat} {v : sN} {u : mmS} (hs : shK T μ lo v q k u) : plE T (6 * μ + 10) (mm_a u) lo (fN u 315) k (n_el v) q := by
  have cv := cv_of hs
  obtain ⟨h1, h2, h3, hr, hc⟩ := hs
  refine ⟨h2, h3, ?_⟩
  cases hx : v.1 == 28 && v.2.2.1 == 0 && !v.2.2.2.1 with
  | true =>
    simp only [Bool.and_eq_true, beq_iff_eq, Bool.not_eq_true'] at hx
    obtain ⟨⟨x1, x2⟩, x3⟩ := hx
    refine Or.inl ⟨hr.1.trans x1, (hr.2.2.1 (Or.inr x1)).trans x2, hr.2.2.2.1.trans (by rw [x3]; rfl), ?_⟩
    unfold n_el
    rw [x1, x2, x3]; rfl
  | false =>
    refine Or.inr ⟨fun y => ?_, ?_⟩
    · obtain ⟨y1, y2, y3⟩ := y
      have x1 : v.1 = 28 := hr.1.symm.trans y1
      have x2 : v.2.2.1 = 0 := (hr.2.2.1 (Or.inr x1)).symm.trans y2
      have x3 : v.2.2.2.1 = false := bI_0.mp (hr.2.2.2.1.symm.trans y3)
      rw [x1, x2, x3] at hx
      exact absurd hx (by decide)
    · unfold n_el
      rw [hx]
      exact cv
theorem arr_rd (ih : cAsg T ν) (hw : w_nu w = ν) (hd : 50 * ν + 10 ≤ d) (hq : g + 10 ≤ GQ ν) (h0 : 1 ≤ fN σ0 315) (h01 : fN σ0 315 ≤ 85000) (f : Nat) : ∀ (b : Bool) (h : Nat) (A : cA) (m j : Nat) (σ : mmS) (tl : Int32) (wv3 wv4 : Option mmV) (c : Option Int) (sp : Bool) (l : List LE) (bb : Nat) (tr : Bool), (GD σ → l0 ≤ j) → (GD σ → t_e T < f + j) → 24 ≤ m → m0 + cq l + 1 ≤ m → own (th σ0) (nI (fN σ0 315)) σ → (¬ tl = 0 → own (th σ0) tl σ) →
    (GD σ → lsG (aE T (6 * ν + 4)) 9 (fN σ0 315) tl l bb tr σ ∧ (bif sp then none else c) = cs l true ∧ (t_sg T j 5 = true → c = cs l tr) ∧ (t_sg T j 5 = false → tr = false)) →
    St T (shN T ν σ0) nid g w m0 e (th σ0) l0 (fun n u => Q (.inl (some (.inl n))) u) b h w A m e (s_b (s_arrL T (s_lv T ν) (w_x w).1 f c sp j) (fun c k => s_r (n_lit 9 c) k)) σ j → mm_W mt3078 (MC d) Q (22, [some (.inr (.inr (3, a))), some (.inl (nI (fN σ0 315))), some (.inl tl), wv3, wv4], []) σ := by
  have hGQ := GQ_le ν
  -- the end
  have fin : ∀ (b : Bool) (h : Nat) (A : cA) (m j : Nat) (σ : mmS) (c : Option Int) (l : List LE) (bb : Nat) (tr : Bool) (tl : Int32), (GD σ → l0 ≤ j) → m0 + cq l + 1 ≤ m + 12 → own (th σ0) (nI (fN σ0 315)) σ → (GD σ → lsG (aE T (6 * ν + 4)) 9 (fN σ0 315) tl l bb tr σ ∧ c = cs l tr) →
      St T (shN T ν σ0) nid g w m0 e (th σ0) l0 (fun n u => Q (.inl (some (.inl n))) u) b h w A m e (s_b (s_nd T 5 j) (fun _ k => s_r (n_lit 9 c) k)) σ j → mm_V (MC d) Q 3036 [.inr (.inr (3, a)), .inl 5] σ (fun σ15 => Q (.inl (some (.inl (nI (fN σ0 315))))) σ15) := fun b h A m j σ c l bb tr tl hl hm2 ho hg st => by
    refine st.need (by omega) (fun u st2 hf _ => st2.ret (fun _ => rfl) (fun _ => rfl) (fun gd => by have := hl (hf.1 gd); omega) (cq l + 1) (fun _ => by omega) (fun _ => Nat.le_refl _) (fun gd => ?_) (fun _ => (ho.mono hf).nid))
    obtain ⟨g1, g2⟩ := hg (hf.1 gd)
    have g3 := g1.mono aE.congr hf gd
    have cv := cv_arr (ν := ν) (D := 6 * ν + 4) (by omega) g3
    obtain ⟨a1, a2, a3, a4, a5, a6, a7, a8, a9⟩ := g3
    have := a1.le
    subst g2
    exact ⟨_, rfl, ⟨h0, by omega⟩, Nat.le_refl _, by omega, ⟨a6, fun z => absurd (show (9 : Int32) = 4 from z) (by decide), fun z => absurd (show (9 : Int32) = 26 ∨ (9 : Int32) = 28 from z) (by decide), a8, fun z => absurd (show (9 : Int32) = 35 from z) (by decide), a7, fun z => absurd (Or.inl rfl) z, show ¬ (9 : Int32) = 30 by decide, show ¬ (9 : Int32) = 31 by decide⟩, fun _ _ => cv.qm (Nat.le_succ _)⟩
  induction f with
  | zero =>
    intro b h A m j σ tl wv3 wv4 c sp l bb tr hl hf hm hm2 ho ht hg st
    refine b3078_22 _ _ _ _ _ _ _ _ (st.wrong (fun gd st => ?_) (fun ng => ?_))
    · have := hf gd
      have := (st.gd gd).2.2.1.2
      omega
    · refine St.need (s := 5) (f := fun _ _ => none) (st.bd (β' := Unit) ng Fr.rfl' (fun z => z) (h' := h) (w' := w) (A' := A) (m' := m) (e' := e) (i' := j)) (by omega) (fun u st hf _ => st.bad (fun z => ng (hf.1 z)) (ho.mono hf).nid)
  | succ f IH =>
    intro b h A m j σ tl wv3 wv4 c sp l bb tr hl hf hm hm2 ho ht hg st
    refine b3078_22 _ _ _ _ _ _ _ _ (st.wrong (fun gd st => ?_) (fun ng => ?_))
    · have st := st.rise (h' := 3) gd (by omega)
      have hi := hf gd
      obtain ⟨hG, hC, hc, htr⟩ := hg gd
      have hj0 := hl gd
      refine st.sign (by omega) (fun z5 => ?_) (fun z5 _ => ?_)
      · have htr := htr (z5 gd)
        subst htr
        -- behind an element
        have w90 : ∀ (u : mmS) (x : Int32) (A' : cA) (m' h' j' k lo hi q : Nat) (c1 : Option Int) (sp1 hole : Bool) (wv4 : Option mmV), 12 ≤ m' → m0 + cq l + q ≤ m' → (GD u → j ≤ j') → Fr (th σ0) σ u → own (th σ0) x u →
            (GD u → lsG (aE T (6 * ν + 4)) 9 (fN σ0 315) tl l bb false u ∧ x = nI k ∧ bb ≤ lo ∧ lo ≤ k ∧ k < hi ∧ hi ≤ fN u 315 ∧ aE T (6 * ν + 4) (mm_a u) (k, lo, hi, c1, q, sp1) ∧ mm_a u 322 k = 0) → (GD u → (mm_a u 316 k = 31 ↔ hole = true)) → (hole = true → sp1 = false) →
            St T (shN T ν σ0) nid g w m0 e (th σ0) l0 (fun n u => Q (.inl (some (.inl n))) u) true h' w A' m' e (s_b (bif t_sg T j' 5 then s_r (n_cb (cs l true) c1) (j' + 1) else s_b (s_nd T 9 j') (fun _ q => s_arrL T (s_lv T ν) (w_x w).1 f (bif sp1 && t_sg T q 5 then none else n_cb (cs l true) c1) sp1 q)) (fun c k => s_r (n_lit 9 c) k)) u j' →
            mm_W mt3078 (MC d) Q (90, [some (.inr (.inr (3, a))), some (.inl (nI (fN σ0 315))), some (.inl tl), some (.inl x), wv4], []) u := by
          intro u x A' m' h' j' k lo hi q c1 sp1 hole wv4 hm' hm3 hj fr hx hp hh hs st
          have both : ∀ u2, St T (shN T ν σ0) nid g w m0 e (th σ0) l0 (fun n u => Q (.inl (some (.inl n))) u) true h' w A' m' e (s_b (bif t_sg T j' 5 then s_r (n_cb (cs l true) c1) (j' + 1) else s_b (s_nd T 9 j') (fun _ q => s_arrL T (s_lv T ν) (w_x w).1 f (bif sp1 && t_sg T q 5 then none else n_cb (cs l true) c1) sp1 q)) (fun c k => s_r (n_lit 9 c) k)) u2 j' → Fr (th σ0) u u2 → (∀ s j, s ≠ 317 → s ≠ 322 → mm_a u2 s j = mm_a u s j) → fN u2 315 = fN u 315 → (GD u2 → GD u ∧ lsG (aE T (6 * ν + 4)) 9 (fN σ0 315) x (l ++ [(k, lo, hi, c1, q, sp1)]) hi false u2) →
              mm_W mt3078 (MC d) Q (111, [some (.inr (.inr (3, a))), some (.inl (nI (fN σ0 315))), some (.inl tl), some (.inl x), wv4], []) u2 := by
            intro u2 st2 fr2 er en hg2
            have hx2 := hx.mono fr2
            have ho2 := (ho.mono fr).mono fr2
            obtain ⟨kx, x1, x2, x3⟩ := id hx2
            have hcap := st2.cap.1
            have w129 : ∀ s0 : Int32, (GD u2 → (s0 = 0 ↔ hole = false)) → mm_W mt3078 (MC d) Q (129, [some (.inr (.inr (3, a))), some (.inl (nI (fN σ0 315))), some (.inl x), some (.inl x), wv4], [.inl s0]) u2 := by
              intro s0 hs0
              refine b3078_129 _ _ _ _ _ _ _ _ _ (st2.sign (by omega) (fun y5 => ?_) (fun y5 _ => ?_))
              · have st3 := st2.rw (r' := s_b (s_nd T 9 j') (fun _ q => s_b (s_arrL T (s_lv T ν) (w_x w).1 f (bif sp1 && t_sg T q 5 then none else n_cb (cs l true) c1) sp1 q) (fun c k => s_r (n_lit 9 c) k))) (fun gd2 => by rw [y5 gd2, cond_false, s_b_b])
                refine st3.need (by omega) (fun u3 st4 hf4 _ => ?_)
                have gdj : GD u3 → j ≤ j' := fun z => hj (hg2 (hf4.1 z)).1
                refine st4.sign (by omega) (fun y6 => ?_) (fun y6 _ => ?_)
                · refine IH true h' A' (m' + 12) (j' + 1) u3 x _ _ _ sp1 (l ++ [(k, lo, hi, c1, q, sp1)]) hi false (fun z => by have := gdj z; omega) (fun z => by have := gdj z; omega) (by omega) (by rw [cq_snoc]; omega) (ho2.mono hf4) (fun _ => hx2.mono hf4) (fun z => ⟨(hg2 (hf4.1 z)).2.mono aE.congr hf4 z, ?_, fun y => absurd (y.symm.trans (y6 z)) (by decide), fun _ => rfl⟩) st4
                  rw [y6 z, cs_snoc, Bool.and_false, Bool.and_true]; rfl
                · refine br_p (fun s1 => ?_) (fun s1 => ?_)
                  · obtain ⟨kn, n1, n2, n3⟩ := ho2.mono hf4
                    have hcap3 := st4.cap.1
                    have en : fN σ0 315 = kn := nI_inj (by omega) (by omega) n1
                    subst en
                    refine st4.setn (by decide) (Or.inl (by decide)) rfl n2 n3 (Or.inl ⟨by decide, by decide⟩) (fun st5 => ?_)
                    have fr5 : Fr (th σ0) u3 (mm_seta u3 320 (fN σ0 315) 1) := Fr.seta (by decide) n3
                    refine IH true h' A' (m' + 12) (j' + 1) _ x _ _ _ sp1 (l ++ [(k, lo, hi, c1, q, sp1)]) hi true (fun z => by have := gdj z; omega) (fun z => by have := gdj z; omega) (by omega) (by rw [cq_snoc]; omega) ((ho2.mono hf4).mono fr5) (fun _ => (hx2.mono hf4).mono fr5) (fun z => ⟨((hg2 (hf4.1 z)).2.mono aE.congr hf4 z).flag aE.congr, ?_, fun _ => ?_, fun y => absurd (y.symm.trans (y6 z)) (by decide)⟩) st5
                    · rw [y6 z, cs_snoc, Bool.and_true]
                      cases sp1 <;> rfl
                    · rw [y6 z, cs_snoc]
                  · refine IH true h' A' (m' + 12) (j' + 1) u3 x _ _ _ sp1 (l ++ [(k, lo, hi, c1, q, sp1)]) hi false (fun z => by have := gdj z; omega) (fun z => by have := gdj z; omega) (by omega) (by rw [cq_snoc]; omega) (ho2.mono hf4) (fun _ => hx2.mono hf4) (fun z => ⟨(hg2 (hf4.1 z)).2.mono aE.congr hf4 z, ?_, fun _ => ?_, fun _ => rfl⟩) st4
                    · rw [y6 z, cs_snoc, Bool.and_true]
                      cases sp1 <;> rfl
                    · have hole1 : hole = true := by
                        cases hole with
                        | true => rfl
                        | false => exact absurd ((hs0 (hf4.1 z)).mpr rfl) s1
                      rw [hs hole1, cs_snoc]; rfl
              · have st3 := st2.rw (r' := s_b (s_nd T 5 j') (fun _ k => s_r (n_lit 9 (n_cb (cs l true) c1)) k)) (fun gd2 => by rw [y5 gd2, cond_true, s_nd, y5 gd2, cond_true]; simp only [s_b_r])
                refine fin true h' A' m' j' u2 _ (l ++ [(k, lo, hi, c1, q, sp1)]) hi false x (fun z => by have := hj (hg2 z).1; omega) (by rw [cq_snoc]; omega) ho2 (fun z => ⟨(hg2 z).2, ?_⟩) st3
                rw [cs_snoc, Bool.and_false]; rfl
            refine b3078_111 _ _ _ _ _ _ _ _ (st2.rdn (by decide) x1 x2 ?_)
            have hx31 : GD u2 → (mm_a u2 316 kx = 31 ↔ hole = true) := fun z => by
              obtain ⟨gdu, -⟩ := hg2 z
              obtain ⟨-, p2, p3, p4, p5, p6, -⟩ := hp gdu
              have ek : kx = k := nI_inj (by omega) (by omega) (x1.symm.trans p2)
              rw [er 316 kx (by decide) (by decide), ek]
              exact hh gdu
            refine br_p (fun z31 => w129 1 (fun z => ⟨fun y => absurd y (by decide), fun y => ?_⟩)) (fun z31 => w129 0 (fun z => ⟨fun _ => ?_, fun _ => rfl⟩))
            · have := (hx31 z).mp z31
              rw [this] at y; exact nomatch y
            · cases hole with
              | false => rfl
              | true => exact absurd ((hx31 z).mpr rfl) z31
          refine b3078_90 _ _ _ _ _ _ _ _ (St.linkK aE.congr st (ho.mono fr) (by omega) (fun z => (ht z).mono fr) hx.nid hp (fun u2 st2 fr2 er en hg2 => ⟨both u2 st2 fr2 er en hg2, both u2 st2 fr2 er en hg2⟩))
        refine st.sign (by omega) (fun z9 => ?_) (fun z9 _ => ?_)
        · have st := st.rw (r' := s_b ((s_lv T ν).1 (w_x w).1 true (bif t_sg T j 7 then j + 1 else j)) (fun v k => s_b (bif t_sg T k 5 then s_r (n_cb (cs l true) (bif t_sg T j 7 then n_tg v else n_el v)) (k + 1) else s_b (s_nd T 9 k) (fun _ q => s_arrL T (s_lv T ν) (w_x w).1 f (bif t_sg T j 7 && t_sg T q 5 then none else n_cb (cs l true) (bif t_sg T j 7 then n_tg v else n_el v)) (t_sg T j 7) q)) (fun c k => s_r (n_lit 9 c) k))) (fun gd => by rw [s_arrL, z5 gd, z9 gd, cond_false, cond_false, hC, s_b_b])
          have tl0 := st.tl.1
          refine st.eat (by omega) (fun z7 => ?_) (fun u1 z7 st hf1 => ?_)
          · have st := st.rw (r' := s_b ((s_lv T ν).1 (w_x w).1 true j) _) (fun gd => by rw [z7 gd]; rfl)
            refine St.call (ih a w true hw) (n_k 0) st (fun _ => rfl) hd (by rw [hw]; omega) hm rfl (fun v j2 B q n u st2 hf hj hs hn => ?_)
            obtain ⟨k, k1, k2, k3⟩ := asN_of hs hn
            refine w90 u n B (m + q) _ j2 k (fN σ 315) (fN u 315) q (n_el v) false false _ (by omega) (by omega) (fun z => by have := hj z; omega) (hf.mono tl0) (own_sh st hf (fun gd => (hs gd).sh) hn) (fun z => ?_) (fun z => ?_) (fun y => nomatch y) st2
            · obtain ⟨μ, e1, sk⟩ := k3 z
              have pl := plE_of sk
              obtain ⟨s1, s2, s3, s4, s5⟩ := sk
              rw [show 6 * μ + 10 = 6 * ν + 4 by omega] at pl
              exact ⟨hG.mono aE.congr hf z, k1, hG.2.1, s2, s3, Nat.le_refl _, Or.inr (Or.inr ⟨fun y => s4.2.2.2.2.2.2.2.1 (s4.1.symm.trans y), fun y => s4.2.2.2.2.2.2.2.2 (s4.1.symm.trans y), rfl, pl⟩), s4.2.2.2.2.2.1⟩
            · obtain ⟨μ, e1, s1, s2, s3, s4, s5⟩ := k3 z
              exact ⟨fun y => absurd (s4.1.symm.trans y) s4.2.2.2.2.2.2.2.2, fun y => nomatch y⟩
          · have st := st.rw (r' := s_b ((s_lv T ν).1 (w_x w).1 true (j + 1)) _) (fun gd => by rw [z7 (hf1.1 gd)]; rfl)
            have tl1 := st.tl.1
            refine St.call (ih a w true hw) (n_k 0) st (fun _ => rfl) hd (by rw [hw]; omega) (by omega) rfl (fun v j2 B q n u st2 hf hj hs hn => ?_)
            obtain ⟨k, k1, k2, k3⟩ := asN_of hs hn
            refine st2.node (h := 2) (by omega) (by omega) (fun n3 u3 st3 hf3 nw => ?_)
            have l1 := hf1.nn
            have l2 := hf.nn
            have nwl := nw.2.1
            refine w90 u3 n3 B _ _ j2 (fN u 315) (fN u1 315) (fN u3 315) q (n_tg v) true false _ (by omega) (by omega) (fun z => by have := hj (hf3.1 z); omega) (((hf1.mono tl0).trans (hf.mono tl1)).trans (hf3.mono st2.tl.1)) (own_new nw hf3 st2) (fun z => ?_) (fun z => ?_) (fun y => nomatch y) st3
            · have gdu := hf3.1 z
              have gd1 := hf.1 gdu
              obtain ⟨μ, e1, sk⟩ := k3 gdu
              have cv := cv_of sk
              obtain ⟨s1, s2, s3, s4, s5⟩ := sk
              rw [show 6 * μ + 10 = 6 * ν + 4 by omega] at cv
              have hgr := (hf3.2.2.2.2.2.2.2 z).2.1
              obtain ⟨n1, n2, n4, n5, n6, n7, n8, n9, n10, -⟩ := nw
              refine ⟨((hG.mono aE.congr hf1 gd1).mono aE.congr hf gdu).mono aE.congr hf3 z, n1, by have := hG.2.1; omega, by omega, by omega, Nat.le_refl _, Or.inr (Or.inl ⟨n4, rfl, k, fN u 315, n5.trans k1, s2, s3, Nat.le_refl _, cv.mono (Nat.le_refl _) (Nat.le_refl _) (Nat.le_refl _) s3 (fun s s1' s2' j' j1 j2 _ => hgr s s1' s2' j' (by omega) j2)⟩), n9⟩
            · obtain ⟨n1, n2, n4, -⟩ := nw
              exact ⟨fun y => absurd (n4.symm.trans y) (by decide), fun y => nomatch y⟩
        · -- a hole
          have st := st.rw (r' := s_b (bif t_sg T j 5 then s_r (n_cb (cs l true) (some 0)) (j + 1) else s_b (s_nd T 9 j) (fun _ q => s_arrL T (s_lv T ν) (w_x w).1 f (bif false && t_sg T q 5 then none else n_cb (cs l true) (some 0)) false q)) (fun c k => s_r (n_lit 9 c) k)) (fun gd => by
            rw [s_arrL, z5 gd, z9 gd, cond_false, cond_true, cond_false, s_nd, z9 gd, cond_true, n_cb_0, hC]; simp only [s_b_r]; rfl)
          have tl0 := st.tl.1
          refine St.node (h := 2) st (by omega) (by omega) (fun n3 u3 st3 hf3 nw => ?_)
          have nwl := nw.2.1
          refine w90 u3 n3 A _ _ j (fN σ 315) (fN σ 315) (fN u3 315) 0 (some 0) false true _ (by omega) (by omega) (fun z => Nat.le_refl _) (hf3.mono tl0) (own_new nw hf3 st) (fun z => ?_) (fun z => ?_) (fun _ => rfl) st3.tt
          · obtain ⟨n1, n2, n4, n5, n6, n7, n8, n9, n10, -⟩ := nw
            exact ⟨hG.mono aE.congr hf3 z, n1, hG.2.1, Nat.le_refl _, by omega, Nat.le_refl _, Or.inl ⟨n4, rfl, rfl⟩, n9⟩
          · obtain ⟨n1, n2, n4, -⟩ := nw
            exact ⟨fun _ => rfl, fun _ => n4⟩
      · have st := st.rw (r' := s_b (s_nd T 5 j) (fun _ k => s_r (n_lit 9 c) k)) (fun gd => by rw [s_arrL, z5 gd, cond_true, s_nd, z5 gd, cond_true]; simp only [s_b_r])
        exact fin _ _ _ _ _ _ _ l bb tr tl hl (by omega) ho (fun gd => ⟨hG, hc (z5 gd)⟩) st
    · refine St.need (s := 5) (f := fun _ _ => none) (st.bd (β' := Unit) ng Fr.rfl' (fun z => z) (h' := h) (w' := w) (A' := A) (m' := m) (e' := e) (i' := j)) (by omega) (fun u st hf _ => st.bad (fun z => ng (hf.1 z)) (ho.mono hf).nid)
theorem c_array {K : Int32 → mmS → Prop} {X : Nat → mmS → Prop} (ih : cAsg T ν) (hw : w_nu w = ν) (hd : 50 * ν + 11 ≤ d) (hq : g + 12 ≤ GQ (w_nu w)) (hm : 24 ≤ m) (nz : NZ T σ) (en : cG T w A m e σ i ∨ (false = true ∧ cB T (g + 0) σ)) (k : ∀ n u, Rs T (shN T ν σ) nid g w m e (th σ) (i + 1) A (s_b (s_arrL T (s_lv T ν) (w_x w).1 (t_e T + 1) (some 0) false (i + 1)) (fun c k => s_r (n_lit 9 c) k)) σ n u → K n u) :
    mm_ci (MC d) 3078 [.inr (.inr (3, a))] σ K X := by
  obtain ⟨d, rfl, hd⟩ := mc_pos (c := 50 * ν + 10) (by omega)
  have hGQ := GQ_le (w_nu w)
  refine mc_ci (P := mt3078) (L := 5) rfl rfl ⟨by decide, Nat.le_of_ble_eq_true rfl⟩ fun Q hK hX => b3078_0 _ _ _ _ _ _ _ _ ?_
  have hG : cG T w A m e σ i := by
    rcases en with y | y
    · exact y
    · exact absurd y.1 (by decide)
  have st := St.start (q := 12) (K := fun n u => Q (.inl (some (.inl n))) u) hq (by decide) en (fun n u rs => hK _ _ (k n u rs))
  have st := st.rise (h' := 6) hG.2.1 (by omega)
  have n1 := hG.1.2.1.2.1
  have hcap := hG.caps
  rw [hw] at hq
  refine St.node (h := 5) st (by omega) (by omega) (fun n2 u2 st2 hf2 nw => ?_)
  obtain ⟨q, q1, q2, q3⟩ := nz
  have nz2 : NZ T u2 := ⟨q, by rw [nw.2.2.2.2.2.2.2.2.2 311 (by decide)]; exact q1, q2, q3⟩
  have st3 := st2.adv nz2
  have fa : Fr (th u2) u2 (mm_setf u2 311 (mm_f u2 311 + 1)) := Fr_adv
  have o1 : own (th σ) n2 u2 := own_new nw hf2 st
  obtain ⟨k1, k2, k4, k5, k6, k7, k8, k9, k10, -⟩ := nw
  subst k1
  have e5 : fN (mm_setf u2 311 (mm_f u2 311 + 1)) 315 = fN u2 315 := fN_eq (f_other (by decide))
  refine arr_rd ih hw (by omega) (by omega) n1 (by omega) (t_e T + 1) false 5 A (m - 1 + 12) (i + 1) _ 0 _ _ (some 0) false [] (fN σ 315 + 1) false (fun _ => Nat.le_refl _) (fun _ => by omega) (by omega) (by show m + 0 + 1 ≤ _; omega) (o1.mono fa) (fun y => absurd rfl y) (fun z => ⟨⟨Nat.le_refl _, by rw [e5]; omega, k5, Or.inl ⟨rfl, rfl⟩, n1, k4, k9, k10, k8⟩, rfl, fun _ => rfl, fun _ => rfl⟩) st3
end ARRAY
