/-! PHASE 3. binding(): the loop of an array pattern -/
section BINDA
variable {β : Type} {T : sT} {Sh : β → Nat → Int32 → mmS → Prop} {N : Int32 → mmS → Prop} {g : Nat} {w0 : cW} {m0 e0 : Nat} {θ : cTh} {l0 : Nat} {Z : Int32 → mmS → Prop} {b : Bool} {h : Nat} {w : cW} {A : cA} {m e : Nat} {r r' : sR β} {σ σ0 : mmS} {i : Nat}
variable {ν a d : Nat} {Q : mmQ}
theorem own_lt {n : Int32} {t : Nat} (ho : own θ n σ) (hb : fN σ 315 ≤ 85000) (e : n = nI t) (ht : t < 2 ^ 31) : t < fN σ 315 := by
  obtain ⟨k, k1, k2, -⟩ := ho
  have : t = k := nI_inj ht (by omega) (e.symm.trans k1)
  omega
/-- numbers lie before what is made later -/
theorem own_ly {v3 v2 : Int32} {ly : Nat} (h3 : own θ v3 σ) (h2 : ¬ v2 = 0 → own θ v2 σ) (hb : fN σ 315 ≤ 85000) (h1 : 1 ≤ fN σ 315) (hl : fN σ 315 ≤ ly) : ∀ t, (v3 = nI t ∨ v2 = nI t) → t < 2 ^ 31 → t < ly := by
  intro t q ht
  rcases q with q | q
  · have := own_lt h3 hb q ht
    omega
  · by_cases c : v2 = 0
    · rw [c] at q
      have : t = 0 := nI_inj ht (by omega) (q.symm.trans nI_0.symm)
      omega
    · have := own_lt (h2 c) hb q ht
      omega
theorem elN_of_sh {D : Nat} {σ u : mmS} {v : Bool × Bool × List Int32} {q : Nat} {n : Int32} (h : shEl D σ v q n u) : ∃ k, n = nI k ∧ elN D u (fN σ 315) (k, v.2.2) ∧ mm_a u 322 k = 0 := by
  obtain ⟨k, j, k1, k2, k3, k4, k5, k6, k7, k8, k9, k10, k11, f, k12⟩ := h
  exact ⟨k, k1, ⟨k3, k4, Or.inr ⟨Or.inl k5, j, f, k6, k12⟩⟩, k11⟩
theorem elN_of_bd {D : Nat} {σ u v : mmS} {bl : Bool × List Int32} {q : Nat} {n n2 y z : Int32} (h : shBd D σ bl q n u) (h1 : 1 ≤ fN σ 315) (f : Fr (th u) u v) (gd : GD v) (nw : NwN u 53 n y z 0 n2 v) : ∃ k, n2 = nI k ∧ elN D v (fN σ 315) (k, bl.2) ∧ mm_a v 322 k = 0 := by
  obtain ⟨k, k1, k2, k3, k4, k5, k6, fu, k7⟩ := h
  obtain ⟨y1, y2, y3, y4, y5, y6, y7, y8, y9, -⟩ := nw
  have fg := (f.2.2.2.2.2.2.2 gd).2.1
  refine ⟨_, y1, ⟨by show fN σ 315 ≤ fN u 315; omega, by show fN u 315 < fN v 315; omega, Or.inr ⟨Or.inr y3, k, fu, y4.trans k1, ?_⟩⟩, y8⟩
  exact tlR_same (Nat.le_refl _) (Nat.le_refl _) (fun s s1 s2 j j1 j2 => fg s s1 s2 j (by omega) j2) _ _ fu _ _ _ _ (Nat.le_refl _) (Nat.le_refl _) k7
theorem elN_of_hole {D : Nat} {σ u : mmS} {n x y z : Int32} (nw : NwN σ 31 x y z 0 n u) : ∃ k, n = nI k ∧ elN D u (fN σ 315) (k, []) ∧ mm_a u 322 k = 0 := by
  obtain ⟨y1, y2, y3, y4, y5, y6, y7, y8, y9, -⟩ := nw
  exact ⟨_, y1, ⟨Nat.le_refl _, by show fN σ 315 < fN u 315; omega, Or.inl ⟨y3, rfl⟩⟩, y8⟩
theorem bindA_loop {v1 : Int32} {as : Nat} (hE : cEl T ν) (hR : cRst T ν) (hw : w_nu w = ν) (hd : 50 * ν + 12 ≤ d) (hq : g + 4 ≤ GQ ν) (hc : cls v1 = as) (h1 : 1 ≤ fN σ0 315) (f : Nat) : ∀ (b : Bool) (h : Nat) (A : cA) (m i : Nat) (σ : mmS) (v2 v3 : Int32) (l : List Int32) (wv4 wv5 wv6 wv7 wv8 : Option mmV), (GD σ → 2 ≤ h) → (GD σ → l0 ≤ i) → (GD σ → t_e T < f + i) → 24 ≤ m → m0 + 8 ≤ m → own (th σ0) v3 σ → (¬ v2 = 0 → own (th σ0) v2 σ) → (GD σ → patG (2 * ν) (fN σ0 315) v3 v2 l σ) →
    St T (shBd (2 * ν + 2) σ0) nid g w (m0 + 8) e (th σ0) l0 (fun n u => Q (.inl (some (.inl n))) u) b h w A m e (s_barL T (s_lv T ν) (w_x w).1 as f l i) σ i → mm_W mt3050 (MC d) Q (39, [some (.inr (.inr (3, a))), some (.inl v1), some (.inl v2), some (.inl v3), wv4, wv5, wv6, wv7, wv8], []) σ := by
  have hGQ := GQ_le ν
  induction f with
  | zero =>
    intro b h A m i σ v2 v3 l wv4 wv5 wv6 wv7 wv8 hh hl hf hm hm2 ho3 ho2 hp st
    refine b3050_39 _ _ _ _ _ _ _ _ _ _ _ _ (st.wrong (fun gd st => ?_) (fun ng => ?_))
    · have := hf gd
      have := (st.gd gd).2.2.1.2
      omega
    · exact St.need (s := 5) (f := fun _ _ => none) (st.bd (β' := Unit) ng Fr.rfl' (fun z => z) (h' := h) (w' := w) (A' := A) (m' := m) (e' := e) (i' := i)) (by omega) (fun u st hf _ => st.bad (fun z => ng (hf.1 z)) (ho3.nid.mono hf))
  | succ f IH =>
    intro b h A m i σ v2 v3 l wv4 wv5 wv6 wv7 wv8 hh hl hf hm hm2 ho3 ho2 hp st
    have hcap := st.cap.1
    have hn1 := st.ci.2.1.2.1
    have nx : ∀ (u : mmS) (x : Int32) (l2 : List Int32) (ly : Nat) (B : cA) (m' j h' : Nat), St T (shBd (2 * ν + 2) σ0) nid g w (m0 + 8) e (th σ0) l0 (fun n u => Q (.inl (some (.inl n))) u) true h' w B m' e (bif t_sg T j 5 then s_barL T (s_lv T ν) (w_x w).1 as f (l ++ l2) j else s_b (s_nd T 9 j) (fun _ q => s_barL T (s_lv T ν) (w_x w).1 as f (l ++ l2) q)) u j → 24 ≤ m' + 1 → m0 + 8 ≤ m' + 1 → (GD u → t_sg T j 5 = true → 24 ≤ m' ∧ m0 + 8 ≤ m') → own (th σ0) x u → Fr (th σ0) σ u → fN σ 315 ≤ ly → (GD u → patG (2 * ν) (fN σ0 315) v3 v2 l u) → (GD u → ∃ k, x = nI k ∧ elN (2 * ν) u ly (k, l2) ∧ mm_a u 322 k = 0) → (GD u → i ≤ j ∧ (t_sg T j 5 = true → i + 1 ≤ j)) →
        mm_W mt3050 (MC d) Q (122, [some (.inr (.inr (3, a))), some (.inl v1), some (.inl v2), some (.inl v3), some (.inl x), wv5, wv6, wv7, wv8], []) u := fun u x l2 ly B m' j h' st hm' hm3 hm5 hx fr hly hpu hel hj => by
      have fin : ∀ (u' : mmS), St T (shBd (2 * ν + 2) σ0) nid g w (m0 + 8) e (th σ0) l0 (fun n u => Q (.inl (some (.inl n))) u) true h' w B m' e (bif t_sg T j 5 then s_barL T (s_lv T ν) (w_x w).1 as f (l ++ l2) j else s_b (s_nd T 9 j) (fun _ q => s_barL T (s_lv T ν) (w_x w).1 as f (l ++ l2) q)) u' j → Fr (th σ0) u u' → (GD u' → patG (2 * ν) (fN σ0 315) v3 x (l ++ l2) u') →
          mm_W mt3050 (MC d) Q (145, [some (.inr (.inr (3, a))), some (.inl v1), some (.inl v2), some (.inl v3), some (.inl x), wv5, wv6, wv7, wv8], []) u' := fun u' st fr' hp' => by
        refine b3050_145 _ _ _ _ _ _ _ _ _ _ _ _ (st.sign (by omega) (fun z => ?_) (fun z _ => ?_))
        · refine St.need (St.f st z) (by omega) (fun u2 st2 hf2 _ => ?_)
          obtain ⟨h2, hh2, st2⟩ := st2.lift 2 (by omega)
          refine IH true h2 B _ (j + 1) u2 x v3 (l ++ l2) _ _ _ _ _ hh2 (fun gd2 => ?_) (fun gd2 => ?_) (by omega) (by omega) (((ho3.mono fr).mono fr').mono hf2) (fun _ => (hx.mono fr').mono hf2) (fun gd2 => (hp' (hf2.1 gd2)).mono h1 hf2 gd2) st2
          · have := hl (fr.1 (fr'.1 (hf2.1 gd2))); have := (hj (fr'.1 (hf2.1 gd2))).1; omega
          · have := hf (fr.1 (fr'.1 (hf2.1 gd2))); have := (hj (fr'.1 (hf2.1 gd2))).1; omega
        · obtain ⟨m2, e2, e3, st2⟩ : ∃ m2, 24 ≤ m2 ∧ m0 + 8 ≤ m2 ∧ St T (shBd (2 * ν + 2) σ0) nid g w (m0 + 8) e (th σ0) l0 (fun n u => Q (.inl (some (.inl n))) u) true h' w B m2 e (s_barL T (s_lv T ν) (w_x w).1 as f (l ++ l2) j) u' j := by
            by_cases gd2 : GD u'
            · have := hm5 (fr'.1 gd2) (z gd2)
              exact ⟨m', this.1, this.2, St.t st z⟩
            · exact ⟨m0 + 32, by omega, by omega, st.bd (β' := Unit) gd2 Fr.rfl' (fun z => z)⟩
          obtain ⟨h2, hh2, st2⟩ := st2.lift 2 (by omega)
          refine IH true h2 B _ j u' x v3 (l ++ l2) _ _ _ _ _ hh2 (fun gd2 => ?_) (fun gd2 => ?_) e2 e3 ((ho3.mono fr).mono fr') (fun _ => hx.mono fr') hp' st2
          · have := hl (fr.1 (fr'.1 gd2)); have := (hj (fr'.1 gd2)).1; omega
          · have := hf (fr.1 (fr'.1 gd2)); have := (hj (fr'.1 gd2)).2 (z gd2); omega
      refine b3050_122 _ _ _ _ _ _ _ _ _ _ _ _ ?_
      refine St.link (ly := ly) (l2 := l2) (nm := l) st (ho3.mono fr) (fun z => (ho2 z).mono fr) hx (fun gd => ⟨hpu gd, ?_⟩) (fun u' st' fr' hp' => fin u' st' fr' hp') (fun u' st' fr' hp' => fin u' st' fr' hp')
      obtain ⟨k, k1, k2, k3⟩ := hel gd
      exact ⟨k, k1, k2, k3, own_ly ho3 ho2 hcap hn1 hly⟩
    refine b3050_39 _ _ _ _ _ _ _ _ _ _ _ _ (st.wrong (fun gd st => ?_) (fun ng => ?_))
    · have st := st.mono (hh gd)
      have hi := hf gd
      have tl0 := st.tl.1
      refine st.sign (by omega) (fun z5 => ?_) (fun z5 _ => ?_)
      · have st := St.f st z5
        refine st.sign (by omega) (fun z9 => ?_) (fun z9 _ => ?_)
        · have st := St.f st z9
          refine st.eat (by omega) (fun z7 => ?_) (fun u1 z7 st1 hf1 => ?_)
          · have st := St.f st z7
            refine St.call (hE a w v1 0 as hw hc) (false, false, []) st (fun _ => rfl) (by omega) (by rw [hw]; omega) hm rfl (fun v j B q n u st2 hf2 hj hs hn => ?_)
            refine nx u n v.2.2 (fN σ 315) B _ j _ st2 (by omega) (by omega) (fun _ _ => ⟨by omega, by omega⟩) ?_ (hf2.mono tl0) (Nat.le_refl _) (fun gd2 => (hp gd).mono h1 hf2 gd2) (fun gd2 => elN_of_sh (hs gd2)) (fun gd2 => ⟨by have := hj gd2; omega, fun _ => hj gd2⟩)
            by_cases gd2 : GD u
            · obtain ⟨k, k1, k2, k3⟩ := elN_of_sh (hs gd2)
              exact ⟨k, k1, k2.2.1, fun _ => Nat.le_trans (tl0 (hf2.1 gd2)).1 k2.1⟩
            · obtain ⟨k, k1, k2, -⟩ := hn gd2
              exact ⟨k, k1, k2, fun z => absurd z gd2⟩
          · have st1 := st1.rw (r' := s_b ((s_lv T ν).2.2.2.2.1 (w_x w).1 as (i + 1)) (fun b k => s_b (s_nd T 5 k) (fun _ q => s_r (false, l ++ b.2) q))) (fun gd1 => by rw [z7 (hf1.1 gd1)]; rfl)
            refine St.call (hR a w v1 as hw hc) (false, []) st1 (fun _ => rfl) (by omega) (by rw [hw]; omega) (by omega) rfl (fun v j B q n u2 st2 hf2 hj hs hn => ?_)
            have h2n : 1 ≤ fN u1 315 := st1.ci.2.1.2.1
            refine st2.node (h := 1) (by omega) (by omega) (fun n3 u3 st3 hf3 nw => ?_)
            have f13 : Fr (th σ0) u1 u3 := (hf2.mono st1.tl.1).trans (hf3.mono st2.tl.1)
            refine st3.sign (by omega) (fun z5' => ?_) (fun z5' _ => ?_)
            · refine st3.fail (by omega) (fun gd3 => by rw [s_nd, z5' gd3]; rfl) (fun u4 ng st4 hf4 => st4.bad ng (nid_0 st4.ci))
            · have st3 := st3.rw (r' := bif t_sg T j 5 then s_barL T (s_lv T ν) (w_x w).1 as f (l ++ v.2) j else s_b (s_nd T 9 j) (fun _ q => s_barL T (s_lv T ν) (w_x w).1 as f (l ++ v.2) q)) (fun gd3 => by
                have hj2 := hj (hf3.1 gd3)
                have hje := (st3.gd gd3).2.2.1.2
                obtain ⟨f', rfl⟩ : ∃ f', f = f' + 1 := ⟨f - 1, by omega⟩
                rw [s_nd, z5' gd3, cond_true, cond_true, s_b_r, s_barL, z5' gd3, cond_true])
              refine nx u3 n3 v.2 (fN u1 315) B _ j _ st3 (by omega) (by omega) (fun _ _ => ⟨by omega, by omega⟩) (own_new nw hf3 st2) ((hf1.mono tl0).trans f13) hf1.nn (fun gd3 => ?_) (fun gd3 => elN_of_bd (hs (hf3.1 gd3)) h2n hf3 gd3 nw) (fun gd3 => ⟨by have := hj (hf3.1 gd3); omega, fun _ => by have := hj (hf3.1 gd3); omega⟩)
              have g2 := hf3.1 gd3
              exact ((((hp gd).mono h1 hf1 (hf2.1 g2))).mono h1 hf2 g2).mono h1 hf3 gd3
        · have st := st.rw (r' := bif t_sg T i 5 then s_barL T (s_lv T ν) (w_x w).1 as f (l ++ []) i else s_b (s_nd T 9 i) (fun _ q => s_barL T (s_lv T ν) (w_x w).1 as f (l ++ []) q)) (fun gd1 => by
            have z5 := z5 gd1
            have z9 := z9 gd1
            rw [z9, z5, cond_true, cond_false, List.append_nil])
          refine st.node (h := 1) (by omega) (by omega) (fun n3 u3 st3 hf3 nw => ?_)
          exact nx u3 n3 [] (fN σ 315) A _ i _ st3.weak (by omega) (by omega) (fun _ z => by rw [z5 gd] at z; exact nomatch z) (own_new nw hf3 st) (hf3.mono tl0) (Nat.le_refl _) (fun gd3 => (hp gd).mono h1 hf3 gd3) (fun gd3 => elN_of_hole nw) (fun gd3 => ⟨Nat.le_refl _, fun z => by rw [z5 gd] at z; exact nomatch z⟩)
      · have st := St.t st z5
        refine St.need (s := 5) (f := fun _ k => s_r (false, l) k) (st.rw fun gd => by rw [s_nd, z5 gd, cond_true, s_b_r]) (by omega) (fun u st2 hf2 _ => ?_)
        exact st2.ret (fun _ => rfl) (fun _ => rfl) (fun gd2 => by have := hl (hf2.1 gd2); omega) 0 (fun _ => by omega) (fun _ => Nat.le_refl _) (fun gd2 => ((hp gd).mono h1 hf2 gd2).done h1 st2.cap.1) (fun _ => ho3.nid.mono hf2)
    · exact St.need (s := 5) (f := fun _ _ => none) (st.bd (β' := Unit) ng Fr.rfl' (fun z => z) (h' := h) (w' := w) (A' := A) (m' := m) (e' := e) (i' := i)) (by omega) (fun u st hf _ => st.bad (fun z => ng (hf.1 z)) (ho3.nid.mono hf))
end BINDA
