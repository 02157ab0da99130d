/-! PHASE 3. parameters(): the loop -/
section PARL
variable {β : Type} {T : sT} {Sh : β → Nat → Int32 → mmS → Prop} {N : Int32 → mmS → Prop} {g : Nat} {w0 : cW} {m0 e0 : Nat} {θ : cTh} {l0 : Nat} {Z : Int32 → mmS → Prop} {b : Bool} {h : Nat} {w : cW} {A : cA} {m e : Nat} {r r' : sR β} {σ σ0 : mmS} {i : Nat}
variable {ν a d : Nat} {Q : mmQ}
theorem St.lift2 (st : St T Sh N g w0 m0 e0 θ l0 Z b h w A m e r σ i) (c : Nat) (hg : g + c ≤ 69500) : ∃ h', h ≤ h' ∧ (GD σ → c ≤ h') ∧ St T Sh N g w0 m0 e0 θ l0 Z b h' w A m e r σ i := by
  by_cases gd : GD σ
  · have := st.tl.2 gd
    exact ⟨max h c, Nat.le_max_left _ _, fun _ => Nat.le_max_right _ _, st.rise gd (by omega)⟩
  · exact ⟨h, Nat.le_refl _, fun z => absurd z gd, st⟩
theorem par_loop {F : Bool × Nat × Bool → Nat → sR β} {fk H m1 l1 : Nat} (hE : cEl T ν) (hR : cRst T ν) (hw : w_nu w = ν) (hw0 : w_in w = w_in w0) (hd : 50 * ν + 12 ≤ d) (hq : g + H + 12 ≤ GQ ν)
    (hret : ∀ (u : mmS) (v : Bool × Nat × Bool) (j : Nat) (B : cA) (m' : Nat), St T Sh N g w0 m0 e0 θ l0 Z true H w B m' e (F v j) u j → m1 + 12 ≤ m' → Fr θ σ0 u → (GD u → l1 + 1 ≤ j) → (GD u → parF fk v u) → Q (.inl none) u) (f : Nat) :
    ∀ (b : Bool) (h : Nat) (A : cA) (m i : Nat) (σ : mmS) (v3 v5 : Int32) (si : Bool) (n : Nat) (wv6 : Option mmV), H ≤ h → (GD σ → H + 8 ≤ h) → (GD σ → l1 ≤ i) → (GD σ → t_e T < f + i) → 24 ≤ m → m1 ≤ m → fk < fN σ 336 → (GD σ → θ.2.1 ≤ fk) → (¬ v3 = 0 → own θ v3 σ) → (GD σ → pInv fk n si v3 σ) → Fr θ σ0 σ →
    St T Sh N g w0 m0 e0 θ l0 Z b h w A m e (s_b (s_parL T (s_lv T ν) (w_x w).1 f si n i) F) σ i → mm_W mt3048 (MC d) Q (8, [some (.inr (.inr (3, a))), some (.inl (nI fk)), some (.inl 3), some (.inl v3), some (.inl 0), some (.inl v5), wv6], []) σ := by
  have hGQ := GQ_le ν
  -- a bad end
  have bad8 : ∀ (u : mmS) (v3 v4 v5 : Int32) (wv6 : Option mmV) (b : Bool) (h' : Nat) (w' : cW) (B : cA) (m' i' : Nat) (r : sR β), ¬ GD u → H ≤ h' → St T Sh N g w0 m0 e0 θ l0 Z b h' w' B m' e r u i' → Fr θ σ0 u → mm_W mt3048 (MC d) Q (8, [some (.inr (.inr (3, a))), some (.inl (nI fk)), some (.inl 3), some (.inl v3), some (.inl v4), some (.inl v5), wv6], []) u := fun u v3 v4 v5 wv6 b h' w' B m' i' r ng hh st fr => by
    refine b3048_8 _ _ _ _ _ _ _ _ _ _ (br_n ng ?_)
    refine St.need (s := 3) (f := fun _ k => F (false, 0, false) k) (st.bd (β' := Unit) (h' := H) (w' := w) (A' := B) (m' := m1) (e' := e) (i' := i') ng Fr.rfl' (fun c => c.mono (by omega))) (by omega) (fun u2 st2 hf2 _ => ?_)
    have ng2 : ¬ GD u2 := fun z => ng (hf2.1 z)
    exact hret u2 (false, 0, false) _ B _ st2 (Nat.le_refl _) (fr.trans (hf2.mono fun z => absurd z ng)) (fun z => absurd z ng2) (fun z => absurd z ng2)
  induction f with
  | zero =>
    intro b h A m i σ v3 v5 si n wv6 hh hh2 hl hf hm hm1 hfk ho hv3 hp fr st
    by_cases gd : GD σ
    · have := hf gd
      have := (st.gd gd).2.2.1.2
      omega
    · exact bad8 σ v3 0 v5 wv6 b h w A m i _ gd hh st fr
  | succ f IH =>
    intro b h A m i σ v3 v5 si n wv6 hh hh2 hl hf hm hm1 hfk ho hv3 hp fr st
    by_cases ngd : ¬ GD σ
    · exact bad8 σ v3 0 v5 wv6 b h w A m i _ ngd hh st fr
    have gd : GD σ := Classical.byContradiction ngd
    have hp := hp gd
    have ho := ho gd
    have hl := hl gd
    have hf := hf gd
    have hcap := st.cap.1
    have n1 := st.ci.2.1.2.1
    have st := (st.strong gd).mono (hh2 gd)
    have tl0 := st.tl.1
    refine b3048_8 _ _ _ _ _ _ _ _ _ _ (br_y gd (st.sign (by omega) (fun z3 => br_y rfl ?_) (fun z3 _ => ?_)))
    rotate_left
    · refine St.need (s := 3) (f := fun _ k => F (si, n, false) k) ((st.mono (show H ≤ H + 8 by omega)).rw fun _ => by rw [s_parL, z3 gd, cond_true, s_b_r, s_nd, z3 gd, cond_true, s_b_r]) (by omega) (fun u2 st2 hf2 _ => ?_)
      exact hret u2 (si, n, false) _ A _ st2 (by omega) (fr.trans (hf2.mono tl0)) (fun _ => by omega) (fun gd2 => (hp.mono hfk hf2 gd2).fin st2.cap.1)
    -- behind an element or a rest: the link, and what shuts
    have w185 : ∀ (u : mmS) (v3' v4 v5 v6 : Int32) (vv : Bool × Nat × Bool) (j h' m' : Nat) (B : cA) (b' : Bool), H + 2 ≤ h' → 24 ≤ m' → m1 ≤ m' → (GD u → i + 1 ≤ j) → fk < fN u 336 → (v4 = 0 → own θ v6 u) → Fr θ σ0 u → (GD u → if v4 = 0 then pInv fk vv.2.1 vv.1 v6 u else parF fk vv u) → (v4 = 0 → vv.2.2 = false) →
        St T Sh N g w0 m0 e0 θ l0 Z b' h' w B m' e (if v4 = 0 then s_b (bif t_sg T j 3 then s_parL T (s_lv T ν) (w_x w).1 f vv.1 vv.2.1 j else s_b (s_nd T 9 j) (fun _ q => s_parL T (s_lv T ν) (w_x w).1 f vv.1 vv.2.1 q)) F else s_b (s_nd T 3 j) (fun _ q => F vv q)) u j →
        mm_W mt3048 (MC d) Q (185, [some (.inr (.inr (3, a))), some (.inl (nI fk)), some (.inl 3), some (.inl v3'), some (.inl v4), some (.inl v5), some (.inl v6)], []) u := by
      intro u v3' v4 v5 v6 vv j h' m' B b' hh' hm' hm1' hj hfu hv6 fru hpu hvv st
      have hou : GD u → θ.2.1 ≤ fk := fun _ => ho
      refine b3048_185 _ _ _ _ _ _ _ _ _ _ (st.sign (by omega) (fun z3' => ?_) (fun z3' _ => ?_))
      · by_cases c4 : v4 = 0
        · rw [if_pos c4] at st
          have st := st.rw (r' := s_b (s_nd T 9 j) (fun _ q => s_b (s_parL T (s_lv T ν) (w_x w).1 f vv.1 vv.2.1 q) F)) (fun gdu => by rw [z3' gdu, cond_false, s_b_b])
          refine st.need (by omega) (fun u2 st2 hf2 _ => br_y c4 ?_)
          obtain ⟨h2, hh2, hh3, st2⟩ := st2.lift2 (H + 8) (by omega)
          subst c4
          refine IH true h2 B _ (j + 1) u2 v6 v5 vv.1 vv.2.1 _ (by omega) hh3 (fun gd2 => by have := hj (hf2.1 gd2); omega) (fun gd2 => by have := hj (hf2.1 gd2); omega) (by omega) (by omega) (Nat.lt_of_lt_of_le hfu hf2.2.2.2.2.1.2.2.2) (fun _ => ho) (fun _ => (hv6 rfl).mono hf2) (fun gd2 => ?_) (fru.trans (hf2.mono st.tl.1)) st2
          have := hpu (hf2.1 gd2)
          rw [if_pos rfl] at this
          exact this.mono hfu hf2 gd2
        · rw [if_neg c4] at st
          have st9 := (st.rw (r' := s_b (s_nd T 9 j) (fun _ _ => (none : sR β))) (fun gdu => by rw [s_nd, z3' gdu]; unfold s_nd; cases t_sg T j 9 <;> rfl))
          refine st9.need (by omega) (fun u2 st2 hf2 _ => br_n c4 ?_)
          refine st2.fail (by omega) (fun _ => rfl) (fun u3 ng st3 hf3 => ⟨rfl, ?_⟩)
          exact bad8 u3 v6 v4 v5 _ true h' w B _ _ _ ng (by omega) st3 ((fru.trans (hf2.mono st.tl.1)).trans (hf3.mono st2.tl.1))
      · have fin : ∀ (st' : St T Sh N g w0 m0 e0 θ l0 Z b' H w B m' e (s_b (s_nd T 3 j) (fun _ q => F vv q)) u j), (GD u → parF fk vv u) → mm_V (MC d) Q 3036 [.inr (.inr (3, a)), .inl 3] u (fun σ6 => Q (.inl none) σ6) := fun st' hpf => by
          refine st'.need (by omega) (fun u2 st2 hf2 _ => ?_)
          exact hret u2 vv _ B _ st2 (by omega) (fru.trans (hf2.mono st.tl.1)) (fun gd2 => by have := hj (hf2.1 gd2); omega) (fun gd2 => (hpf (hf2.1 gd2)).mono hfu hf2 gd2)
        by_cases c4 : v4 = 0
        · rw [if_pos c4] at st
          have st := (st.mono (show H ≤ h' by omega)).rw (r' := s_b (s_nd T 3 j) (fun _ q => F vv q)) (fun gdu => by
            have := hj gdu
            have := (st.gd gdu).2.2.1.2
            obtain ⟨f', rfl⟩ : ∃ f', f = f' + 1 := ⟨f - 1, by omega⟩
            rw [z3' gdu, cond_true, s_parL, z3' gdu, cond_true, s_b_r, s_nd, z3' gdu, cond_true, s_b_r, ← hvv c4])
          refine fin st (fun gdu => ?_)
          have := hpu gdu
          rw [if_pos c4] at this
          have := this.fin st.cap.1
          rw [← hvv c4] at this
          exact this
        · rw [if_neg c4] at st
          refine fin (st.mono (by omega)) (fun gdu => ?_)
          have := hpu gdu
          rw [if_neg c4] at this
          exact this
    have w162 : ∀ (u : mmS) (v4 v5 v6 : Int32) (vv : Bool × Nat × Bool) (kx j h' m' : Nat) (B : cA) (b' : Bool) (si' : Bool), H + 2 ≤ h' → 24 ≤ m' → m1 ≤ m' → (GD u → i + 1 ≤ j) → fk < fN u 336 → v6 = nI kx → (GD u → 1 ≤ kx) → kx < fN u 315 → (GD u → θ.1 ≤ kx) → Fr θ σ u → (GD u → fN σ 315 ≤ kx ∧ mm_a u 322 kx = 0 ∧ mm_a u 316 kx = (if decide (v4 = 0) = true then 52 else 53) ∧ pInv fk n si' v3 u ∧ mm_a u 342 fk = mm_a σ 342 fk) → vv = (si', n + 1, !decide (v4 = 0)) →
        St T Sh N g w0 m0 e0 θ l0 Z b' h' w B m' e (if v4 = 0 then s_b (bif t_sg T j 3 then s_parL T (s_lv T ν) (w_x w).1 f vv.1 vv.2.1 j else s_b (s_nd T 9 j) (fun _ q => s_parL T (s_lv T ν) (w_x w).1 f vv.1 vv.2.1 q)) F else s_b (s_nd T 3 j) (fun _ q => F vv q)) u j →
        mm_W mt3048 (MC d) Q (162, [some (.inr (.inr (3, a))), some (.inl (nI fk)), some (.inl 3), some (.inl v3), some (.inl v4), some (.inl v5), some (.inl v6)], []) u := by
      intro u v4 v5 v6 vv kx j h' m' B b' si' hh' hm' hm1' hj hfu e6 k1 k2 hok fru hpu hvv st
      subst e6
      have hbu := st.cap.1
      have own6 : own θ (nI kx) u := ⟨kx, rfl, k2, hok⟩
      have add : GD u → _ := fun gdu => (hpu gdu).2.2.2.1.add (c := decide (v4 = 0)) hbu ⟨k1 gdu, k2⟩ (hpu gdu).2.1 (fun t ht ht2 => by
        have k0 := (hpu gdu).1
        rcases ht with ht | ht
        · by_cases c3 : v3 = 0
          · rw [c3] at ht
            have : t = 0 := nI_inj ht2 (by omega) (ht.symm.trans nI_0.symm)
            omega
          · have := own_lt (hv3 c3) hcap ht ht2
            omega
        · rw [(hpu gdu).2.2.2.2] at ht
          rcases hp.2 with ⟨q1, q2, q3⟩ | ⟨q1, k, t', q2, q3, q4, q5⟩
          · rw [q3] at ht
            have : t = 0 := nI_inj ht2 (by omega) (ht.symm.trans nI_0.symm)
            omega
          · have : t = k := nI_inj ht2 (by omega) (ht.symm.trans q2)
            omega) (hpu gdu).2.2.1
      have hvv2 : v4 = 0 → vv.2.2 = false := fun c => by rw [hvv, decide_eq_true c]; rfl
      refine b3048_162 _ _ _ _ _ _ _ _ _ _ (br_p (fun c3 => ?_) (fun c3 => ?_))
      · refine wr_fn st.ci (by decide) hfu ?_
        have f2 : Fr θ u (mm_seta u 342 fk (nI kx)) := Fr.fun_ (Or.inr rfl) (fun _ => ho)
        refine w185 _ _ _ _ _ vv j h' m' B b' hh' hm' hm1' hj hfu (fun _ => own6.mono f2) ((fr.trans fru).trans f2) (fun gdu => ?_) hvv2 (st.fun_ (Or.inr ⟨rfl, ⟨kx, rfl, k2⟩⟩) (fun _ => ho))
        have ad := (add gdu).1 c3
        by_cases c4 : v4 = 0
        · rw [if_pos c4, hvv]
          exact ad.1 (decide_eq_true c4)
        · rw [if_neg c4, hvv, decide_eq_false c4]
          exact ad.2 (decide_eq_false c4)
      · obtain ⟨t, t1, t2, t3⟩ := (hv3 c3).mono fru
        refine st.setn (by decide) (Or.inl (by decide)) t1 t2 t3 (Or.inl ⟨by decide, by decide⟩) (fun st2 => ?_)
        have f2 : Fr θ u (mm_seta u 322 t (nI kx)) := Fr.seta (by decide) t3
        refine w185 _ _ _ _ _ vv j h' m' B b' hh' hm' hm1' hj hfu (fun _ => own6.mono f2) ((fr.trans fru).trans f2) (fun gdu => ?_) hvv2 st2
        have ad := (add gdu).2 c3 t t1 (by omega)
        by_cases c4 : v4 = 0
        · rw [if_pos c4, hvv]
          exact ad.1 (decide_eq_true c4)
        · rw [if_neg c4, hvv, decide_eq_false c4]
          exact ad.2 (decide_eq_false c4)
    have hfk2 : ∀ {u}, Fr θ σ u → fk < fN u 336 := fun f => Nat.lt_of_lt_of_le hfk f.2.2.2.2.1.2.2.2
    refine b3048_33 _ _ _ _ _ _ _ _ _ _ (st.eat (by omega) (fun z7 => ?_) (fun u1 z7 st1 hf1 => ?_))
    · have st := st.rw (r' := s_b ((s_lv T ν).2.2.2.2.2.1 (w_x w).1 3 i) (fun b k => s_b (bif t_sg T k 3 then s_parL T (s_lv T ν) (w_x w).1 f (si && b.1 && !b.2.1) (n + 1) k else s_b (s_nd T 9 k) (fun _ q => s_parL T (s_lv T ν) (w_x w).1 f (si && b.1 && !b.2.1) (n + 1) q)) F)) (fun _ => by rw [s_parL, z3 gd, cond_false, z7 gd, cond_false, s_b_b])
      refine St.call (h := H + 6) (hE a w 5 0 3 hw rfl) (false, false, []) (st.mono (by omega)) (fun _ => rfl) (by omega) (by rw [hw]; omega) hm hw0 (fun v j B q x u st2 hf2 hj hs hn => ?_)
      have fu : Fr θ σ u := hf2.mono tl0
      obtain ⟨kx, x1, x2, x3⟩ : ∃ kx, x = nI kx ∧ kx < fN u 315 ∧ nid (mm_a u 317 kx) u := by
        by_cases gdu : GD u
        · obtain ⟨k, j, k1, k2, k3, k4, k5, k6, k7, k8, -⟩ := hs gdu
          exact ⟨k, k1, k4, j, k6, k8⟩
        · exact hn gdu
      subst x1
      have shx : GD u → 1 ≤ kx ∧ fN σ 315 ≤ kx ∧ mm_a u 316 kx = 52 ∧ mm_a u 322 kx = 0 ∧ (mm_a u 318 kx = 0 ↔ v.2.1 = false) ∧ ∃ jx, mm_a u 317 kx = nI jx ∧ jx < fN u 315 ∧ (mm_a u 316 jx = 4 ↔ v.1 = true) := fun gdu => by
        obtain ⟨k, jx, k1, k2, k3, k4, k5, k6, k7, k8, k9, k10, k11, -⟩ := hs gdu
        have : kx = k := nI_inj (by have := st2.cap.1; omega) (by have := st2.cap.1; omega) k1
        subst this
        exact ⟨by omega, k3, k5, k11, k10, jx, k6, k8, k9⟩
      have hb2 := st2.cap.1
      have two : H + 2 ≤ H + 6 := by omega
      -- what is as it was behind the element
      have go : ∀ (u3 : mmS) (v5'' : Int32), mm_a u3 316 = mm_a u 316 → mm_a u3 322 = mm_a u 322 → fN u3 315 = fN u 315 → (GD u3 → mm_a u3 342 fk = mm_a σ 342 fk) → Fr θ u u3 → (GD u3 → pInv fk n (si && v.1 && !v.2.1) v3 u3) → St T Sh N g w0 m0 e0 θ l0 Z true (H + 6) w B (m + q) e (s_b (bif t_sg T j 3 then s_parL T (s_lv T ν) (w_x w).1 f (si && v.1 && !v.2.1) (n + 1) j else s_b (s_nd T 9 j) (fun _ q => s_parL T (s_lv T ν) (w_x w).1 f (si && v.1 && !v.2.1) (n + 1) q)) F) u3 j →
          mm_W mt3048 (MC d) Q (162, [some (.inr (.inr (3, a))), some (.inl (nI fk)), some (.inl 3), some (.inl v3), some (.inl 0), some (.inl v5''), some (.inl (nI kx))], []) u3 := by
        intro u3 v5'' e6 e2 ef h42 f3 hp3 st3
        have f03 : Fr θ σ u3 := fu.trans f3
        refine w162 u3 0 v5'' (nI kx) (si && v.1 && !v.2.1, n + 1, false) kx j (H + 6) (m + q) B true (si && v.1 && !v.2.1) two (by omega) (by omega) (fun gd3 => hj (f3.1 gd3)) (hfk2 f03) rfl (fun gd3 => (shx (f3.1 gd3)).1) (by omega) (fun gd3 => Nat.le_trans (tl0 gd).1 (shx (f3.1 gd3)).2.1) f03 (fun gd3 => ?_) rfl st3
        have sx := shx (f3.1 gd3)
        exact ⟨sx.2.1, by rw [e2]; exact sx.2.2.2.1, by rw [e6]; exact sx.2.2.1, hp3 gd3, h42 gd3⟩
      have w147 : ∀ (u2 : mmS) (v5' : Int32), mm_a u2 316 = mm_a u 316 → mm_a u2 322 = mm_a u 322 → fN u2 315 = fN u 315 → (GD u2 → mm_a u2 342 fk = mm_a σ 342 fk) → Fr θ u u2 → (GD u2 → pInv fk n (si && v.1 && !v.2.1) v3 u2) → St T Sh N g w0 m0 e0 θ l0 Z true (H + 6) w B (m + q) e (s_b (bif t_sg T j 3 then s_parL T (s_lv T ν) (w_x w).1 f (si && v.1 && !v.2.1) (n + 1) j else s_b (s_nd T 9 j) (fun _ q => s_parL T (s_lv T ν) (w_x w).1 f (si && v.1 && !v.2.1) (n + 1) q)) F) u2 j →
          mm_W mt3048 (MC d) Q (147, [some (.inr (.inr (3, a))), some (.inl (nI fk)), some (.inl 3), some (.inl v3), some (.inl 0), some (.inl v5'), some (.inl (nI kx))], []) u2 := by
        intro u2 v5' e6 e2 ef h42 f2 hp2 st2'
        have hf2k := hfk2 (fu.trans f2)
        refine b3048_147 _ _ _ _ _ _ _ _ _ _ (br_p (fun _ => go u2 v5' e6 e2 ef h42 f2 hp2 st2') (fun _ => ?_))
        obtain ⟨⟨c1, c2, c3, c4, c5⟩, c6, c7⟩ := st2'.ci.2.2.2.2.1
        have fr5 : frS 345 := Or.inr (Or.inr (Or.inr (Or.inr rfl)))
        refine rd (c5 345 (by decide) (by decide)) (by omega) (by omega) (st2'.free fr5 hf2k (fun st3 f3 => ?_))
        exact go _ v5' ((a_seta_n (by decide)).trans e6) ((a_seta_n (by decide)).trans e2) ef (fun gd3 => by rw [a_seta_n (by decide)]; exact h42 gd3) (f2.trans (Fr.free fr5)) (fun gd3 => (hp2 gd3).len fr5) st3
      have w122 : ∀ (u2 : mmS), mm_a u2 316 = mm_a u 316 → mm_a u2 322 = mm_a u 322 → fN u2 315 = fN u 315 → (GD u2 → mm_a u2 342 fk = mm_a σ 342 fk) → Fr θ u u2 → (GD u2 → pInv fk n (si && v.1 && !v.2.1) v3 u2) → St T Sh N g w0 m0 e0 θ l0 Z true (H + 6) w B (m + q) e (s_b (bif t_sg T j 3 then s_parL T (s_lv T ν) (w_x w).1 f (si && v.1 && !v.2.1) (n + 1) j else s_b (s_nd T 9 j) (fun _ q => s_parL T (s_lv T ν) (w_x w).1 f (si && v.1 && !v.2.1) (n + 1) q)) F) u2 j →
          mm_W mt3048 (MC d) Q (122, [some (.inr (.inr (3, a))), some (.inl (nI fk)), some (.inl 3), some (.inl v3), some (.inl 0), some (.inl v5), some (.inl (nI kx))], []) u2 := by
        intro u2 e6 e2 ef h42 f2 hp2 st2'
        have hf2k := hfk2 (fu.trans f2)
        refine b3048_122 _ _ _ _ _ _ _ _ _ _ (st2'.rdn (by decide) rfl (by omega) (br_p (fun _ => w147 u2 v5 e6 e2 ef h42 f2 hp2 st2') (fun _ => ?_)))
        refine St.flg (F := fun x => x ||| 256) st2' hf2k (fun _ => ho) (fun st3 f3 => ?_)
        exact w147 _ 0 ((a_seta_n (by decide)).trans e6) ((a_seta_n (by decide)).trans e2) ef (fun gd3 => by rw [a_seta_n (by decide)]; exact h42 gd3) (f2.trans f3) (fun gd3 => (hp2 gd3).flag1) st3
      have h42u : GD u → mm_a u 342 fk = mm_a σ 342 fk := fun gdu => ((hf2.2.2.2.2.2.2.2 gdu).2.2.1 fk hfk).2
      have hpu : GD u → pInv fk n si v3 u := fun gdu => hp.mono hfk hf2 gdu
      have flag : (GD u → (si && v.1 && !v.2.1) = false) → mm_L u 338 (nI fk) (fun x => mm_S u 338 (nI fk) (x &&& (-5)) (fun σ9 => mm_W mt3048 (MC d) Q (122, [some (.inr (.inr (3, a))), some (.inl (nI fk)), some (.inl 3), some (.inl v3), some (.inl 0), some (.inl v5), some (.inl (nI kx))], []) σ9)) := fun hs' => by
        refine St.flg (F := fun x => x &&& (-5)) st2 (hfk2 fu) (fun _ => ho) (fun st3 f3 => ?_)
        refine w122 _ (a_seta_n (by decide)) (a_seta_n (by decide)) rfl (fun gd3 => by rw [a_seta_n (by decide)]; exact h42u gd3) f3 (fun gd3 => ?_) st3
        rw [hs' gd3]
        exact (hpu gd3).flag0
      refine st2.rdn (by decide) rfl x2 (br_p (fun c5 => ?_) (fun c5 => flag (fun gdu => ?_)))
      · obtain ⟨jx, j1, j2⟩ := x3
        refine st2.rdn (by decide) rfl x2 (st2.rdn (by decide) j1 j2 (br_p (fun c4 => ?_) (fun c4 => flag (fun gdu => ?_))))
        · refine w122 u rfl rfl rfl h42u Fr.rfl' (fun gdu => ?_) st2
          obtain ⟨s1, s2, s3, s4, s5, jx', s6, s7, s8⟩ := shx gdu
          have : jx = jx' := nI_inj (by omega) (by omega) (j1.symm.trans s6)
          subst this
          rw [s8.mp c4, s5.mp c5]
          have e : (si && true && !false) = si := by cases si <;> rfl
          rw [e]
          exact hpu gdu
        · obtain ⟨s1, s2, s3, s4, s5, jx', s6, s7, s8⟩ := shx gdu
          have : jx = jx' := nI_inj (by omega) (by omega) (j1.symm.trans s6)
          subst this
          have : v.1 = false := by
            cases h : v.1 with
            | false => rfl
            | true => exact absurd (s8.mpr h) c4
          rw [this, Bool.and_false]; rfl
      · obtain ⟨s1, s2, s3, s4, s5, -⟩ := shx gdu
        have : v.2.1 = true := by
          cases h : v.2.1 with
          | true => rfl
          | false => exact absurd (s5.mpr h) c5
        rw [this]
        cases si && v.1 <;> rfl
    · have st1 := st1.rw (r' := s_b ((s_lv T ν).2.2.2.2.1 (w_x w).1 3 (i + 1)) (fun _ k => s_b (s_nd T 3 k) (fun _ q => F (false, n + 1, true) q))) (fun gd1 => by
        rw [s_parL, z3 gd, cond_false, z7 (hf1.1 gd1), cond_true, s_b_b]
        congr 1
        funext v k
        rw [s_b_b]
        congr 1
        funext v2 k2
        rw [s_b_r])
      refine St.call (h := H + 8) (hR a w 5 3 hw rfl) (false, []) st1 (fun _ => rfl) (by omega) (by rw [hw]; omega) (by omega) hw0 (fun v j B q x u2 st2 hf2 hj hs hn => ?_)
      refine st2.node (h := H + 7) (by omega) (by omega) (fun n3 u3 st3 hf3 nw => ?_)
      have fσ3 : Fr θ σ u3 := ((hf1.mono tl0).trans (hf2.mono st1.tl.1)).trans (hf3.mono st2.tl.1)
      obtain ⟨y1, y2, y3, y4, y5, y6, y7, y8, y9, -⟩ := id nw
      refine St.flg (F := fun x => x &&& (-5)) st3 (hfk2 fσ3) (fun _ => ho) (fun st4 f4 => ?_)
      refine w162 _ 1 0 n3 (false, n + 1, true) (fN u2 315) j (H + 7) _ B true false (by omega) (by omega) (by omega) (fun gd4 => by have := hj (hf3.1 gd4); omega) (Nat.lt_of_lt_of_le hfk fσ3.2.2.2.2.1.2.2.2) y1 (fun _ => st2.ci.2.1.2.1) (by show fN u2 315 < fN u3 315; omega) (fun gd4 => Nat.le_trans (tl0 gd).1 (Nat.le_trans hf1.nn hf2.nn)) (fσ3.trans f4) (fun gd4 => ?_) rfl st4
      have gd3 : GD u3 := gd4
      refine ⟨Nat.le_trans hf1.nn hf2.nn, by rw [a_seta_n (by decide)]; exact y8, by rw [a_seta_n (by decide)]; exact y3, ((((hp.mono hfk hf1 (hf2.1 (hf3.1 gd3))).mono ?_ hf2 (hf3.1 gd3)).mono ?_ hf3 gd3).flag0), ?_⟩
      · exact Nat.lt_of_lt_of_le hfk hf1.2.2.2.2.1.2.2.2
      · exact Nat.lt_of_lt_of_le hfk ((hf1.mono tl0).trans (hf2.mono st1.tl.1)).2.2.2.2.1.2.2.2
      · rw [a_seta_n (by decide)]
        have q3 := ((hf3.2.2.2.2.2.2.2 gd3).2.2.1 fk (Nat.lt_of_lt_of_le hfk ((hf1.mono tl0).trans (hf2.mono st1.tl.1)).2.2.2.2.1.2.2.2)).2
        have q2 := ((hf2.2.2.2.2.2.2.2 (hf3.1 gd3)).2.2.1 fk (Nat.lt_of_lt_of_le hfk hf1.2.2.2.2.1.2.2.2)).2
        have q1 := ((hf1.2.2.2.2.2.2.2 (hf2.1 (hf3.1 gd3))).2.2.1 fk hfk).2
        exact q3.trans (q2.trans q1)
end PARL
