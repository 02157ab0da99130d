/-! PHASE 3. binding(): the loop of an object pattern -/
section BINDO
variable {β : Type} {T : sT} {Sh : β → Nat → Int32 → mmS → Prop} {N : Int32 → mmS → Prop} {g : Nat} {w0 : cW} {m0 e0 : Nat} {θ : cTh} {l0 : Nat} {Z : Int32 → mmS → Prop} {b : Bool} {h : Nat} {w : cW} {A : cA} {m e : Nat} {r r' : sR β} {σ σ0 : mmS} {i : Nat}
variable {ν a d : Nat} {Q : mmQ}
/-- key(), where it is a word, a number or a text: it does not fail, and a name may be declared for it -/
theorem St.keyW {f : Unit → Nat → sR β} {C : Int32 → mmS → Prop} (st : St T Sh N g w0 m0 e0 θ l0 Z false (h + 4) w A m e (s_b (s_key T (s_lv T ν) (w_x w).1 i) f) σ i) (tk : t_key T i = true) (ih : cAsg T ν) (hw : w_nu w = ν) (hd : 50 * ν + 12 ≤ d) (hq : g + h + 10 ≤ GQ (w_nu w)) (hm : 24 ≤ m) (hw0 : w_in w = w_in w0)
    (k : ∀ n u, St T Sh N g w0 m0 e0 θ l0 Z false h w A (m + 10) (e + 1) (f () (i + 1)) u (i + 1) → Fr (th σ) σ u → own (th σ) n u → C n u) : mm_I (MC d) Q 3082 [.inr (.inr (3, a))] σ C := by
  have q0 := st.good
  have st := st.mono (h' := h) (by omega)
  refine c_key (g := g + h) (m := m) (e := e) (w := w) (A := A) (i := i) ih hw hd hq hm (Or.inl q0) (fun n u rs => ?_)
  obtain ⟨hf, rs⟩ := rs
  have hr : run (w_in w) A (s_key T (s_lv T ν) (w_x w).1 i) = some ((), i + 1, A) := by
    rw [s_key, tk, cond_true, run_r]
  rcases rs with ⟨v, j, B, q, x1, x2, x3, x4⟩ | ⟨x1 | x1, x2, x3⟩
  · rw [hr] at x1
    simp only [Option.some.injEq, Prod.mk.injEq] at x1
    obtain ⟨-, rfl, rfl⟩ := x1
    obtain ⟨o1, o2⟩ := x3
    obtain ⟨o3, o4, o5⟩ := o2 tk
    have q2 : cG T w A (m + 10) (e + 1) u (i + 1) := (q0.e1 x2 o4 o5).mono (by omega) (Nat.le_refl _)
    have st1 := st.rw (r' := f () (i + 1)) (fun _ => by rw [s_key, tk, cond_true, s_b_r])
    refine k n u (st1.same (hf.mono st.tl.1) (fun gd => th_le q0 q2 hf) (fun gd => st.tl.2 gd) (fun _ => q2) (fun c => absurd q0.2.1 c.no)) hf o1
  · rw [hr] at x1
    exact nomatch x1
  · exact absurd q0.2.1 x1
theorem elN_of_short {D : Nat} {σ u v : mmS} {n n2 x y z y2 z2 : Int32} (nw : NwN σ 4 x y z 0 n u) (nw2 : NwN u 52 n y2 z2 0 n2 v) (h1 : 1 ≤ fN σ 315) (f : Fr (th u) u v) (gd : GD v) : ∃ k, n2 = nI k ∧ elN D v (fN σ 315) (k, [x]) ∧ mm_a v 322 k = 0 := by
  obtain ⟨y1, y2, y3, y4, y5, y6, y7, y8, y9, -⟩ := nw
  obtain ⟨q1, q2, q3, q4, q5, q6, q7, q8, q9, -⟩ := nw2
  have fg := (f.2.2.2.2.2.2.2 gd).2.1
  have e (s : Nat) (s1 : 316 ≤ s) (s2 : s ≤ 323) : mm_a v s (fN σ 315) = mm_a u s (fN σ 315) := fg s s1 s2 _ h1 (by show fN σ 315 < fN u 315; omega)
  refine ⟨_, q1, ⟨by show fN σ 315 ≤ fN u 315; omega, by show fN u 315 < fN v 315; omega, Or.inr ⟨Or.inl q3, fN σ 315, 1, q4.trans y1, ?_⟩⟩, q8⟩
  rw [tlR, if_pos ⟨Nat.le_refl _, by show fN σ 315 < fN u 315; omega⟩, e 316 (by decide) (by decide), e 317 (by decide) (by decide), if_pos y3, y4]
/-- behind an element of an object pattern -/
def bobG (T : sT) (E : sE) (cx : sC) (as f : Nat) (l l2 : List Int32) (q : Nat) : sR (Bool × List Int32) := bif t_sg T q 1 then s_bobL T E cx as f (l ++ l2) q else s_b (s_nd T 9 q) (fun _ m => s_bobL T E cx as f (l ++ l2) m)
theorem bindO_loop {v1 : Int32} {as : Nat} (ih : cAsg T ν) (hE : cEl T ν) (hw : w_nu w = ν) (hd : 50 * ν + 12 ≤ d) (hq : g + 16 ≤ GQ ν) (hc : cls v1 = as) (h1 : 1 ≤ fN σ0 315) (f : Nat) : ∀ (b : Bool) (h : Nat) (A : cA) (m i : Nat) (σ : mmS) (v2 v3 : Int32) (l : List Int32) (wv4 wv5 wv6 wv7 wv8 : Option mmV), (GD σ → 6 ≤ h) → (GD σ → l0 ≤ i) → (GD σ → t_e T < f + i) → 24 ≤ m → m0 + 8 ≤ m → own (th σ0) v3 σ → (¬ v2 = 0 → own (th σ0) v2 σ) → (GD σ → patG (2 * ν) (fN σ0 315) v3 v2 l σ) →
    St T (shBd (2 * ν + 2) σ0) nid g w (m0 + 8) e (th σ0) l0 (fun n u => Q (.inl (some (.inl n))) u) b h w A m e (s_bobL T (s_lv T ν) (w_x w).1 as f l i) σ i → mm_W mt3050 (MC d) Q (200, [some (.inr (.inr (3, a))), some (.inl v1), some (.inl v2), some (.inl v3), wv4, wv5, wv6, wv7, wv8], []) σ := by
  have hGQ := GQ_le ν
  induction f with
  | zero =>
    intro b h A m i σ v2 v3 l wv4 wv5 wv6 wv7 wv8 hh hl hf hm hm2 ho3 ho2 hp st
    refine b3050_200 _ _ _ _ _ _ _ _ _ _ _ _ (st.wrong (fun gd st => ?_) (fun ng => ?_))
    · have := hf gd
      have := (st.gd gd).2.2.1.2
      omega
    · exact St.need (s := 1) (f := fun _ _ => none) (st.bd (β' := Unit) ng Fr.rfl' (fun z => z) (h' := h) (w' := w) (A' := A) (m' := m) (e' := e) (i' := i)) (by omega) (fun u st hf _ => st.bad (fun z => ng (hf.1 z)) (ho3.nid.mono hf))
  | succ f IH =>
    intro b h A m i σ v2 v3 l wv4 wv5 wv6 wv7 wv8 hh hl hf hm hm2 ho3 ho2 hp st
    have hcap := st.cap.1
    have hn1 := st.ci.2.1.2.1
    have nx : ∀ (u : mmS) (x : Int32) (l2 : List Int32) (ly : Nat) (B : cA) (m' j h' : Nat) (wv5 wv6 wv7 wv8 : Option mmV), St T (shBd (2 * ν + 2) σ0) nid g w (m0 + 8) e (th σ0) l0 (fun n u => Q (.inl (some (.inl n))) u) true h' w B m' e (bobG T (s_lv T ν) (w_x w).1 as f l l2 j) u j → 24 ≤ m' → m0 + 8 ≤ m' → own (th σ0) x u → Fr (th σ0) σ u → fN σ 315 ≤ ly → (GD u → patG (2 * ν) (fN σ0 315) v3 v2 l u) → (GD u → ∃ k, x = nI k ∧ elN (2 * ν) u ly (k, l2) ∧ mm_a u 322 k = 0) → (GD u → i + 1 ≤ j) →
        mm_W mt3050 (MC d) Q (428, [some (.inr (.inr (3, a))), some (.inl v1), some (.inl v2), some (.inl v3), some (.inl x), wv5, wv6, wv7, wv8], []) u := fun u x l2 ly B m' j h' wv5 wv6 wv7 wv8 st hm' hm3 hx fr hly hpu hel hj => by
      have fin : ∀ (u' : mmS), St T (shBd (2 * ν + 2) σ0) nid g w (m0 + 8) e (th σ0) l0 (fun n u => Q (.inl (some (.inl n))) u) true h' w B m' e (bobG T (s_lv T ν) (w_x w).1 as f l l2 j) u' j → Fr (th σ0) u u' → (GD u' → patG (2 * ν) (fN σ0 315) v3 x (l ++ l2) u') →
          mm_W mt3050 (MC d) Q (451, [some (.inr (.inr (3, a))), some (.inl v1), some (.inl v2), some (.inl v3), some (.inl x), wv5, wv6, wv7, wv8], []) u' := fun u' st fr' hp' => by
        refine b3050_451 _ _ _ _ _ _ _ _ _ _ _ _ (st.sign (by omega) (fun z => ?_) (fun z _ => ?_))
        · refine St.need (St.f st z) (by omega) (fun u2 st2 hf2 _ => ?_)
          obtain ⟨h2, hh2, st2⟩ := st2.lift 6 (by omega)
          refine IH true h2 B _ (j + 1) u2 x v3 (l ++ l2) _ _ _ _ _ hh2 (fun gd2 => ?_) (fun gd2 => ?_) (by omega) (by omega) (((ho3.mono fr).mono fr').mono hf2) (fun _ => (hx.mono fr').mono hf2) (fun gd2 => (hp' (hf2.1 gd2)).mono h1 hf2 gd2) st2
          · have := hl (fr.1 (fr'.1 (hf2.1 gd2))); have := hj (fr'.1 (hf2.1 gd2)); omega
          · have := hf (fr.1 (fr'.1 (hf2.1 gd2))); have := hj (fr'.1 (hf2.1 gd2)); omega
        · obtain ⟨h2, hh2, st2⟩ := (St.t st z).lift 6 (by omega)
          refine IH true h2 B _ j u' x v3 (l ++ l2) _ _ _ _ _ hh2 (fun gd2 => ?_) (fun gd2 => ?_) hm' hm3 ((ho3.mono fr).mono fr') (fun _ => hx.mono fr') hp' st2
          · have := hl (fr.1 (fr'.1 gd2)); have := hj (fr'.1 gd2); omega
          · have := hf (fr.1 (fr'.1 gd2)); have := hj (fr'.1 gd2); omega
      refine b3050_428 _ _ _ _ _ _ _ _ _ _ _ _ ?_
      refine St.link (ly := ly) (l2 := l2) (nm := l) st (ho3.mono fr) (fun z => (ho2 z).mono fr) hx (fun gd => ⟨hpu gd, ?_⟩) (fun u' st' fr' hp' => fin u' st' fr' hp') (fun u' st' fr' hp' => fin u' st' fr' hp')
      obtain ⟨k, k1, k2, k3⟩ := hel gd
      exact ⟨k, k1, k2, k3, own_ly ho3 ho2 hcap hn1 hly⟩
    refine b3050_200 _ _ _ _ _ _ _ _ _ _ _ _ (st.wrong (fun gd st => ?_) (fun ng => ?_))
    · have st := st.mono (hh gd)
      have hi := hf gd
      have tl0 := st.tl.1
      refine st.sign (by omega) (fun z1 => ?_) (fun z1 _ => ?_)
      · have st := St.f st z1
        refine st.eat (by omega) (fun z7 => ?_) (fun u1 z7 st1 hf1 => ?_)
        · have st := St.f st z7
          have st := st.rw (r' := s_b (s_key T (s_lv T ν) (w_x w).1 i) (fun _ k => s_b (bif t_sg T k 39 then s_b ((s_lv T ν).2.2.2.2.2.1 (w_x w).1 as (k + 1)) (fun b q => s_r b.2.2 q) else
              bif t_id T i && !n_bad (t_v T i) then s_b (s_w (sA_ev as (t_v T i)) () k) (fun _ q => bif t_sg T q 40 then s_b ((s_lv T ν).1 (w_x w).1 true (q + 1)) (fun _ m => s_r [t_v T i] m) else s_r [t_v T i] q) else none) (fun l2 q => bobG T (s_lv T ν) (w_x w).1 as f l l2 q))) (fun _ => rfl)
          -- an element behind a colon
          have el : ∀ (u u2 : mmS) (n : Int32) (B : cA) (m' j : Nat) (b' : Bool) (v5 v6 : Int32) (wv4 wv8 : Option mmV), Fr (th σ0) σ u → (GD u → patG (2 * ν) (fN σ0 315) v3 v2 l u) → St T (shBd (2 * ν + 2) σ0) nid g w (m0 + 8) e (th σ0) l0 (fun n u => Q (.inl (some (.inl n))) u) b' 2 w B m' e (s_b ((s_lv T ν).2.2.2.2.2.1 (w_x w).1 as j) (fun b q => bobG T (s_lv T ν) (w_x w).1 as f l b.2.2 q)) u j → 24 ≤ m' → m0 + 8 ≤ m' → (GD u → i ≤ j) →
              mm_I (MC d) Q 3052 [.inr (.inr (3, a)), .inl v1, .inl n] u (fun x15 σ14 => mm_W mt3050 (MC d) Q (428, [some (.inr (.inr (3, a))), some (.inl v1), some (.inl v2), some (.inl v3), some (.inl x15), some (.inl v5), some (.inl v6), some (.inl n), wv8], []) σ14) := fun u u2 n B m' j b' v5 v6 wv4 wv8 fr hpu st hm' hm3 hj => by
            refine St.call (h := 1) (hE a w v1 n as hw hc) (false, false, []) st (fun _ => rfl) (by omega) (by rw [hw]; omega) hm' rfl (fun v j2 B2 q n2 u2 st2 hf2 hj2 hs hn => ?_)
            refine nx u2 n2 v.2.2 (fN u 315) B2 _ j2 _ _ _ _ _ st2 (by omega) (by omega) ?_ (fr.trans (hf2.mono st.tl.1)) fr.nn (fun gd2 => (hpu (hf2.1 gd2)).mono h1 hf2 gd2) (fun gd2 => elN_of_sh (hs gd2)) (fun gd2 => by have := hj2 gd2; have := hj (hf2.1 gd2); omega)
            by_cases gd2 : GD u2
            · obtain ⟨k, k1, k2, k3⟩ := elN_of_sh (hs gd2)
              exact ⟨k, k1, k2.2.1, fun _ => Nat.le_trans (st.tl.1 (hf2.1 gd2)).1 k2.1⟩
            · obtain ⟨k, k1, k2, -⟩ := hn gd2
              exact ⟨k, k1, k2, fun z => absurd z gd2⟩
          -- the name alone
          have w407 : ∀ (u : mmS) (v5 v6 v7 v8 : Int32) (B : cA) (m' j h' : Nat) (b' : Bool) (wv4 : Option mmV), Fr (th σ0) σ u → (GD u → patG (2 * ν) (fN σ0 315) v3 v2 l u) → St T (shBd (2 * ν + 2) σ0) nid g w (m0 + 8) e (th σ0) l0 (fun n u => Q (.inl (some (.inl n))) u) b' (h' + 2) w B m' e (bobG T (s_lv T ν) (w_x w).1 as f l [v6] j) u j → 26 ≤ m' → m0 + 10 ≤ m' → (GD u → i + 1 ≤ j) →
              mm_W mt3050 (MC d) Q (407, [some (.inr (.inr (3, a))), some (.inl v1), some (.inl v2), some (.inl v3), wv4, some (.inl v5), some (.inl v6), some (.inl v7), some (.inl v8)], []) u := fun u v5 v6 v7 v8 B m' j h' b' wv4 fr hpu st hm' hm3 hj => by
            refine b3050_407 _ _ _ _ _ _ _ _ _ _ _ _ ?_
            refine st.node (h := h' + 1) (by omega) (by omega) (fun n3 u3 st3 hf3 nw => ?_)
            refine st3.node (h := h') (by omega) (by omega) (fun n4 u4 st4 hf4 nw4 => ?_)
            have hn2 : 1 ≤ fN u 315 := st.ci.2.1.2.1
            refine nx u4 n4 [v6] (fN u 315) B _ j _ _ _ _ _ st4.tt (by omega) (by omega) (own_new nw4 hf4 st3) ((fr.trans (hf3.mono st.tl.1)).trans (hf4.mono st3.tl.1)) fr.nn (fun gd4 => ((hpu (hf3.1 (hf4.1 gd4))).mono h1 hf3 (hf4.1 gd4)).mono h1 hf4 gd4) (fun gd4 => elN_of_short nw nw4 hn2 hf4 gd4) (fun gd4 => hj (hf3.1 (hf4.1 gd4)))
          have w380 : ∀ (u : mmS) (s0 v5 v6 v7 : Int32) (B : cA) (m' j h' : Nat) (b' : Bool) (wv4 wv8 : Option mmV), Fr (th σ0) σ u → (GD u → patG (2 * ν) (fN σ0 315) v3 v2 l u) → St T (shBd (2 * ν + 2) σ0) nid g w (m0 + 8) e (th σ0) l0 (fun n u => Q (.inl (some (.inl n))) u) b' (h' + 2) w B m' e (bobG T (s_lv T ν) (w_x w).1 as f l [v6] j) u j → 26 ≤ m' → m0 + 10 ≤ m' → (GD u → i + 1 ≤ j) →
              mm_W mt3050 (MC d) Q (380, [some (.inr (.inr (3, a))), some (.inl v1), some (.inl v2), some (.inl v3), wv4, some (.inl v5), some (.inl v6), some (.inl v7), wv8], [.inl s0]) u := fun u s0 v5 v6 v7 B m' j h' b' wv4 wv8 fr hpu st hm' hm3 hj => by
            refine b3050_380 _ _ _ _ _ _ _ _ _ _ _ _ _ (br_p (fun _ => w407 u v5 v6 v7 s0 B m' j h' b' wv4 fr hpu st hm' hm3 hj) (fun _ => br_p (fun _ => ?_) (fun _ => w407 u v5 v6 v7 s0 B m' j h' b' wv4 fr hpu st hm' hm3 hj)))
            refine st.flag (by decide) (fun u2 st2 hf2 e2 => w407 u2 v5 v6 v7 s0 B m' j h' b' wv4 (fr.trans (hf2.mono st.tl.1)) (fun gd2 => (hpu (hf2.1 gd2)).mono h1 hf2 gd2) st2 hm' hm3 (fun gd2 => hj (hf2.1 gd2)))
          have w311 : ∀ (u : mmS) (v5 v6 : Int32) (wv4 wv7 wv8 : Option mmV), Fr (th σ0) σ u → (GD u → patG (2 * ν) (fN σ0 315) v3 v2 l u) → St T (shBd (2 * ν + 2) σ0) nid g w (m0 + 8) e (th σ0) l0 (fun n u => Q (.inl (some (.inl n))) u) false 6 w A m e (s_b (s_key T (s_lv T ν) (w_x w).1 i) (fun _ k => s_b (bif t_sg T k 39 then s_b ((s_lv T ν).2.2.2.2.2.1 (w_x w).1 as (k + 1)) (fun b q => s_r b.2.2 q) else
              bif t_id T i && !n_bad (t_v T i) then s_b (s_w (sA_ev as (t_v T i)) () k) (fun _ q => bif t_sg T q 40 then s_b ((s_lv T ν).1 (w_x w).1 true (q + 1)) (fun _ m => s_r [t_v T i] m) else s_r [t_v T i] q) else none) (fun l2 q => bobG T (s_lv T ν) (w_x w).1 as f l l2 q))) u i → (v5 = 0 ↔ ¬ T.1 i = 1) → v6 = t_v T i →
              mm_W mt3050 (MC d) Q (311, [some (.inr (.inr (3, a))), some (.inl v1), some (.inl v2), some (.inl v3), wv4, some (.inl v5), some (.inl v6), wv7, wv8], []) u := fun u v5 v6 wv4 wv7 wv8 fr hpu st h5 h6 => by
            refine b3050_311 _ _ _ _ _ _ _ _ _ _ _ _ ?_
            cases tk : t_key T i with
            | true =>
              refine st.keyW (h := 2) tk ih hw (by omega) (by rw [hw]; omega) hm rfl (fun n u1 st1 hf1 ho1 => ?_)
              have fr1 := fr.trans (hf1.mono st.tl.1)
              have hp1 : GD u1 → patG (2 * ν) (fN σ0 315) v3 v2 l u1 := fun gd1 => (hpu (hf1.1 gd1)).mono h1 hf1 gd1
              refine st1.eat (by omega) (fun z39 => ?_) (fun u2 z39 st2 hf2 => ?_)
              · have z39 := z39 st1.good.2.1
                refine br_p (fun c5 => ?_) (fun c5 => br_p (fun c45 => ?_) (fun c45 => ?_))
                · refine st1.fail (by omega) (fun _ => ?_) (fun u4 ng st4 hf4 => st4.bad ng (nid_0 st4.ci))
                  have : t_id T i = false := by rw [t_id, beq_eq_false_iff_ne.mpr (h5.1 c5)]; rfl
                  rw [z39, this]; rfl
                · have hid : t_id T i = true := by
                    have k1 : T.1 i = 1 := Decidable.byContradiction fun q => c5 (h5.2 q)
                    rw [t_id, k1, ← show v6 = T.2.1 i from h6, decide_eq_true c45]; rfl
                  have st1 := st1.rwR (r' := s_b (s_w (sA_ev as v6) () (i + 1)) (fun _ q => s_b (bif t_sg T q 40 then s_b ((s_lv T ν).1 (w_x w).1 true (q + 1)) (fun _ m => s_r [v6] m) else s_r [v6] q) (fun l2 q => bobG T (s_lv T ν) (w_x w).1 as f l l2 q))) (fun _ => by
                    rw [z39, hid, cond_false, h6]
                    cases hb : n_bad (t_v T i) with
                    | true => rw [run_b, run_b, run_ev, ← hc, h_ev_cls, h_dec_bad hb]; rfl
                    | false => rw [show (true && !false) = true from rfl, cond_true, s_b_b])
                  refine St.declare rfl st1 (by omega) hc (fun u3 B3 st3 hf3 _ => ?_)
                  have fr3 := fr1.trans (hf3.mono st1.tl.1)
                  have hp3 : GD u3 → patG (2 * ν) (fN σ0 315) v3 v2 l u3 := fun gd3 => (hp1 (hf3.1 gd3)).mono h1 hf3 gd3
                  refine st3.eat (by omega) (fun z40 => ?_) (fun u4 z40 st4 hf4 => ?_)
                  · have st3 := st3.rw (r' := bobG T (s_lv T ν) (w_x w).1 as f l [v6] (i + 1)) (fun gd3 => by rw [z40 gd3, cond_false, s_b_r])
                    exact w380 u3 0 v5 v6 n B3 _ (i + 1) 0 _ _ _ fr3 hp3 st3 (by omega) (by omega) (fun _ => Nat.le_refl _)
                  · have st4 := st4.rw (r' := s_b ((s_lv T ν).1 (w_x w).1 true (i + 1 + 1)) (fun _ m => bobG T (s_lv T ν) (w_x w).1 as f l [v6] m)) (fun gd4 => by
                      rw [z40 (hf4.1 gd4), cond_true, s_b_b]
                      congr 1
                      funext v k
                      rw [s_b_r])
                    refine St.call (ih a w true hw) (n_k 0) st4 (fun _ => rfl) (by omega) (by rw [hw]; omega) (by omega) rfl (fun v j B q n5 u5 st5 hf5 hj hs hn => ?_)
                    exact w380 u5 n5 v5 v6 n B _ j 0 _ _ _ ((fr3.trans (hf4.mono st3.tl.1)).trans (hf5.mono st4.tl.1)) (fun gd5 => ((hp3 (hf4.1 (hf5.1 gd5))).mono h1 hf4 (hf5.1 gd5)).mono h1 hf5 gd5) st5 (by omega) (by omega) (fun gd5 => by have := hj gd5; omega)
                · refine st1.fail (by omega) (fun _ => ?_) (fun u4 ng st4 hf4 => st4.bad ng (nid_0 st4.ci))
                  have : t_id T i = false := by rw [t_id, ← show v6 = T.2.1 i from h6, decide_eq_false c45, Bool.and_false]
                  rw [z39, this]; rfl
              · have st2 := st2.rw (r' := s_b ((s_lv T ν).2.2.2.2.2.1 (w_x w).1 as (i + 1 + 1)) (fun b q => bobG T (s_lv T ν) (w_x w).1 as f l b.2.2 q)) (fun gd2 => by
                  rw [z39 (hf2.1 gd2), cond_true, s_b_b]
                  congr 1
                  funext v k
                  rw [s_b_r])
                exact el u2 u2 n A _ (i + 1 + 1) _ v5 v6 wv4 wv8 (fr1.trans (hf2.mono st1.tl.1)) (fun gd2 => (hp1 (hf2.1 gd2)).mono h1 hf2 gd2) (st2.weakM (Nat.le_refl _) (Nat.le_succ e)) (by omega) (by omega) (fun _ => by omega)
            | false =>
              have k1 : ¬ T.1 i = 1 := fun q => by
                rw [t_key, t_kd, q] at tk
                exact nomatch tk
              have c5 := h5.2 k1
              have hid : t_id T i = false := by rw [t_id, beq_eq_false_iff_ne.mpr k1]; rfl
              refine St.callP (c := 4) (h := 2) (m' := m + 10) (bb := true) (s := 1) (fun en kk => c_key (g := g + 2) (m := m) (A := A) (i := i) (w := w) ih hw (by omega) (by rw [hw]; omega) hm en kk) () st (fun _ => rfl) rfl (fun v j B q n u1 st1 hf1 hj hs hn => ?_)
              have fr1 := fr.trans (hf1.mono st.tl.1)
              have hp1 : GD u1 → patG (2 * ν) (fN σ0 315) v3 v2 l u1 := fun gd1 => (hpu (hf1.1 gd1)).mono h1 hf1 gd1
              refine st1.eat (by omega) (fun z39 => ?_) (fun u2 z39 st2 hf2 => ?_)
              · refine br_y c5 (st1.fail (by omega) (fun gd1 => ?_) (fun u4 ng st4 hf4 => st4.bad ng (nid_0 st4.ci)))
                rw [z39 gd1, hid]; rfl
              · have st2 := st2.rw (r' := s_b ((s_lv T ν).2.2.2.2.2.1 (w_x w).1 as (j + 1)) (fun b q => bobG T (s_lv T ν) (w_x w).1 as f l b.2.2 q)) (fun gd2 => by
                  rw [z39 (hf2.1 gd2), cond_true, s_b_b]
                  congr 1
                  funext v k
                  rw [s_b_r])
                exact el u2 u2 n B _ (j + 1) _ v5 v6 wv4 wv8 (fr1.trans (hf2.mono st1.tl.1)) (fun gd2 => (hp1 (hf2.1 gd2)).mono h1 hf2 gd2) st2 (by omega) (by omega) (fun gd2 => by have := hj (hf2.1 gd2); omega)
          have w270 : ∀ (s0 : Int32), (s0 = 0 ↔ ¬ T.1 i = 1) → mm_W mt3050 (MC d) Q (270, [some (.inr (.inr (3, a))), some (.inl v1), some (.inl v2), some (.inl v3), wv4, wv5, wv6, wv7, wv8], [.inl s0]) σ := fun s0 hs0 => by
            refine b3050_270 _ _ _ _ _ _ _ _ _ _ _ _ _ (st.rdv (fun x1 hx1 => st.sign (by omega) (fun z4 => ?_) (fun z4 _ => br_p (fun _ => ?_) (fun _ => ?_))))
            · exact w311 σ s0 x1 _ _ _ Fr.rfl' hp st hs0 (hx1 gd).symm
            · exact st.flag (by decide) (fun u2 st2 hf2 e2 => w311 u2 s0 x1 _ _ _ (hf2.mono tl0) (fun gd2 => (hp gd).mono h1 hf2 gd2) st2 hs0 (hx1 gd).symm)
            · exact w311 σ s0 x1 _ _ _ Fr.rfl' hp st hs0 (hx1 gd).symm
          refine st.rdk (fun x5 hx5 _ => br_p (fun c => w270 1 ⟨fun q => absurd q (by decide), fun q => absurd ((hx5 gd).trans c) q⟩) (fun c => w270 0 ⟨fun _ q => c ((hx5 gd).symm.trans q), fun _ => rfl⟩))
        · have st1 := st1.rw (r' := s_b (s_named T as (i + 1)) (fun b k => s_b (s_nd T 1 k) (fun _ q => s_r (false, l ++ b.2) q))) (fun gd1 => by rw [z7 (hf1.1 gd1)]; rfl)
          have h2n : 1 ≤ fN u1 315 := st1.ci.2.1.2.1
          have st1 := st1.mono (h' := 2 + 1) (by omega)
          refine St.callP (c := 1) (h := 2) (m' := m + 12 + 8) (bb := true) (s := 1) (fun en kk => c_named (D := 2 * ν) (g := g + 2) (m := m + 12) (A := A) (i := i + 1) (w := w) (by omega) (by rw [hw]; omega) (by omega) hc en kk) (false, []) st1 (fun _ => rfl) rfl (fun v j B q n u2 st2 hf2 hj hs hn => ?_)
          refine st2.node (h := 1) (by omega) (by omega) (fun n3 u3 st3 hf3 nw => ?_)
          have f13 : Fr (th σ0) u1 u3 := (hf2.mono st1.tl.1).trans (hf3.mono st2.tl.1)
          refine st3.sign (by omega) (fun z5' => ?_) (fun z5' _ => ?_)
          · refine st3.fail (by omega) (fun gd3 => by rw [s_nd, z5' gd3]; rfl) (fun u4 ng st4 hf4 => st4.bad ng (nid_0 st4.ci))
          · have st3 := st3.rw (r' := bobG T (s_lv T ν) (w_x w).1 as f l v.2 j) (fun gd3 => by
              have hj2 := hj (hf3.1 gd3)
              have hje := (st3.gd gd3).2.2.1.2
              obtain ⟨f', rfl⟩ : ∃ f', f = f' + 1 := ⟨f - 1, by omega⟩
              rw [bobG, s_nd, z5' gd3, cond_true, cond_true, s_b_r, s_bobL, z5' gd3, cond_true])
            refine nx u3 n3 v.2 (fN u1 315) B _ j _ _ _ _ _ st3 (by omega) (by omega) (own_new nw hf3 st2) ((hf1.mono tl0).trans f13) hf1.nn (fun gd3 => ?_) (fun gd3 => elN_of_bd (hs (hf3.1 gd3)) h2n hf3 gd3 nw) (fun gd3 => by have := hj (hf3.1 gd3); omega)
            have g2 := hf3.1 gd3
            exact ((((hp gd).mono h1 hf1 (hf2.1 g2))).mono h1 hf2 g2).mono h1 hf3 gd3
      · have st := St.t st z1
        refine St.need (s := 1) (f := fun _ k => s_r (false, l) k) (st.rw fun gd => by rw [s_nd, z1 gd, cond_true, s_b_r]) (by omega) (fun u st2 hf2 _ => ?_)
        exact st2.ret (fun _ => rfl) (fun _ => rfl) (fun gd2 => by have := hl (hf2.1 gd2); omega) 0 (fun _ => by omega) (fun _ => Nat.le_refl _) (fun gd2 => ((hp gd).mono h1 hf2 gd2).done h1 st2.cap.1) (fun _ => ho3.nid.mono hf2)
    · exact St.need (s := 1) (f := fun _ _ => none) (st.bd (β' := Unit) ng Fr.rfl' (fun z => z) (h' := h) (w' := w) (A' := A) (m' := m) (e' := e) (i' := i)) (by omega) (fun u st hf _ => st.bad (fun z => ng (hf.1 z)) (ho3.nid.mono hf))
end BINDO
