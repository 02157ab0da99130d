/-! PHASE 3. Covers; asTarget() of an object; what becomes of a literal -/
theorem cG.cov {T : sT} {w : cW} {A : cA} {m e : Nat} {σ : mmS} {i : Nat} {B : Int} {x : Int32} (h : cG T w A m e σ i) (hx : x = Int32.ofInt B) (hB : B ≤ i) : cG T w (A.1, B, A.2.2) m e (mm_setf σ 313 x) i := by
  obtain ⟨h1, h2, ⟨p1, p2⟩, ⟨n1, n2⟩, h5, ⟨s1, s2⟩, h7, ⟨v1, v2⟩, ⟨u1, u2, u3⟩, h10, ⟨k1, k2⟩, h12, hc⟩ := h
  have f (j : Nat) (hj : j ≠ 313) : mm_f (mm_setf σ 313 x) j = mm_f σ j := f_other hj
  have fe (j : Nat) (hj : j ≠ 313) := fN_eq (f j hj)
  refine ⟨h1.setf rfl, (f 303 (by decide)).trans h2, ⟨(f 311 (by decide)).trans p1, p2⟩, ⟨(f 312 (by decide)).trans n1, n2⟩, h5.of (fun k k1 k2 => f k (by omega)) rfl rfl rfl, ⟨(f 346 (by decide)).trans s1, (f 347 (by decide)).trans s2⟩, h7.of (f 324 (by decide)) (f 325 (by decide)) (f 346 (by decide)) (fun _ _ _ => ⟨rfl, rfl⟩),
    ⟨f_same.trans hx, hB⟩, ⟨(f 360 (by decide)).trans u1, u2, u3⟩, by rw [fe 336 (by decide), cntF_of (σ := σ) (u := mm_setf σ 313 x) (fun _ _ => rfl)]; exact h10, ⟨(f 359 (by decide)).trans k1, k2⟩, by rw [f 358 (by decide)]; exact h12, ?_⟩
  unfold cC at hc ⊢
  rw [fe 315 (by decide), fe 324 (by decide), fe 336 (by decide), fe 325 (by decide)]
  exact hc
theorem run_cw {A : cA} {c : Int} {j : Nat} {inn : Bool} : run inn A (s_w (sA_cv c) () j) = some ((), j, (A.1, A.2.1 + c, A.2.2)) := by
  obtain ⟨L, cv, us, f, k⟩ := A
  simp [run, s_w, sA_cv, A_st, h_run]
theorem Fr_313 {θ : cTh} {σ : mmS} {x : Int32} : Fr θ σ (mm_setf σ 313 x) := Fr.setf rfl (by decide) (by decide) (by decide) (by decide) (by decide) (by decide)
theorem St.cov {β : Type} {T : sT} {Sh : β → Nat → Int32 → mmS → Prop} {N : Int32 → mmS → Prop} {g : Nat} {w0 : cW} {m0 e0 : Nat} {θ : cTh} {l0 : Nat} {Z : Int32 → mmS → Prop} {b : Bool} {h : Nat} {w : cW} {A : cA} {m e : Nat} {σ : mmS} {i : Nat} {z : Int} {x : Int32} {f : Unit → Nat → sR β}
    (st : St T Sh N g w0 m0 e0 θ l0 Z b h w A m e (s_b (s_w (sA_cv z) () i) f) σ i) (hx : GD σ → mm_f σ 313 = Int32.ofInt A.2.1 → x = Int32.ofInt (A.2.1 + z)) (hz : GD σ → A.2.1 ≤ i → A.2.1 + z ≤ i) : St T Sh N g w0 m0 e0 θ l0 Z true h w (A.1, A.2.1 + z, A.2.2) m e (f () i) (mm_setf σ 313 x) i := by
  by_cases gd : GD σ
  · have g1 := (st.strong gd).good
    have h13 := g1.2.2.2.2.2.2.2.1
    exact ((st.strong gd).acc (v := ()) (i' := i) (B := (A.1, A.2.1 + z, A.2.2)) (h' := h) (m' := m) (e' := e) run_cw Fr_313 (by rw [th_setf (by decide) (by decide) (by decide) (by decide)]; exact tle.rfl') (Nat.le_refl _) (g1.cov (hx gd h13.1) (hz gd h13.2))).weak
  · exact St.tt (st.bd (β' := Unit) gd Fr_313 (fun c => c.setf rfl (by decide) (by decide) (by decide)))
/-- an element of an object -/
def oE (T : sT) (D : Nat) (R : Nat → Nat → Int32) : LE → Prop
  | (k, lo, hi, c, q, sp) => (R 320 k = 4 ∧ sp = true ∧ ∃ j v, R 318 k = nI j ∧ lo ≤ j ∧ j < k ∧ r_si (R 316 j) (R 317 j) = n_si v ∧ c = bif n_si v then some 0 else none) ∨
    (R 320 k = 0 ∧ sp = false ∧ ∃ j hj, R 318 k = nI j ∧ hj ≤ k ∧ plE T D R lo hj j c q) ∨
    (R 320 k = 5 ∧ sp = false ∧ ∃ j hj c', R 318 k = nI j ∧ lo ≤ j ∧ j < hj ∧ hj ≤ k ∧ cvR T D lo hj j R c' q ∧ c = n_cb (some (if R 319 k = 0 then 0 else 1)) c') ∨
    (¬ R 320 k = 4 ∧ ¬ R 320 k = 0 ∧ ¬ R 320 k = 5 ∧ sp = false ∧ c = none)
def lpO (τ0 σ : mmS) (k0 L1 : Nat) (tr : Bool) : Prop := (∀ s, 316 ≤ s → s ≤ 323 → ∀ j, L1 ≤ j → j < fN τ0 315 → mm_a σ s j = mm_a τ0 s j) ∧ mm_a σ 322 k0 = mm_a τ0 322 k0 ∧ mm_a σ 320 k0 = bI tr
section OBJ
variable {β : Type} {T : sT} {g : Nat} {w : cW} {m e i : Nat} {D a d : Nat} {Q : mmQ} {τ0 : mmS} {k0 hi0 : Nat}
theorem obj_loop (hd : D + 1 ≤ d) (hd2 : 6 ≤ d) (hH : g + D + 66 ≤ 69500) (hm : 24 ≤ m) (h0 : 1 ≤ k0) (hhi : hi0 ≤ fN τ0 315) (hc0 : fN τ0 315 ≤ 85000) : ∀ (l : List LE) (L1 : Nat) (b : Bool) (h : Nat) (A : cA) (σ : mmS) (v2 : Int32) (wv3 wv4 wv5 : Option mmV) (tr : Bool),
    (GD σ → k0 < L1 ∧ LsP (oE T D (mm_a τ0)) L1 l hi0 ∧ rwK (mm_a τ0) l v2 ∧ lpO τ0 σ k0 L1 tr ∧ fN τ0 315 ≤ fN σ 315) → k0 < fN σ 315 →
    St T (ShA k0 hi0 τ0) nid g w m e (k0, (th τ0).2) i (fun n u => Q (.inl (some (.inl n))) u) b h w A (m + cq l) e (s_aimc (cs l tr) i (fun _ j => s_r () j)) σ i →
    mm_W mt3103 (MC d) Q (243, [some (.inr (.inr (3, a))), some (.inl (nI k0)), some (.inl v2), wv3, wv4, wv5], []) σ := by
  intro l
  induction l with
  | nil =>
    intro L1 b h A σ v2 wv3 wv4 wv5 tr hf hk st
    have fin : ∀ n, n = nI k0 → Q (.inl (some (.inl n))) σ := fun n hn => by
      subst hn
      have st := st.rwR (r' := s_r () i) (fun _ => run_aim0)
      refine st.ret (fun _ => rfl) (fun _ => rfl) (fun _ => Nat.le_refl _) 0 (fun _ => Nat.le_refl _) (fun _ => Nat.le_refl _) (fun gd => ?_) (fun _ => ⟨k0, rfl, hk⟩)
      obtain ⟨f1, f2, f3, ⟨f4, f5, f6⟩, f7⟩ := hf gd
      exact ⟨rfl, fun s s1 s2 j j1 j2 => f4 s s1 s2 j (Nat.le_trans f2 j1) j2, f5⟩
    refine b3103_243 _ _ _ _ _ _ _ _ _ (br_p (fun _ => fin _ rfl) (fun z => br_p (fun gd => ?_) (fun _ => fin _ rfl)))
    exact absurd (hf gd).2.2.1 z
  | cons x t IH =>
    intro L1 b h A σ v2 wv3 wv4 wv5 tr hf hk st
    obtain ⟨k, lo, hi, c, q, sp⟩ := x
    have out : ¬ GD σ → Q (.inl (some (.inl (nI k0)))) σ := fun ng => st.bad ng ⟨k0, rfl, hk⟩
    refine b3103_243 _ _ _ _ _ _ _ _ _ (br_p (fun z => ?_) (fun z => br_p (fun gd => ?_) out))
    · by_cases gd : GD σ
      · obtain ⟨f1, ⟨f2, f3, f4, f5, f6⟩, ⟨f7, f8⟩, -⟩ := hf gd
        have := f6.le
        exact absurd (f7.symm.trans z) (nI_ne0 (by omega) (by omega))
      · exact out gd
    · obtain ⟨f1, ⟨f2, f3, f4, f5, f6⟩, ⟨f7, f8⟩, ⟨f9, f10, f11⟩, f13⟩ := hf gd
      have f6l := f6.le
      subst f7
      have hkf : k < fN σ 315 := by omega
      have U (s : Nat) (s1 : 316 ≤ s) (s2 : s ≤ 323) (j : Nat) (j1 : L1 ≤ j) (j2 : j < fN τ0 315) := f9 s s1 s2 j j1 j2
      have hcap := st.cap.1
      have r18 := U 318 (by decide) (by decide) k (by omega) (by omega)
      have r19 := U 319 (by decide) (by decide) k (by omega) (by omega)
      have r20 := U 320 (by decide) (by decide) k (by omega) (by omega)
      have r22 := U 322 (by decide) (by decide) k (by omega) (by omega)
      -- behind what is made of the element
      have nx : ∀ (σ' : mmS) (b' : Bool) (h' : Nat) (A' : cA) (wv3 wv4 wv5 : Option mmV), k < fN σ' 315 → k0 < fN σ' 315 → (GD σ' → lpO τ0 σ' k0 hi tr ∧ fN τ0 315 ≤ fN σ' 315 ∧ mm_a σ' 322 k = mm_a τ0 322 k) →
          St T (ShA k0 hi0 τ0) nid g w m e (k0, (th τ0).2) i (fun n u => Q (.inl (some (.inl n))) u) b' h' w A' (m + cq t) e (s_aimc (cs t tr) i (fun _ j => s_r () j)) σ' i →
          mm_L σ' 322 (nI k) (fun x7 => mm_W mt3103 (MC d) Q (243, [some (.inr (.inr (3, a))), some (.inl (nI k0)), some (.inl x7), wv3, wv4, wv5], []) σ') := by
        intro σ' b' h' A' wv3 wv4 wv5 hk' hk0' hg st'
        refine st'.rdn (by decide) rfl hk' (IH hi b' h' A' σ' _ _ _ _ tr (fun gd2 => ?_) hk0' st')
        obtain ⟨g1, g2, g3⟩ := hg gd2
        exact ⟨by omega, f6, by rw [g3]; exact f8, g1, g2⟩
      have w430 : ∀ (σ' : mmS) (b' : Bool) (h' : Nat) (A' : cA) (v3 v4 s0 : Int32) (wv5 : Option mmV), k < fN σ' 315 → k0 < fN σ' 315 → nid s0 σ' → (GD σ' → lpO τ0 σ' k0 hi tr ∧ fN τ0 315 ≤ fN σ' 315 ∧ mm_a σ' 322 k = mm_a τ0 322 k) →
          St T (ShA k0 hi0 τ0) nid g w m e (k0, (th τ0).2) i (fun n u => Q (.inl (some (.inl n))) u) b' h' w A' (m + cq t) e (s_aimc (cs t tr) i (fun _ j => s_r () j)) σ' i →
          mm_W mt3103 (MC d) Q (430, [some (.inr (.inr (3, a))), some (.inl (nI k0)), some (.inl (nI k)), some (.inl v3), some (.inl v4), wv5], [.inl s0]) σ' := by
        intro σ' b' h' A' v3 v4 s0 wv5 hk' hk0' hs hg st'
        obtain ⟨p, p1, p2⟩ := hs
        have own1 : k0 ≤ k := by omega
        refine b3103_430 _ _ _ _ _ _ _ _ _ _ (st'.setn (by decide) (Or.inl (by decide)) rfl hk' (fun _ => own1) (Or.inr (Or.inr ⟨rfl, by omega, by decide⟩)) (fun st1 => st1.rdn (by decide) p1 p2 ?_))
        refine st1.setn (by decide) (Or.inl (by decide)) rfl hk' (fun _ => own1) (Or.inr (Or.inl ⟨rfl, Or.inr (by rw [a_seta_s]; decide)⟩)) (fun st2 => st2.rdn (by decide) p1 p2 ?_)
        refine st2.setn (by decide) (Or.inl (by decide)) rfl hk' (fun _ => own1) (Or.inl ⟨by decide, by decide⟩) (fun st3 => ?_)
        refine st3.setn (by decide) (Or.inl (by decide)) rfl hk' (fun _ => own1) (Or.inl ⟨by decide, by decide⟩) (fun st4 => ?_)
        refine nx _ _ _ _ _ _ _ hk' hk0' (fun gd2 => ?_) st4
        obtain ⟨⟨g1, g2, g3⟩, g4, g5⟩ := hg gd2
        refine ⟨⟨fun s s1 s2 j j1 j2 => ?_, ?_, ?_⟩, g4, ?_⟩
        · rw [a_seta_i (by omega), a_seta_i (by omega), a_seta_i (by omega), a_seta_i (by omega)]
          exact g1 s s1 s2 j j1 j2
        · rw [a_seta_n (by decide), a_seta_n (by decide), a_seta_n (by decide), a_seta_n (by decide)]; exact g2
        · rw [a_seta_n (by decide), a_seta_n (by decide), a_seta_n (by decide), a_seta_n (by decide)]; exact g3
        · rw [a_seta_n (by decide), a_seta_n (by decide), a_seta_n (by decide), a_seta_n (by decide)]; exact g5
      have bad2 : (GD σ → s_aimc (cs ((k, lo, hi, c, q, sp) :: t) tr) i (fun _ j => s_r () j) = none) → mm_I (MC d) Q 3025 [.inr (.inr (3, a))] σ (fun x5 σ4 => Q (.inl (some (.inl x5))) σ4) := fun hr => st.fail (by omega) hr (fun u ng st2 hf2 => st2.bad ng (nid_0 st2.ci))
      -- a part is converted
      have w387 : ∀ (σ' : mmS) (A' : cA) (v3 v4 : Int32) (wv5 : Option mmV) (j hj : Nat) (c' : Option Int) (h' : Nat), D + 66 ≤ h' → fN σ' 315 = fN σ 315 → GD σ' → (∀ s j, mm_a σ' s j = mm_a σ s j) → mm_a τ0 318 k = nI j → hj ≤ k → lo ≤ j → j < hj → ((mm_a τ0 320 k = 5 ∧ cvR T D lo hj j (mm_a τ0) c' q) ∨ (mm_a τ0 320 k = 0 ∧ plE T D (mm_a τ0) lo hj j c' q)) →
          St T (ShA k0 hi0 τ0) nid g w m e (k0, (th τ0).2) i (fun n u => Q (.inl (some (.inl n))) u) true h' w A' (m + cq t + q + 1) e (s_aimc c' i (fun _ j => s_aimc (cs t tr) j (fun _ j => s_r () j))) σ' i →
          mm_W mt3103 (MC d) Q (387, [some (.inr (.inr (3, a))), some (.inl (nI k0)), some (.inl (nI k)), some (.inl v3), some (.inl v4), wv5], []) σ' := by
        intro σ' A' v3 v4 wv5 j hj c' h' hh eN gd' eR j0 j1 j2 j3 hc st'
        have e15 : fN σ' 315 = fN σ 315 := eN
        have rest : ∀ u, fN σ' 315 ≤ fN u 315 → (GD u → Fr (lo, (th σ').2) σ' u ∧ (∀ s, 316 ≤ s → s ≤ 323 → ∀ j', hj ≤ j' → j' < fN σ' 315 → mm_a u s j' = mm_a σ' s j')) → (GD u → lpO τ0 u k0 hi tr ∧ fN τ0 315 ≤ fN u 315 ∧ mm_a u 322 k = mm_a τ0 322 k) := fun u l hg gdu => by
          obtain ⟨x2, x3⟩ := hg gdu
          have x2g := (x2.2.2.2.2.2.2.2 gdu).2.1
          have lowr : ∀ s, 316 ≤ s → s ≤ 323 → mm_a u s k0 = mm_a σ s k0 := fun s s1 s2 => by
            rw [x2g s s1 s2 k0 h0 (by show k0 < lo; omega), eR]
          refine ⟨⟨fun s s1 s2 j' h1 h2 => ?_, (lowr 322 (by decide) (by decide)).trans f10, (lowr 320 (by decide) (by decide)).trans f11⟩, by omega, ?_⟩
          · rw [x3 s s1 s2 j' (by omega) (by omega), eR]
            exact U s s1 s2 j' (by omega) h2
          · rw [x3 322 (by decide) (by decide) k (by omega) (by omega), eR]
            exact r22
        have Rr : ∀ s, 316 ≤ s → s ≤ 323 → ∀ j', lo ≤ j' → j' < hj → ¬ (s = 322 ∧ j' = j) → mm_a σ' s j' = mm_a τ0 s j' := fun s s1 s2 j' h1 h2 _ => (eR s j').trans (U s s1 s2 j' (by omega) (by omega))
        have e18 : mm_a σ' 318 k = nI j := (eR _ _).trans (r18.trans j0)
        have e20 : mm_a σ' 320 k = mm_a τ0 320 k := (eR _ _).trans r20
        refine b3103_387 _ _ _ _ _ _ _ _ _ (st'.rdn (by decide) rfl (by omega) (br_p (fun c5 => st'.rdn (by decide) rfl (by omega) ?_) (fun c5 => st'.rdn (by decide) rfl (by omega) ?_)))
        · rw [e18]
          have cv : cvR T D lo hj j (mm_a τ0) c' q := by
            rcases hc with y | y
            · exact y.2
            · rw [e20, y.1] at c5; exact absurd c5 (by decide)
          refine St.conv (D := D) (h := 2) (m := m + cq t + 1) (q := q) (lo := lo) (hi := hj) (k := j) (c := c') (R := mm_a τ0) rfl ((st'.mono (by omega)).weakM (by omega) (Nat.le_refl _)) (by omega) (by omega) (by omega) ⟨j, rfl, by omega⟩ (fun _ => ⟨rfl, cv, by omega, by show k0 ≤ lo; omega, Rr⟩) (fun n' u B st3 fr3 hn3 hg3 => ?_)
          have l3 := fr3.nn
          refine St.node (h := 1) (m := m + cq t + 1) st3 (by omega) (by omega) (fun n5 u5 st5 hf5 nw => ?_)
          have l5 := hf5.nn
          refine w430 u5 _ _ _ _ _ _ _ (by omega) (by omega) nw.nid (rest u5 (by omega) (fun gd5 => ?_)) st5
          have gd3 := hf5.1 gd5
          obtain ⟨x1, x2, x3, x4⟩ := hg3 gd3
          have hgr := (hf5.2.2.2.2.2.2.2 gd5).2.1
          refine ⟨x2.trans (hf5.mono fun _ => ?_), fun s s1 s2 j' h1 h2 => ?_⟩
          · have t := th_le (st'.gd gd') (st3.gd gd3) x2
            exact ⟨by show lo ≤ fN u 315; omega, t.2.1, t.2.2.1, t.2.2.2⟩
          · rw [hgr s s1 s2 j' (by omega) (by show j' < fN u 315; omega)]
            exact x3 s s1 s2 j' h1 h2
        · rw [e18]
          have pl : plE T D (mm_a τ0) lo hj j c' q := by
            rcases hc with y | y
            · rw [e20, y.1] at c5; exact absurd rfl c5
            · exact y.2
          refine St.elem (D := D) (h := 1) (m := m + cq t) (q := q) (lo := lo) (hi := hj) (k := j) (c := c') (R := mm_a τ0) rfl ((st'.mono (by omega)).weakM (by omega) (Nat.le_refl _)) (by omega) (by omega) (by omega) ⟨j, rfl, by omega⟩ (fun _ => ⟨rfl, pl, by omega, ⟨by show k0 ≤ lo; omega, by omega⟩, Rr⟩) (fun n' u B st3 fr3 hn3 hg3 => ?_)
          have l3 := fr3.nn
          refine w430 u _ _ _ _ _ _ _ (by omega) (by omega) hn3 (rest u (by omega) (fun gd3 => ?_)) st3
          obtain ⟨k', x0, x1, x2, x3, x4, x5⟩ := hg3 gd3
          exact ⟨x3, x4⟩
      refine st.rdn (by decide) rfl hkf (br_p (fun c4 => ?_) (fun c4 => st.rdn (by decide) rfl hkf ?_))
      · -- spread
        rw [r20] at c4
        obtain ⟨esp, j, v, j1, j2, j3, j4, j5⟩ : sp = true ∧ ∃ j v, mm_a τ0 318 k = nI j ∧ lo ≤ j ∧ j < k ∧ r_si (mm_a τ0 316 j) (mm_a τ0 317 j) = n_si v ∧ c = bif n_si v then some 0 else none := by
          rcases f5 with y | y | y | y
          · exact y.2
          · rw [y.1] at c4; exact absurd c4 (by decide)
          · rw [y.1] at c4; exact absurd c4 (by decide)
          · exact absurd c4 y.1
        subst esp
        refine st.rdn (by decide) rfl hkf (br_p (fun c22 => st.rdn (by decide) rfl hk (br_p (fun c20 => ?_) (fun c20 => st.rdn (by decide) rfl hkf ?_))) (fun c22 => ?_))
        · refine bad2 (fun _ => ?_)
          have : tr = true := by
            cases tr with
            | true => rfl
            | false => rw [f11] at c20; exact absurd c20 (by decide)
          subst this
          show s_aimc (bif true && (!t.isEmpty || true) then none else _) i _ = none
          rw [Bool.or_true]; rfl
        · have et : tr = false := by
            cases tr with
            | false => rfl
            | true => rw [f11] at c20; exact absurd rfl c20
          subst et
          have e0 : t = [] := by
            cases t with
            | nil => rfl
            | cons y t =>
              obtain ⟨k', lo', hi', c', q', sp'⟩ := y
              obtain ⟨y1, y2, y3, y4, y5⟩ := f6
              have := y5.le
              exact absurd (f8.1.symm.trans (r22.symm.trans c22)) (nI_ne0 (by omega) (by omega))
          subst e0
          have e18 : mm_a σ 318 k = nI j := r18.trans j1
          rw [e18]
          have es : r_si (mm_a σ 316 j) (mm_a σ 317 j) = n_si v := by
            rw [U 316 (by decide) (by decide) j (by omega) (by omega), U 317 (by decide) (by decide) j (by omega) (by omega)]
            exact j4
          refine c_isSimple (by omega) st.ci.2.1 (by omega) ?_
          rw [es]
          cases hz : n_si v with
          | false =>
            refine br_y rfl (bad2 (fun _ => ?_))
            rw [j5, hz]
            rfl
          | true =>
            have ec : c = some 0 := by rw [j5, hz]; rfl
            subst ec
            refine br_n (by decide) (st.setn (by decide) (Or.inl (by decide)) rfl hkf (fun _ => by show k0 ≤ k; omega) (Or.inr (Or.inr ⟨rfl, by omega, by decide⟩)) (fun st1 => ?_))
            refine b3103_309 _ _ _ _ _ _ _ _ _ (st1.rdn (by decide) rfl hkf ?_)
            refine st1.setn (by decide) (Or.inl (by decide)) rfl hkf (fun _ => by show k0 ≤ k; omega) (Or.inr (Or.inl ⟨rfl, Or.inr (by rw [a_seta_s]; decide)⟩)) (fun st2 => ?_)
            refine nx _ _ _ _ _ _ _ hkf hk (fun _ => ?_) ((st2.weakM (by simp only [cq]; omega) (Nat.le_refl _)).rwR (r' := s_aimc (cs [] false) i (fun _ j => s_r () j)) (fun _ => (run_aimB (x := some 0) (y := cs [] false)).trans run_aim0))
            refine ⟨⟨fun s s1 s2 j' h1 h2 => ?_, ?_, ?_⟩, f13, ?_⟩
            · rw [a_seta_i (by omega), a_seta_i (by omega)]
              exact U s s1 s2 j' (by omega) h2
            · rw [a_seta_n (by decide), a_seta_n (by decide)]; exact f10
            · rw [a_seta_n (by decide), a_seta_n (by decide)]; exact f11
            · rw [a_seta_n (by decide), a_seta_n (by decide)]; exact r22
        · refine bad2 (fun _ => ?_)
          have : t.isEmpty = false := by
            cases t with
            | nil => exact absurd (r22.trans f8) c22
            | cons y t => rfl
          show s_aimc (bif true && (!t.isEmpty || tr) then none else _) i _ = none
          rw [this]; rfl
      · rw [r20] at c4
        have st2 := (st.rise (h' := D + 66) gd (by omega)).weakM (m' := m + cq t + q + 1) (by simp only [cq]; omega) (Nat.le_refl _)
        have w343 : ∀ (esp : sp = false) (hcc : (mm_a τ0 320 k = 0 ∧ ∃ j hj, mm_a τ0 318 k = nI j ∧ hj ≤ k ∧ plE T D (mm_a τ0) lo hj j c q) ∨ (mm_a τ0 320 k = 5 ∧ ∃ j hj c', mm_a τ0 318 k = nI j ∧ lo ≤ j ∧ j < hj ∧ hj ≤ k ∧ cvR T D lo hj j (mm_a τ0) c' q ∧ c = n_cb (some (if mm_a τ0 319 k = 0 then 0 else 1)) c')),
            mm_W mt3103 (MC d) Q (343, [some (.inr (.inr (3, a))), some (.inl (nI k0)), some (.inl (nI k)), wv3, wv4, wv5], []) σ := by
          intro esp hcc
          subst esp
          have st3 := st2.rwR (r' := s_aimc c i (fun _ j => s_aimc (cs t tr) j (fun _ j => s_r () j))) (fun _ => run_aimB)
          refine b3103_343 _ _ _ _ _ _ _ _ _ (st.rdn (by decide) rfl hkf (st.rdn (by decide) rfl hkf (br_p (fun c5 => st.rdn (by decide) rfl hkf ?_) (fun c5 => ?_))))
          · rw [r20] at c5
            obtain ⟨j, hj, c', y1, y2, y3, y4, y5, y6⟩ : ∃ j hj c', mm_a τ0 318 k = nI j ∧ lo ≤ j ∧ j < hj ∧ hj ≤ k ∧ cvR T D lo hj j (mm_a τ0) c' q ∧ c = n_cb (some (if mm_a τ0 319 k = 0 then 0 else 1)) c' := by
              rcases hcc with y | y
              · rw [y.1] at c5; exact absurd c5 (by decide)
              · exact y.2
            subst y6
            rw [r19]
            refine b3103_370 _ _ _ _ _ _ _ _ _ _ (br_p (fun c0 => ?_) (fun c0 => ?_))
            · rw [if_pos c0] at st3
              exact w387 σ _ _ _ _ j hj c' _ (Nat.le_refl _) rfl gd (fun _ _ => rfl) y1 y4 y2 y3 (Or.inl ⟨c5, y5⟩) (st3.rwR (fun _ => run_aimB.trans run_aim0)).tt
            · rw [if_neg c0] at st3
              have st4 := st3.rwR (r' := s_b (s_w (sA_cv (-1)) () i) (fun _ j => s_aimc c' j (fun _ j => s_aimc (cs t tr) j (fun _ j => s_r () j)))) (fun _ => run_aimB)
              have st5 := st4.cov (x := mm_f σ 313 - 1) (fun _ hx => by rw [hx, ← Int.sub_eq_add_neg, Int32.ofInt_sub, show Int32.ofInt 1 = 1 from by decide]) (fun _ h => by omega)
              exact w387 _ _ _ _ _ j hj c' _ (Nat.le_refl _) (fN_eq (f_other (by decide))) gd (fun _ _ => rfl) y1 y4 y2 y3 (Or.inl ⟨c5, y5⟩) st5
          · rw [r20] at c5
            obtain ⟨c0, j, hj, y1, y2, y3⟩ : mm_a τ0 320 k = 0 ∧ ∃ j hj, mm_a τ0 318 k = nI j ∧ hj ≤ k ∧ plE T D (mm_a τ0) lo hj j c q := by
              rcases hcc with y | y
              · exact y
              · exact absurd y.1 c5
            refine b3103_370 _ _ _ _ _ _ _ _ _ _ (br_y rfl ?_)
            exact w387 σ _ _ _ _ j hj c _ (Nat.le_refl _) rfl gd (fun _ _ => rfl) y1 y2 y3.1 y3.2.1 (Or.inr ⟨c0, y3⟩) st3.tt
        refine br_p (fun c0 => ?_) (fun c0 => st.rdn (by decide) rfl hkf (br_p (fun c5 => ?_) (fun c5 => bad2 (fun _ => ?_))))
        · rw [r20] at c0
          rcases f5 with y | y | y | y
          · exact absurd y.1 c4
          · exact w343 y.2.1 (Or.inl ⟨y.1, y.2.2⟩)
          · rw [y.1] at c0; exact absurd c0 (by decide)
          · exact absurd c0 y.2.1
        · rw [r20] at c5
          rcases f5 with y | y | y | y
          · exact absurd y.1 c4
          · rw [y.1] at c5; exact absurd c5 (by decide)
          · exact w343 y.2.1 (Or.inr ⟨y.1, y.2.2⟩)
          · exact absurd c5 y.2.2.1
        · rw [r20] at c0 c5
          rcases f5 with y | y | y | y
          · exact absurd y.1 c4
          · exact absurd y.1 c0
          · exact absurd y.1 c5
          · rw [y.2.2.2.1, y.2.2.2.2]; rfl
end OBJ
