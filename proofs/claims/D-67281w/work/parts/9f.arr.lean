/-! PHASE 3. Lists of elements; asTarget() of an array -/
/-- an element: its node, its rows, covers that fall away, nodes it costs, is it spread -/
abbrev LE : Type := Nat × Nat × Nat × Option Int × Nat × Bool
/-- covers of the rest of a list; is there a comma behind the last -/
def cs : List LE → Bool → Option Int
  | [], _ => some 0
  | (_, _, _, c, _, sp) :: t, tr => bif sp && (!t.isEmpty || tr) then none else n_cb c (cs t tr)
def cq : List LE → Nat
  | [] => 0
  | (_, _, _, _, q, _) :: t => q + 1 + cq t
def rwK (R : Nat → Nat → Int32) : List LE → Int32 → Prop
  | [], x => x = 0
  | (k, _, _, _, _, _) :: t, x => x = nI k ∧ rwK R t (R 322 k)
def LsP (P : LE → Prop) : Nat → List LE → Nat → Prop
  | a, [], b => a ≤ b
  | a, (k, lo, hi, c, q, sp) :: t, b => a ≤ lo ∧ lo ≤ k ∧ k < hi ∧ P (k, lo, hi, c, q, sp) ∧ LsP P hi t b
theorem LsP.le {P : LE → Prop} : ∀ {l : List LE} {a b : Nat}, LsP P a l b → a ≤ b
  | [], _, _, h => h
  | (k, lo, hi, c, q, sp) :: t, a, b, h => by
    obtain ⟨h1, h2, h3, h4, h5⟩ := h
    have := LsP.le h5
    omega
/-- an element of an array -/
def aE (T : sT) (D : Nat) (R : Nat → Nat → Int32) : LE → Prop
  | (k, lo, hi, c, q, sp) => (R 316 k = 31 ∧ c = some 0 ∧ sp = false) ∨ (R 316 k = 30 ∧ sp = true ∧ ∃ j hj, R 317 k = nI j ∧ lo ≤ j ∧ j < hj ∧ hj ≤ k ∧ cvR T D lo hj j R c q) ∨ (¬ R 316 k = 30 ∧ ¬ R 316 k = 31 ∧ sp = false ∧ plE T D R lo hi k c q)
/-- in the midst of a conversion -/
def lpF (τ0 σ : mmS) (k0 L1 : Nat) (v2 : Int32) (tr : Bool) : Prop := (∀ s, 316 ≤ s → s ≤ 323 → ∀ j, L1 ≤ j → j < fN τ0 315 → mm_a σ s j = mm_a τ0 s j) ∧ mm_a σ 322 k0 = mm_a τ0 322 k0 ∧ mm_a σ 320 k0 = bI tr ∧ (v2 = 0 ∨ ∃ p, v2 = nI p ∧ p < fN σ 315 ∧ ((k0 < p ∧ p < L1) ∨ fN τ0 315 ≤ p))
def ShA (k0 hi0 : Nat) (τ0 : mmS) (_ : Unit) (_ : Nat) (n : Int32) (u : mmS) : Prop := n = nI k0 ∧ (∀ s, 316 ≤ s → s ≤ 323 → ∀ j, hi0 ≤ j → j < fN τ0 315 → mm_a u s j = mm_a τ0 s j) ∧ mm_a u 322 k0 = mm_a τ0 322 k0
section ARR
variable {β : Type} {T : sT} {g : Nat} {w : cW} {m e i : Nat} {D a d : Nat} {Q : mmQ} {τ0 : mmS} {k0 hi0 : Nat}
theorem run_aim0 {inn : Bool} {A : cA} {f : Unit → Nat → sR β} : run inn A (s_aimc (some 0) i f) = run inn A (f () i) := by
  unfold s_aimc
  rw [run_b, run_cv]
  simp only [Int.sub_zero]
theorem run_aimB {inn : Bool} {A : cA} {x y : Option Int} {f : Unit → Nat → sR β} : run inn A (s_aimc (n_cb x y) i f) = run inn A (s_aimc x i (fun _ j => s_aimc y j f)) := by
  cases x with
  | none => rfl
  | some x =>
    cases y with
    | none =>
      simp only [s_aimc, n_cb]
      rw [run_b, run_cv]
      rfl
    | some y =>
      simp only [s_aimc, n_cb]
      rw [run_b, run_cv, run_b, run_cv]
      simp only [run_b, run_cv, Int.sub_sub]
theorem arr_loop (hd : D + 1 ≤ d) (hd2 : 6 ≤ d) (hH : g + D + 66 ≤ 69500) (hm : 24 ≤ m) (h0 : 1 ≤ k0) (hhi : hi0 ≤ fN τ0 315) (hc0 : fN τ0 315 ≤ 85000) : ∀ (l : List LE) (L1 : Nat) (b : Bool) (h : Nat) (A : cA) (σ : mmS) (v2 v3 : Int32) (wv4 wv5 : Option mmV) (tr : Bool),
    (GD σ → k0 < L1 ∧ LsP (aE T D (mm_a τ0)) L1 l hi0 ∧ rwK (mm_a τ0) l v3 ∧ lpF τ0 σ k0 L1 v2 tr ∧ fN τ0 315 ≤ fN σ 315) → nid v2 σ → k0 < fN σ 315 →
    St T (ShA k0 hi0 τ0) nid g w m e (k0, (th τ0).2) i (fun n u => Q (.inl (some (.inl n))) u) b h w A (m + cq l) e (s_aimc (cs l tr) i (fun _ j => s_r () j)) σ i →
    mm_W mt3103 (MC d) Q (59, [some (.inr (.inr (3, a))), some (.inl (nI k0)), some (.inl v2), some (.inl v3), wv4, wv5], []) σ := by
  intro l
  induction l with
  | nil =>
    intro L1 b h A σ v2 v3 wv4 wv5 tr hf hv2 hk st
    have fin : ∀ n, n = nI k0 → Q (.inl (some (.inl n))) σ := fun n hn => by
      subst hn
      have st := st.rwR (r' := s_r () i) (fun _ => run_aim0)
      refine st.ret (fun _ => rfl) (fun _ => rfl) (fun _ => Nat.le_refl _) 0 (fun _ => Nat.le_refl _) (fun _ => Nat.le_refl _) (fun gd => ?_) (fun _ => ⟨k0, rfl, hk⟩)
      obtain ⟨f1, f2, f3, ⟨f4, f5, f6⟩, f7⟩ := hf gd
      exact ⟨rfl, fun s s1 s2 j j1 j2 => f4 s s1 s2 j (Nat.le_trans f2 j1) j2, f5⟩
    refine b3103_59 _ _ _ _ _ _ _ _ _ (br_p (fun _ => fin _ rfl) (fun z => br_p (fun gd => ?_) (fun _ => fin _ rfl)))
    exact absurd (hf gd).2.2.1 z
  | cons x t IH =>
    intro L1 b h A σ v2 v3 wv4 wv5 tr hf hv2 hk st
    obtain ⟨k, lo, hi, c, q, sp⟩ := x
    have out : ¬ GD σ → Q (.inl (some (.inl (nI k0)))) σ := fun ng => st.bad ng ⟨k0, rfl, hk⟩
    refine b3103_59 _ _ _ _ _ _ _ _ _ (br_p (fun z => ?_) (fun z => br_p (fun gd => ?_) out))
    · by_cases gd : GD σ
      · obtain ⟨f1, ⟨f2, f3, f4, f5, f6⟩, ⟨f7, f8⟩, -⟩ := hf gd
        have := f6.le
        exact absurd (f7.symm.trans z) (nI_ne0 (by omega) (by omega))
      · exact out gd
    · obtain ⟨f1, ⟨f2, f3, f4, f5, f6⟩, ⟨f7, f8⟩, ⟨f9, f10, f11, f12⟩, f13⟩ := hf gd
      have f6l := f6.le
      subst f7
      have hkf : k < fN σ 315 := by omega
      have U (s : Nat) (s1 : 316 ≤ s) (s2 : s ≤ 323) (j : Nat) (j1 : L1 ≤ j) (j2 : j < fN τ0 315) := f9 s s1 s2 j j1 j2
      -- an element is linked
      have nx : ∀ (σ' : mmS) (v4 : Int32) (b' : Bool) (h' : Nat) (A' : cA) (wv5 : Option mmV), nid v4 σ' → nid v2 σ' → k0 < fN σ' 315 →
          (GD σ' → lpF τ0 σ' k0 hi v2 tr ∧ fN τ0 315 ≤ fN σ' 315 ∧ ∃ p', v4 = nI p' ∧ ((k0 < p' ∧ p' < hi) ∨ fN τ0 315 ≤ p') ∧ p' < fN σ' 315 ∧ mm_a σ' 322 p' = mm_a τ0 322 k ∧ v2 ≠ v4) →
          St T (ShA k0 hi0 τ0) nid g w m e (k0, (th τ0).2) i (fun n u => Q (.inl (some (.inl n))) u) b' h' w A' (m + cq t) e (s_aimc (cs t tr) i (fun _ j => s_r () j)) σ' i →
          mm_W mt3103 (MC d) Q (171, [some (.inr (.inr (3, a))), some (.inl (nI k0)), some (.inl v2), some (.inl (nI k)), some (.inl v4), wv5], []) σ' := by
        intro σ' v4 b' h' A' wv5 h4 h2 hk' hg st'
        obtain ⟨p4, e4, l4⟩ := id h4
        have go : ∀ σ'', (∀ j, fN σ'' j = fN σ' j) → (GD σ'' → GD σ') → (GD σ'' → (∀ s, 316 ≤ s → s ≤ 323 → ∀ j, hi ≤ j → j < fN τ0 315 → mm_a σ'' s j = mm_a σ' s j) ∧ mm_a σ'' 322 k0 = mm_a σ' 322 k0 ∧ mm_a σ'' 320 k0 = mm_a σ' 320 k0 ∧ mm_a σ'' 322 p4 = mm_a σ' 322 p4) →
            St T (ShA k0 hi0 τ0) nid g w m e (k0, (th τ0).2) i (fun n u => Q (.inl (some (.inl n))) u) b' h' w A' (m + cq t) e (s_aimc (cs t tr) i (fun _ j => s_r () j)) σ'' i →
            mm_W mt3103 (MC d) Q (194, [some (.inr (.inr (3, a))), some (.inl (nI k0)), some (.inl v2), some (.inl (nI k)), some (.inl v4), wv5], []) σ'' := by
          intro σ'' eN eG eR st''
          have hcap := st''.cap.1
          refine b3103_194 _ _ _ _ _ _ _ _ _ (st''.rdn (by decide) e4 (by rw [eN]; exact l4) ?_)
          refine IH hi b' h' A' σ'' v4 _ _ _ tr (fun gd2 => ?_) ⟨p4, e4, by rw [eN]; exact l4⟩ (by rw [eN]; exact hk') st''
          obtain ⟨⟨g1, g2, g3, g4⟩, g5, p', g6, g7, g8, g9, g10⟩ := hg (eG gd2)
          obtain ⟨r1, r2, r3, r4⟩ := eR gd2
          have ep : p4 = p' := nI_inj (by rw [eN] at hcap; omega) (by rw [eN] at hcap; omega) (e4.symm.trans g6)
          subst ep
          refine ⟨by omega, f6, by rw [r4, g9]; exact f8, ⟨fun s s1 s2 j j1 j2 => (r1 s s1 s2 j j1 j2).trans (g1 s s1 s2 j j1 j2), r2.trans g2, r3.trans g3, Or.inr ⟨p4, e4, by rw [eN]; exact l4, g7⟩⟩, by rw [eN]; exact g5⟩
        refine b3103_171 _ _ _ _ _ _ _ _ _ (br_p (fun z2 => ?_) (fun z2 => ?_))
        · refine st'.setn (by decide) (Or.inl (by decide)) rfl hk' (fun _ => Nat.le_refl _) (Or.inr (Or.inl ⟨rfl, Or.inl h4⟩)) (fun st'' => go (mm_seta σ' 317 k0 v4) (fun _ => rfl) id (fun gd2 => ⟨fun s s1 s2 j j1 j2 => ?_, ?_, ?_, ?_⟩) st'')
          · exact a_seta_i (by omega)
          · rw [a_seta_n (by decide)]
          · rw [a_seta_n (by decide)]
          · rw [a_seta_n (by decide)]
        · obtain ⟨p2, e2, l2⟩ := id h2
          have hcap := st'.cap.1
          have hp : GD σ' → ((k0 < p2 ∧ p2 < hi) ∨ fN τ0 315 ≤ p2) ∧ p2 ≠ p4 := fun gd2 => by
            obtain ⟨⟨g1, g2, g3, g4⟩, g5, p', g6, g7, g8, g9, g10⟩ := hg gd2
            refine ⟨?_, fun y => g10 (by rw [e2, e4, y])⟩
            rcases g4 with y | ⟨y1, y2, y3, y4⟩
            · exact absurd y z2
            · have : p2 = y1 := nI_inj (by omega) (by omega) (e2.symm.trans y2)
              rw [this]; exact y4
          refine st'.setn (by decide) (Or.inl (by decide)) e2 l2 (fun gd2 => ?_) (Or.inl ⟨by decide, by decide⟩) (fun st'' => go (mm_seta σ' 322 p2 v4) (fun _ => rfl) id (fun gd2 => ⟨fun s s1 s2 j j1 j2 => ?_, ?_, ?_, ?_⟩) st'')
          · have := (hp gd2).1; show k0 ≤ p2; omega
          · have := (hp gd2).1; exact a_seta_i (by omega)
          · have := (hp gd2).1; exact a_seta_i (by omega)
          · rw [a_seta_n (by decide)]
          · exact a_seta_i (hp gd2).2.symm
      have hne : ∀ p', ((L1 ≤ p' ∧ p' < fN τ0 315) ∨ fN σ 315 ≤ p') → p' < 2 ^ 31 → v2 ≠ nI p' := fun p' h1 h2 h3 => by
        have hcap := st.cap.1
        rcases f12 with y | ⟨y1, y2, y3, y4⟩
        · exact absurd (h3.symm.trans y) (nI_ne0 (by omega) h2)
        · have : y1 = p' := nI_inj (by omega) h2 (y2.symm.trans h3)
          omega
      have hcap := st.cap.1
      have r16 := U 316 (by decide) (by decide) k (by omega) (by omega)
      have r22 := U 322 (by decide) (by decide) k (by omega) (by omega)
      have r17 := U 317 (by decide) (by decide) k (by omega) (by omega)
      refine st.rdn (by decide) rfl hkf (br_p (fun c30 => ?_) (fun c30 => st.rdn (by decide) rfl hkf (br_p (fun c31 => ?_) (fun c31 => ?_))))
      · -- spread
        rw [r16] at c30
        obtain ⟨esp, j, hj, j1, j2, j3, j4, j5⟩ : sp = true ∧ ∃ j hj, mm_a τ0 317 k = nI j ∧ lo ≤ j ∧ j < hj ∧ hj ≤ k ∧ cvR T D lo hj j (mm_a τ0) c q := by
          rcases f5 with y | y | y
          · rw [y.1] at c30; exact absurd c30 (by decide)
          · exact y.2
          · exact absurd c30 y.1
        subst esp
        have bad2 : (GD σ → s_aimc (cs ((k, lo, hi, c, q, true) :: t) tr) i (fun _ j => s_r () j) = none) → mm_I (MC d) Q 3025 [.inr (.inr (3, a))] σ (fun x5 σ4 => Q (.inl (some (.inl x5))) σ4) := fun hr => st.fail (by omega) hr (fun u ng st2 hf2 => st2.bad ng (nid_0 st2.ci))
        refine st.rdn (by decide) rfl hkf (br_p (fun c22 => st.rdn (by decide) rfl hk (br_p (fun c20 => ?_) (fun c20 => ?_))) (fun c22 => ?_))
        · refine bad2 (fun _ => ?_)
          have : tr = true := by
            cases tr with
            | true => rfl
            | false => rw [f11] at c20; exact absurd c20 (by decide)
          subst this
          show s_aimc (bif true && (!t.isEmpty || true) then none else _) i _ = none
          rw [Bool.or_true]; rfl
        · have et : tr = false := by
            cases tr with
            | false => rfl
            | true => rw [f11] at c20; exact absurd rfl c20
          subst et
          have e0 : t = [] := by
            cases t with
            | nil => rfl
            | cons y t =>
              obtain ⟨k', lo', hi', c', q', sp'⟩ := y
              obtain ⟨y1, y2, y3, y4, y5⟩ := f6
              have := y5.le
              exact absurd (f8.1.symm.trans (r22.symm.trans c22)) (nI_ne0 (by omega) (by omega))
          subst e0
          refine (st.setn (by decide) (Or.inl (by decide)) rfl hkf (fun _ => by show k0 ≤ k; omega) (Or.inr (Or.inr ⟨rfl, by omega, by decide⟩)) (fun st2 => st2.rdn (by decide) rfl hkf ?_))
          have st2 := (st2.rise (h' := D + 66) gd (by omega)).rwR (r' := s_aimc c i (fun _ j => s_aimc (cs [] false) j (fun _ j => s_r () j))) (fun _ => run_aimB)
          have gd2 : GD (mm_seta σ 316 k 53) := gd
          have e17 : mm_a (mm_seta σ 316 k 53) 317 k = nI j := by rw [a_seta_n (by decide), r17]; exact j1
          rw [e17]
          have hrw : ∀ s, 316 ≤ s → s ≤ 323 → ∀ j', j' ≠ k → mm_a (mm_seta σ 316 k 53) s j' = mm_a σ s j' := fun s s1 s2 j' ne => a_seta_i ne
          refine St.conv (D := D) (h := 1) (m := m) (q := q) (lo := lo) (hi := hj) (k := j) (c := c) (R := mm_a τ0) rfl ((st2.mono (by omega)).weakM (by simp only [cq]; omega) (Nat.le_refl _)) (by omega) (by omega) hm ⟨j, rfl, by show j < fN σ 315; omega⟩ (fun _ => ⟨rfl, j5, by show hj ≤ fN σ 315; omega, by show k0 ≤ lo; omega, fun s s1 s2 j' h1 h2 _ => (hrw s s1 s2 j' (by omega)).trans (U s s1 s2 j' (by omega) (by omega))⟩) (fun n' u B st3 fr3 hn3 hg3 => ?_)
          have l3 := fr3.nn
          have l3' : fN σ 315 ≤ fN u 315 := l3
          refine st3.setn (by decide) (Or.inl (by decide)) rfl (by omega) (fun _ => by show k0 ≤ k; omega) (Or.inr (Or.inl ⟨rfl, Or.inl hn3⟩)) (fun st4 => ?_)
          obtain ⟨p2, e2, l2⟩ := id hv2
          refine nx (mm_seta u 317 k n') (nI k) _ _ _ _ ⟨k, rfl, by show k < fN u 315; omega⟩ ⟨p2, e2, by show p2 < fN u 315; omega⟩ (by show k0 < fN u 315; omega) (fun gd4 => ?_) st4
          have gd3 : GD u := gd4
          obtain ⟨x1, x2, x3, x4⟩ := hg3 gd3
          have x2g := (x2.2.2.2.2.2.2.2 gd3).2.1
          have lowr : ∀ s, 316 ≤ s → s ≤ 323 → mm_a (mm_seta u 317 k n') s k0 = mm_a σ s k0 := fun s s1 s2 => by
            rw [a_seta_i (by omega), x2g s s1 s2 k0 h0 (by show k0 < lo; omega), hrw s s1 s2 k0 (by omega)]
          refine ⟨⟨fun s s1 s2 j' h1 h2 => ?_, (lowr 322 (by decide) (by decide)).trans f10, (lowr 320 (by decide) (by decide)).trans f11, ?_⟩, by show fN τ0 315 ≤ fN u 315; omega, k, rfl, Or.inl ⟨by omega, f4⟩, by show k < fN u 315; omega, ?_, hne k (Or.inl ⟨by omega, by omega⟩) (by omega)⟩
          · rw [a_seta_i (by omega), x3 s s1 s2 j' (by omega) (by show j' < fN σ 315; omega), hrw s s1 s2 j' (by omega)]
            exact U s s1 s2 j' (by omega) h2
          · rcases f12 with y | ⟨y1, y2, y3, y4⟩
            · exact Or.inl y
            · exact Or.inr ⟨y1, y2, by show y1 < fN u 315; omega, by omega⟩
          · rw [a_seta_n (by decide), x3 322 (by decide) (by decide) k (by omega) (by show k < fN σ 315; omega), a_seta_n (by decide)]
            exact r22
        · refine bad2 (fun _ => ?_)
          have : t.isEmpty = false := by
            cases t with
            | nil => exact absurd (r22.trans f8) c22
            | cons y t => rfl
          show s_aimc (bif true && (!t.isEmpty || tr) then none else _) i _ = none
          rw [this]; rfl
      · -- hole
        rw [r16] at c31
        obtain ⟨ec, esp⟩ : c = some 0 ∧ sp = false := by
          rcases f5 with y | y | y
          · exact y.2
          · rw [y.1] at c31; exact absurd c31 (by decide)
          · exact absurd c31 y.2.1
        subst ec; subst esp
        refine nx σ (nI k) b h A _ ⟨k, rfl, hkf⟩ hv2 hk (fun _ => ⟨⟨fun s s1 s2 j j1 j2 => U s s1 s2 j (by omega) j2, f10, f11, ?_⟩, f13, k, rfl, Or.inl ⟨by omega, f4⟩, hkf, r22, hne k (Or.inl ⟨by omega, by omega⟩) (by omega)⟩) ?_
        · rcases f12 with y | ⟨y1, y2, y3, y4⟩
          · exact Or.inl y
          · exact Or.inr ⟨y1, y2, y3, by omega⟩
        · exact (st.weakM (by simp only [cq]; omega) (Nat.le_refl _)).rwR (fun _ => run_aimB.trans run_aim0)
      · -- plain
        rw [r16] at c30 c31
        obtain ⟨esp, hpl⟩ : sp = false ∧ plE T D (mm_a τ0) lo hi k c q := by
          rcases f5 with y | y | y
          · exact absurd y.1 c31
          · exact absurd y.1 c30
          · exact y.2.2
        subst esp
        have st2 := (st.rise (h' := D + 66) gd (by omega)).rwR (r' := s_aimc c i (fun _ j => s_aimc (cs t tr) j (fun _ j => s_r () j))) (fun _ => run_aimB)
        refine St.elem (D := D) (h := 1) (m := m + cq t) (q := q) (lo := lo) (hi := hi) (k := k) (c := c) (R := mm_a τ0) rfl ((st2.mono (by omega)).weakM (by simp only [cq]; omega) (Nat.le_refl _)) (by omega) (by omega) (by omega) ⟨k, rfl, hkf⟩ (fun _ => ⟨rfl, hpl, by omega, ⟨by show k0 ≤ lo; omega, by omega⟩, fun s s1 s2 j' h1 h2 _ => U s s1 s2 j' (by omega) (by omega)⟩) (fun n' u B st3 fr3 hn3 hg3 => ?_)
        have l3 := fr3.nn
        have hc3 := st3.cap.1
        refine st3.rdn (by decide) rfl (by omega) ?_
        obtain ⟨pn, en, ln⟩ := id hn3
        have hpn : GD u → fN σ 315 ≤ pn := fun gd3 => by
          obtain ⟨k', x0, x1, x2, -⟩ := hg3 gd3
          have : pn = k' := nI_inj (by omega) (by omega) (en.symm.trans x0)
          omega
        refine st3.setn (by decide) (Or.inl (by decide)) en ln (fun gd3 => by have := hpn gd3; show k0 ≤ pn; omega) (Or.inl ⟨by decide, by decide⟩) (fun st4 => ?_)
        obtain ⟨p2, e2, l2⟩ := id hv2
        refine nx (mm_seta u 322 pn (mm_a u 322 k)) n' _ _ _ _ ⟨pn, en, ln⟩ ⟨p2, e2, by show p2 < fN u 315; omega⟩ (by show k0 < fN u 315; omega) (fun gd4 => ?_) st4
        have gd3 : GD u := gd4
        have hpn := hpn gd3
        obtain ⟨k', x0, x1, x2, x3, x4, x5⟩ := hg3 gd3
        have x3g := (x3.2.2.2.2.2.2.2 gd3).2.1
        have lowr : ∀ s, 316 ≤ s → s ≤ 323 → mm_a (mm_seta u 322 pn (mm_a u 322 k)) s k0 = mm_a σ s k0 := fun s s1 s2 => by
          rw [a_seta_i (by omega), x3g s s1 s2 k0 h0 (by show k0 < lo; omega)]
        refine ⟨⟨fun s s1 s2 j' h1 h2 => ?_, (lowr 322 (by decide) (by decide)).trans f10, (lowr 320 (by decide) (by decide)).trans f11, ?_⟩, by show fN τ0 315 ≤ fN u 315; omega, pn, en, Or.inr (by omega), ln, ?_, by rw [en]; exact hne pn (Or.inr hpn) (by omega)⟩
        · rw [a_seta_i (by omega), x4 s s1 s2 j' h1 (by omega)]
          exact U s s1 s2 j' (by omega) h2
        · rcases f12 with y | ⟨y1, y2, y3, y4⟩
          · exact Or.inl y
          · exact Or.inr ⟨y1, y2, by show y1 < fN u 315; omega, by omega⟩
        · rw [a_seta_s, x5]
          exact r22
end ARR
