/-! PHASE 3. What becomes a target: any node, an element -/
/-- a node's conversion, from what is known of it -/
theorem cv_sm {T : sT} {lo hi q k : Nat} {v : sN} {R : Nat → Nat → Int32} (h2 : lo ≤ k) (h3 : k < hi) (es : r_si (R 316 k) (R 317 k) = n_si v) (hr : R 316 k = v.1 ∧ R 323 k = bI v.2.2.2.1 ∧ (¬ (v.1 = 9 ∨ v.1 = 10) → v.2.2.2.2.1 = none)) (hl : ¬ ((v.1 = 9 ∨ v.1 = 10) ∧ v.2.2.2.1 = false)) : cvR T 4 lo hi k R (n_tg v) q := by
  intro d a g w A m e i τ K X hd hg hG hm hn hR k1 k2
  obtain ⟨d, rfl, hd⟩ := mc_pos (c := 3) (by omega)
  have row (s : Nat) (s1 : 316 ≤ s) (s2 : s ≤ 323) (ne : s ≠ 322) : mm_a τ s k = R s k := hR s s1 s2 k h2 h3 (by omega)
  have hk : k < fN τ 315 := by omega
  have e : r_si (mm_a τ 316 k) (mm_a τ 317 k) = n_si v := by
    rw [row 316 (by decide) (by decide) (by decide), row 317 (by decide) (by decide) (by decide)]
    exact es
  have hcN := hG.1.2.1
  have stay : n_tg v = some 0 → K (nI k) τ := fun z => k1 τ 0 z (by rw [Int.sub_zero]; exact hG.mono (by omega) (Nat.le_refl _)) Fr.rfl' (fun _ _ _ _ _ _ => rfl) rfl
  have nope : n_tg v = none → K 0 (fl T τ) := fun z => k2 0 _ z (hG.bad (by omega)) Fr_fl (nid_0 (hG.bad (g := 0) (by omega)).1)
  refine mc_ci (P := mt3103) (L := 6) rfl rfl ⟨by decide, Nat.le_of_ble_eq_true rfl⟩ fun Q hK hX => b3103_0 _ _ _ _ _ _ _ _ _ (br_y hG.2.1 (c_isSimple (by omega) hcN hk ?_))
  rw [e]
  cases hz : n_si v with
  | true => exact br_n (by decide) (hK _ _ (stay (by unfold n_tg; rw [hz]; rfl)))
  | false =>
    refine br_y rfl (cN_rd hcN (by decide) (by decide) hk (br_p (fun c => ?_) (fun c => ?_)))
    · have hp : v.2.2.2.1 = false := by
        have := hr.2.1
        rw [row 323 (by decide) (by decide) (by decide), this] at c
        exact bI_0.mp c
      have nn : n_tg v = none := by
        unfold n_tg
        rw [hz, hp]
        exact hr.2.2 (fun z => hl ⟨z, hp⟩)
      have n9 : ¬ mm_a τ 316 k = 9 := fun y => hl ⟨Or.inl (hr.1.symm.trans ((row 316 (by decide) (by decide) (by decide)).symm.trans y)), hp⟩
      have n10 : ¬ mm_a τ 316 k = 10 := fun y => hl ⟨Or.inr (hr.1.symm.trans ((row 316 (by decide) (by decide) (by decide)).symm.trans y)), hp⟩
      exact cN_rd hcN (by decide) (by decide) hk (br_n n9 (cN_rd hcN (by decide) (by decide) hk (br_n n10 (c_fail (by omega) hG.1.1 (hK _ _ (nope nn))))))
    · have hp : v.2.2.2.1 = true := by
        cases hx : v.2.2.2.1 with
        | true => rfl
        | false => exact absurd ((row 323 (by decide) (by decide) (by decide)).trans (hr.2.1.trans (by rw [hx]; rfl))) c
      exact c_fail (by omega) hG.1.1 (hK _ _ (nope (by unfold n_tg; rw [hz, hp]; rfl)))
theorem cv_of {T : sT} {ν lo q k : Nat} {v : sN} {u : mmS} (hs : shK T ν lo v q k u) : cvR T (6 * ν + 10) lo (fN u 315) k (mm_a u) (n_tg v) q := by
  obtain ⟨h1, h2, h3, hr, hc⟩ := hs
  by_cases hl : (v.1 = 9 ∨ v.1 = 10) ∧ v.2.2.2.1 = false
  · have hs : n_si v = false := by
      unfold n_si
      rcases hl.1 with z | z <;> rw [z] <;> rfl
    have ht : n_tg v = v.2.2.2.2.1 := by
      unfold n_tg
      rw [hs, hl.2]; rfl
    rw [ht]
    exact hc hl.1 hl.2
  · exact (cv_sm h2 h3 (rN_si hr) ⟨hr.1, hr.2.2.2.1, hr.2.2.2.2.2.2.1⟩ hl).mono (by omega) (Nat.le_refl _) (Nat.le_refl _) h3 (fun _ _ _ _ _ _ _ => rfl)
/-- a reading that takes covers away first -/
def s_aimc {β : Type} (c : Option Int) (j : Nat) (f : Unit → Nat → sR β) : sR β := match c with
  | none => none
  | some z => s_b (s_w (sA_cv (-z)) () j) f
/-- a plain element of a list -/
def plE (T : sT) (D : Nat) (R : Nat → Nat → Int32) (lo hi k : Nat) (c : Option Int) (q : Nat) : Prop :=
  lo ≤ k ∧ k < hi ∧ ((R 316 k = 28 ∧ R 320 k = 0 ∧ R 323 k = 0 ∧ c = some 0) ∨ (¬ (R 316 k = 28 ∧ R 320 k = 0 ∧ R 323 k = 0) ∧ cvR T D lo hi k R c q))
section CONV
variable {β : Type} {T : sT} {Sh : β → Nat → Int32 → mmS → Prop} {N : Int32 → mmS → Prop} {g : Nat} {w0 : cW} {m0 e0 : Nat} {θ : cTh} {l0 : Nat} {Z : Int32 → mmS → Prop} {b : Bool} {h : Nat} {w : cW} {A : cA} {m e : Nat} {r : sR β} {σ σ0 : mmS} {i : Nat}
variable {D a d : Nat} {Q : mmQ}
/-- asTarget() by a conversion -/
theorem St.conv {lo hi k q : Nat} {c : Option Int} {R : Nat → Nat → Int32} {n : Int32} {f : Unit → Nat → sR β} {C : Int32 → mmS → Prop} (hw : w_in w = w_in w0) (st : St T Sh N g w0 m0 e0 θ l0 Z b (h + D + 64) w A (m + q) e (s_aimc c i f) σ i) (hd : D ≤ d) (hd2 : 2 ≤ d) (hm : 24 ≤ m) (hn : nid n σ)
    (hc : GD σ → n = nI k ∧ cvR T D lo hi k R c q ∧ hi ≤ fN σ 315 ∧ θ.1 ≤ lo ∧ ∀ s, 316 ≤ s → s ≤ 323 → ∀ j, lo ≤ j → j < hi → ¬ (s = 322 ∧ j = k) → mm_a σ s j = R s j)
    (kk : ∀ n' u B, St T Sh N g w0 m0 e0 θ l0 Z true h w B m e (f () i) u i → Fr θ σ u → nid n' u → (GD u → n' = nI k ∧ Fr (lo, (th σ).2) σ u ∧ (∀ s, 316 ≤ s → s ≤ 323 → ∀ j, hi ≤ j → j < fN σ 315 → mm_a u s j = mm_a σ s j) ∧ mm_a u 322 k = mm_a σ 322 k) → C n' u) : mm_I (MC d) Q 3103 [.inr (.inr (3, a)), .inl n] σ C := by
  by_cases gd : GD σ
  · obtain ⟨hk, cv, hhi, hlo, hR⟩ := hc gd
    have g1 := (st.strong gd).good
    have hg := st.tl.2 gd
    subst hk
    refine cv d a (g + h) w A m e i σ C _ hd (by omega) g1 hm hhi hR (fun u z z1 z2 z3 z4 z5 => ?_) (fun n' u z1 z2 z3 z4 => ?_)
    · have st2 := (st.strong gd).rw (r' := s_b (s_w (sA_cv (-z)) () i) f) (fun _ => by unfold s_aimc; rw [z1])
      have fr : Fr θ σ u := z3.mono fun gd => ⟨hlo, (st.tl.1 gd).2.1, (st.tl.1 gd).2.2.1, (st.tl.1 gd).2.2.2⟩
      have st3 := st2.acc (v := ()) (i' := i) (B := (A.1, A.2.1 - z, A.2.2)) (h' := h) (m' := m) (e' := e) (u := u) run_cv fr (th_le g1 z2 z3) (by omega) z2
      obtain ⟨k0, e1, e2⟩ := hn
      exact kk _ _ _ st3.weak fr ⟨k0, e1, Nat.lt_of_lt_of_le e2 z3.nn⟩ (fun _ => ⟨rfl, z3, z4, z5⟩)
    · have hr : run (w_in w0) A (s_aimc c i f) = none := by unfold s_aimc; rw [z1]; rfl
      have fr : Fr θ σ u := z3.mono st.tl.1
      exact kk _ _ _ (St_bad_of (h' := h) (r' := f () i) (w' := w) (A' := A) (m' := m) (e' := e) (i' := i) st gd hr z2 fr) fr z4 (fun gd2 => absurd gd2 z2.no)
  · obtain ⟨d, rfl, hd3⟩ := mc_pos (c := 1) hd2
    refine mc_ci (P := mt3103) (L := 6) rfl rfl ⟨by decide, Nat.le_of_ble_eq_true rfl⟩ fun Q2 hK hX => b3103_0 _ _ _ _ _ _ _ _ _ (br_n gd ?_)
    exact hK _ _ (kk _ _ A (St.tt (st.bd (β' := Unit) gd Fr.rfl' (fun c => c.mono (by omega)) (h' := h) (w' := w) (A' := A) (m' := m) (e' := e) (r' := f () i) (i' := i))) Fr.rfl' hn (fun gd2 => absurd gd2 gd))
/-- asElement() -/
theorem St.elem {lo hi k q : Nat} {c : Option Int} {R : Nat → Nat → Int32} {n key : Int32} {f : Unit → Nat → sR β} {C : Int32 → mmS → Prop} (hw : w_in w = w_in w0) (st : St T Sh N g w0 m0 e0 θ l0 Z b (h + D + 65) w A (m + q + 1) e (s_aimc c i f) σ i) (hd : D + 1 ≤ d) (hd2 : 5 ≤ d) (hm : 24 ≤ m) (hn : nid n σ)
    (hc : GD σ → n = nI k ∧ plE T D R lo hi k c q ∧ hi ≤ fN σ 315 ∧ (θ.1 ≤ lo ∧ 1 ≤ lo) ∧ ∀ s, 316 ≤ s → s ≤ 323 → ∀ j, lo ≤ j → j < hi → ¬ (s = 322 ∧ j = k) → mm_a σ s j = R s j)
    (kk : ∀ n' u B, St T Sh N g w0 m0 e0 θ l0 Z true h w B m e (f () i) u i → Fr θ σ u → nid n' u → (GD u → ∃ k', n' = nI k' ∧ fN σ 315 ≤ k' ∧ k' < fN u 315 ∧ Fr (lo, (th σ).2) σ u ∧ (∀ s, 316 ≤ s → s ≤ 323 → ∀ j, hi ≤ j → j < fN σ 315 → mm_a u s j = mm_a σ s j) ∧ mm_a u 322 k = mm_a σ 322 k) → C n' u) : mm_I (MC d) Q 3104 [.inr (.inr (3, a)), .inl n, .inl key] σ C := by
  obtain ⟨d, rfl, hd3⟩ := mc_pos (c := 4) hd2
  refine mc_ci (P := mt3104) (L := 3) rfl rfl ⟨by decide, Nat.le_of_ble_eq_true rfl⟩ fun Q2 hK hX => b3104_0 _ _ _ _ _ _ ?_
  obtain ⟨kn, n1, n2⟩ := id hn
  -- by asTarget
  have tg : (GD σ → ¬ (mm_a σ 316 kn = 28 ∧ mm_a σ 320 kn = 0 ∧ mm_a σ 323 kn = 0)) → mm_I (MC d) Q2 3103 [.inr (.inr (3, a)), .inl n] σ (fun x9 σ8 => mm_I (MC d) Q2 3051 [.inr (.inr (3, a)), .inl 52, .inl x9, .inl 0, .inl key] σ8 (fun x11 σ10 => Q2 (.inl (some (.inl x11))) σ10)) := fun hno => by
    refine St.conv (D := D) (h := h + 1) (m := m + 1) (q := q) (lo := lo) (hi := hi) (k := k) (c := c) (R := R) hw ((st.mono (by omega)).weakM (by omega) (Nat.le_refl _)) (by omega) (by omega) (by omega) hn (fun gd => ?_) (fun n' u B st2 fr2 hn2 hg2 => ?_)
    · obtain ⟨c1, ⟨c2, c3, c4⟩, c5, c6, c7⟩ := hc gd
      refine ⟨c1, ?_, c5, c6.1, c7⟩
      have hcap := st.cap.1
      have ek : kn = k := nI_inj (by omega) (by omega) (n1.symm.trans c1)
      rcases c4 with ⟨y1, y2, y3, y4⟩ | ⟨-, y⟩
      · rw [← c7 316 (by decide) (by decide) k c2 c3 (by omega)] at y1
        rw [← c7 320 (by decide) (by decide) k c2 c3 (by omega)] at y2
        rw [← c7 323 (by decide) (by decide) k c2 c3 (by omega)] at y3
        rw [← ek] at y1 y2 y3
        exact absurd ⟨y1, y2, y3⟩ (hno gd)
      · exact y
    · refine St.node (h := h) (m := m + 1) st2 (by omega) (by omega) (fun n5 u5 st5 hf5 nw => hK _ _ (kk _ _ _ st5 (fr2.trans (hf5.mono st2.tl.1)) nw.nid (fun gd => ?_)))
      have gd2 := hf5.1 gd
      obtain ⟨x1, x2, x3, x4⟩ := hg2 gd2
      have hgr := (hf5.2.2.2.2.2.2.2 gd).2.1
      have l := x2.nn
      obtain ⟨c1, ⟨c2, c3, c4⟩, c5, c6, c7⟩ := hc (x2.1 gd2)
      refine ⟨fN u 315, nw.1, by omega, by rw [nw.2.1]; omega, x2.trans (hf5.mono fun _ => ?_), fun s s1 s2 j j1 j2 => ?_, ?_⟩
      · have t := th_le (st.gd (x2.1 gd2)) (st2.gd gd2) x2
        exact ⟨by show lo ≤ fN u 315; omega, t.2.1, t.2.2.1, t.2.2.2⟩
      · rw [hgr s s1 s2 j (by omega) (by show j < fN u 315; omega)]
        exact x3 s s1 s2 j j1 j2
      · rw [hgr 322 (by decide) (by decide) k (by omega) (by show k < fN u 315; omega)]
        exact x4
  refine st.rdn (by decide) n1 n2 (br_p (fun c1 => st.rdn (by decide) n1 n2 (br_p (fun c2 => st.rdn (by decide) n1 n2 (br_p (fun c3 => ?_) (fun c3 => tg fun _ z => c3 z.2.2))) (fun c2 => tg fun _ z => c2 z.2.1))) (fun c1 => tg fun _ z => c1 z.1))
  refine st.rdn (by decide) n1 n2 (st.rdn (by decide) n1 n2 ?_)
  by_cases gd : GD σ
  · obtain ⟨y1, ⟨y2, y3, y4⟩, y5, y6, y7⟩ := hc gd
    have hcap := st.cap.1
    have ek : kn = k := nI_inj (by omega) (by omega) (n1.symm.trans y1)
    have cz : c = some 0 := by
      rcases y4 with y | ⟨y, -⟩
      · exact y.2.2.2
      · refine absurd ⟨?_, ?_, ?_⟩ y
        · rw [← y7 316 (by decide) (by decide) k y2 y3 (by omega), ← ek]; exact c1
        · rw [← y7 320 (by decide) (by decide) k y2 y3 (by omega), ← ek]; exact c2
        · rw [← y7 323 (by decide) (by decide) k y2 y3 (by omega), ← ek]; exact c3
    have st2 := (st.strong gd).rw (r' := s_b (s_w (sA_cv (-0)) () i) f) (fun _ => by unfold s_aimc; rw [cz])
    have g1 := (st.strong gd).good
    have e1 : (A.1, A.2.1 - 0, A.2.2) = A := by rw [Int.sub_zero]
    have st3 := st2.acc (v := ()) (i' := i) (B := (A.1, A.2.1 - 0, A.2.2)) (h' := h + 1) (m' := m + 1) (e' := e) (u := σ) run_cv Fr.rfl' tle.rfl' (by omega) (by rw [e1]; exact g1.mono (by omega) (Nat.le_refl _))
    refine St.node (h := h) (m := m + 1) st3.weak (by omega) (by omega) (fun n5 u5 st5 hf5 nw => hK _ _ (kk _ _ _ st5 (hf5.mono st.tl.1) nw.nid (fun gd5 => ?_)))
    have hgr := (hf5.2.2.2.2.2.2.2 gd5).2.1
    refine ⟨fN σ 315, nw.1, Nat.le_refl _, by rw [nw.2.1]; omega, hf5.mono (fun _ => ⟨by show lo ≤ fN σ 315; omega, Nat.le_refl _, Nat.le_refl _, Nat.le_refl _⟩), fun s s1 s2 j j1 j2 => ?_, ?_⟩
    · exact hgr s s1 s2 j (by omega) j2
    · exact hgr 322 (by decide) (by decide) k (by omega) (by show k < fN σ 315; omega)
  · have st2 := (st.bd (β' := Unit) gd Fr.rfl' (fun c => c.mono (by omega)) (h' := h + 1) (w' := w) (A' := A) (m' := m + 1) (e' := e) (r' := f () i) (i' := i))
    refine St.node (h := h) (m := m + 1) st2.tt (by omega) (by omega) (fun n5 u5 st5 hf5 nw => hK _ _ (kk _ _ _ st5 (hf5.mono st.tl.1) nw.nid (fun gd5 => absurd (hf5.1 gd5) gd)))
end CONV
