/-! PHASE 3. asTarget() as a rule; yielding() -/
section AIM
variable {β : Type} {T : sT} {Sh : β → Nat → Int32 → mmS → Prop} {N : Int32 → mmS → Prop} {g : Nat} {w0 : cW} {m0 e0 : Nat} {θ : cTh} {l0 : Nat} {Z : Int32 → mmS → Prop} {b : Bool} {h : Nat} {w : cW} {A : cA} {m e : Nat} {r : sR β} {σ σ0 : mmS} {i : Nat}
variable {ν a d : Nat} {Q : mmQ}
/-- a reading that turns a node into a target first -/
def s_aim (v : sN) (j : Nat) (f : Unit → Nat → sR β) : sR β := match n_tg v with
  | none => none
  | some c => s_b (s_w (sA_cv (-c)) () j) f
theorem run_cv {A : cA} {c : Int} {j : Nat} {inn : Bool} : run inn A (s_w (sA_cv (-c)) () j) = some ((), j, (A.1, A.2.1 - c, A.2.2)) := by
  obtain ⟨L, cv, us, f, k⟩ := A
  simp [run, s_w, sA_cv, A_st, h_run, Int.sub_eq_add_neg]
theorem rN_no {k : Nat} {v : sN} (hr : rN v k σ) (h9 : ¬ mm_a σ 316 k = 9) (h10 : ¬ mm_a σ 316 k = 10) (hs : n_si v = false) (hp : v.2.2.2.1 = false) : n_tg v = none := by
  obtain ⟨r1, r2, r3, r4, r5, r6, r7, r8⟩ := hr
  unfold n_tg
  rw [hs, hp]
  exact r7 (fun z => by rcases z with z | z; exact h9 (r1.trans z); exact h10 (r1.trans z))
theorem St.tt (st : St T Sh N g w0 m0 e0 θ l0 Z b h w A m e r σ i) : St T Sh N g w0 m0 e0 θ l0 Z true h w A m e r σ i := by
  rcases st with q | ⟨-, q⟩
  · exact Or.inl q
  · exact Or.inr ⟨rfl, q⟩
abbrev flt (T : sT) (σ : mmS) : mmS := fl T σ
theorem St_bad_of {u : mmS} {h' : Nat} {r' : sR β} {w' : cW} {A' : cA} {m' e' i' : Nat} (st : St T Sh N g w0 m0 e0 θ l0 Z b h w A m e r σ i) (gd : GD σ) (hr : run (w_in w0) A r = none) (hc : cB T (g + h') u) (hf : Fr θ σ u) : St T Sh N g w0 m0 e0 θ l0 Z true h' w' A' m' e' r' u i' := by
  rcases st with ⟨q1, q2, q3, q4⟩ | ⟨-, q, -⟩
  · exact Or.inr ⟨rfl, hc, fun n v f c hn => q4 n v ⟨hf.trans f, Or.inr ⟨Or.inl hr, c, hn⟩⟩⟩
  · exact absurd gd q.no
theorem th_le {u : mmS} {w : cW} {A A' : cA} {m m' e e' i i' : Nat} (q1 : cG T w A m e σ i) (x2 : cG T w A' m' e' u i') (hf : Fr θ σ u) : tle (th σ) (th u) := by
  have hg := (hf.2.2.2.2.2.2.2 x2.2.1).1
  obtain ⟨f1, f2, f3, f4⟩ := hf.2.2.2.2.1
  have e1 : fN σ 356 = fN u 356 := by
    have a1 := q1.2.2.2.2.1.2.2.2.2.2.1
    have a2 := x2.2.2.2.2.1.2.2.2.2.2.1
    exact (fN_eq (a1.trans a2.symm))
  exact ⟨f1, f4, hg, by show fN σ 356 ≤ fN u 356; omega⟩
theorem St.aim {lo q : Nat} {v : sN} {n : Int32} {f : Unit → Nat → sR β} {C : Int32 → mmS → Prop} (hw : w_in w = w_in w0) (st : St T Sh N g w0 m0 e0 θ l0 Z b (h + 64) w A (m + q) e (s_aim v i f) σ i) (hd : 6 * ν + 10 ≤ d) (hd2 : 2 ≤ d) (hm : 24 ≤ m) (hg : g + h + 6 * ν + 128 ≤ 69500) (hn : ndK T ν lo v q n σ) (ho : GD σ → θ.1 ≤ lo)
    (k : ∀ n' u B, St T Sh N g w0 m0 e0 θ l0 Z true h w B m e (f () i) u i → Fr θ σ u → nid n' u → C n' u) : mm_I (MC d) Q 3103 [.inr (.inr (3, a)), .inl n] σ C := by
  obtain ⟨kk, rfl, k2, k3⟩ := id hn
  -- nothing is changed
  have stay : GD σ → n_tg v = some 0 → C (nI kk) σ := fun gd hz => by
    have st2 := (st.strong gd).rw (r' := s_b (s_w (sA_cv (-0)) () i) f) (fun _ => by unfold s_aim; rw [hz])
    have g1 := (st.strong gd).good
    have e1 : (A.1, A.2.1 - 0, A.2.2) = A := by rw [Int.sub_zero]
    have st3 := st2.acc (v := ()) (i' := i) (B := (A.1, A.2.1 - 0, A.2.2)) (h' := h) (m' := m) (e' := e) (u := σ) run_cv Fr.rfl' tle.rfl' (by omega) (by rw [e1]; exact g1.mono (by omega) (Nat.le_refl _))
    exact k _ _ _ st3.weak Fr.rfl' ⟨kk, rfl, k2⟩
  have nope : GD σ → n_tg v = none → C 0 (flt T σ) := fun gd hz => by
    have g1 := st.gd gd
    have hr : run (w_in w0) A (s_aim v i f) = none := by unfold s_aim; rw [hz]; rfl
    have st3 := St_bad_of (h' := h) (r' := f () i) (w' := w) (A' := A) (m' := m) (e' := e) (i' := i) st gd hr (g1.bad (by omega)) Fr_fl
    exact k _ _ _ st3 Fr_fl (nid_0 st3.ci)
  by_cases hl : GD σ ∧ (v.1 = 9 ∨ v.1 = 10) ∧ v.2.2.2.1 = false
  · obtain ⟨gd, l1, l2⟩ := hl
    have c := (k3 gd).2.2.2.2 l1 l2
    have hs : n_si v = false := by
      unfold n_si
      rcases l1 with z | z <;> rw [z] <;> rfl
    have ht : n_tg v = v.2.2.2.2.1 := by
      unfold n_tg
      rw [hs, l2]; rfl
    have g1 := (st.strong gd).good
    refine c d a (g + h) w A m e i σ C _ hd (by omega) g1 hm (Nat.le_refl _) (fun _ _ _ _ _ _ _ => rfl) (fun u z z1 z2 z3 z4 z5 => ?_) (fun n u z1 z2 z3 z4 => ?_)
    · have st2 := (st.strong gd).rw (r' := s_b (s_w (sA_cv (-z)) () i) f) (fun _ => by unfold s_aim; rw [ht, z1])
      have fr : Fr θ σ u := z3.mono fun gd => ⟨ho gd, (st.tl.1 gd).2.1, (st.tl.1 gd).2.2.1, (st.tl.1 gd).2.2.2⟩
      have st3 := st2.acc (v := ()) (i' := i) (B := (A.1, A.2.1 - z, A.2.2)) (h' := h) (m' := m) (e' := e) (u := u) run_cv fr (th_le g1 z2 z3) (by omega) z2
      exact k _ _ _ st3.weak fr ⟨kk, rfl, Nat.lt_of_lt_of_le k2 z3.nn⟩
    · have hr : run (w_in w0) A (s_aim v i f) = none := by unfold s_aim; rw [ht, z1]; rfl
      have fr : Fr θ σ u := z3.mono st.tl.1
      exact k _ _ _ (St_bad_of (h' := h) (r' := f () i) (w' := w) (A' := A) (m' := m) (e' := e) (i' := i) st gd hr z2 fr) fr z4
  · obtain ⟨d, rfl, hd2⟩ := mc_pos hd2
    refine mc_ci (P := mt3103) (L := 6) rfl rfl ⟨by decide, Nat.le_of_ble_eq_true rfl⟩ fun Q2 hK hX => b3103_0 _ _ _ _ _ _ _ _ _ (br_p (fun gd => ?_) (fun ng => ?_))
    · have sm := k3 gd
      have hr := sm.2.2.2.1
      refine st.simp2 (by omega) hn (fun z => st.rdn (by decide) rfl k2 (br_p (fun c => ?_) (fun c => ?_))) (fun z => hK _ _ (stay gd ?_))
      · have hp : v.2.2.2.1 = false := by
          have := hr.2.2.2.1
          rw [c] at this
          exact bI_0.mp this.symm
        have n9 : ¬ mm_a σ 316 kk = 9 := fun y => hl ⟨gd, Or.inl (hr.1.symm.trans y), hp⟩
        have n10 : ¬ mm_a σ 316 kk = 10 := fun y => hl ⟨gd, Or.inr (hr.1.symm.trans y), hp⟩
        exact st.rdn (by decide) rfl k2 (br_n n9 (st.rdn (by decide) rfl k2 (br_n n10 (c_fail (by omega) st.ci.1 (hK _ _ (nope gd (rN_no hr n9 n10 (z gd) hp)))))))
      · refine c_fail (by omega) st.ci.1 (hK _ _ (nope gd ?_))
        have hp : v.2.2.2.1 = true := by
          cases hx : v.2.2.2.1 with
          | true => rfl
          | false => exact absurd (hr.2.2.2.1.trans (by rw [hx]; rfl)) c
        unfold n_tg
        rw [z gd, hp]; rfl
      · unfold n_tg
        rw [z gd]; rfl
    · exact hK _ _ (k _ _ A (St.tt (st.bd (β' := Unit) ng Fr.rfl' (fun c => c.mono (by omega)) (h' := h) (w' := w) (A' := A) (m' := m) (e' := e) (r' := f () i) (i' := i))) Fr.rfl' ⟨kk, rfl, k2⟩)
end AIM
