/-! PHASE 3. assign(): level by level -/
section ASG3
variable {T : sT} {g : Nat} {w : cW} {A : cA} {m e : Nat} {σ : mmS} {i : Nat} {ν a d : Nat} {Q : mmQ}
theorem bd_asgIn {v : Int32} {K : Int32 → mmS → Prop} {X : Nat → mmS → Prop} (ng : ¬ GD σ) (hd : 1 ≤ d) (k : K 0 σ) : mm_ci (MC d) 3054 [.inr (.inr (3, a)), .inl v] σ K X := by
  obtain ⟨d, rfl, hd⟩ := mc_pos hd
  exact mc_ci (P := mt3054) (L := 5) rfl rfl ⟨by decide, Nat.le_of_ble_eq_true rfl⟩ fun Q hK hX => b3054_0 _ _ _ _ _ _ _ _ (br_n ng (hK _ _ k))
theorem asg_no : cAsg T 0 := by
  intro a w inn hw d g A m e i σ K X hd hq hm en k
  rcases en with hG | ⟨-, hB⟩
  · obtain ⟨d, rfl, hd⟩ := mc_pos (c := 9) (by omega)
    refine mc_ci (P := mt3053) (L := 3) rfl rfl ⟨by decide, Nat.le_of_ble_eq_true rfl⟩ fun Q hK hX => b3053_0 _ _ _ _ _ _ ?_
    have st : St T (asN T 0 σ) nid g w m e (th σ) (i + 1) (fun n u => Q (.inl (some (.inl n))) u) false 0 w A m e (none : sR sN) σ i := Or.inl ⟨hG, tle.rfl', by have := GQ_le (w_nu w); omega, fun n u rs => hK _ _ (k n u rs)⟩
    refine st.enter (by omega) (fun _ => rfl) (fun u st hf hp he => ?_)
    have ng : ¬ GD u := fun z => by have := hp z; omega
    refine bd_asgIn ng (by omega) ?_
    have st2 := st.same (u := mm_setf u 312 (mm_f u 312 - 1)) (h' := 0) (m' := m) (e' := e) (i' := i) Fr_312' (fun z => absurd z ng) (fun z => absurd z ng) (fun q => absurd q.2.1 ng) (fun c => c.setf rfl (by decide) (by decide) (by decide))
    exact st2.bad ng (nid_0 st2.ci)
  · exact bd_assign hB (by omega) (fun u c f _ => k 0 u ⟨f, Or.inr ⟨Or.inr hB.no, c, nid_0 c.1⟩⟩)
theorem asg_up (ih : cAsg T ν) (ihn : cNew T ν) (ihp : cPrm T ν) (ihu : cUna T ν) (iha : cArw T ν) : cAsg T (ν + 1) := by
  intro a w inn hw d g A m e i σ K X hd hq hm en k
  rcases en with hG | ⟨-, hB⟩
  · obtain ⟨d, rfl, hd⟩ := mc_pos (c := 50 * ν + 59) (by omega)
    refine mc_ci (P := mt3053) (L := 3) rfl rfl ⟨by decide, Nat.le_of_ble_eq_true rfl⟩ fun Q hK hX => b3053_0 _ _ _ _ _ _ ?_
    have ok := hG.ok
    have hQ : GQ ν = GQ (w_nu w) + 1370 := by
      have := ok.1
      unfold GQ
      omega
    have n1 := hG.1.2.1.2.1
    have hν : w_nu w - 1 = ν := by omega
    have st : St T (asN T (ν + 1) σ) nid g w m e (th σ) (i + 1) (fun n u => Q (.inl (some (.inl n))) u) false 0 w A m e (s_asg T (s_lv T ν) (w_x w).1 inn i) σ i := Or.inl ⟨hG, tle.rfl', by have := GQ_le (w_nu w); omega, fun n u rs => hK _ _ (k n u rs)⟩
    refine st.enter (by omega) (fun z => by omega) (fun u st hf hp he => ?_)
    by_cases gd : GD u
    · rw [hν] at st
      have g2 := st.gd gd
      have st2 := st.rw (r' := s_b (s_asg T (s_lv T ν) (w_x w).1 inn i) (fun n k => s_r n k)) (fun _ => by
        cases hx : s_asg T (s_lv T ν) (w_x w).1 inn i with
        | none => rfl
        | some z => obtain ⟨z1, z2, z3⟩ := z; simp only [s_b, s_r, sA_m0])
      refine St.callP (h := 0) (c := 0) (m' := m) (s := 1) (bb := true) (b := false) (Sh' := shN T ν) (N' := nid) (r1 := s_asg T (s_lv T ν) (w_x w).1 inn) (fun en kk => c_asgIn (w := dn w ν) (a := a) (inn := inn) ih ihn ihp ihu iha rfl (wSl_dn ok (by omega)) (by omega) (by show g + 1340 ≤ GQ ν; omega) hm en kk) (n_k 0) (st2.strong gd) (fun z => absurd z (by decide)) rfl (fun v j B q x u4 st hf4 hj4 hs4 hn4 => ?_)
      rw [← hν] at st
      have st := st.leave (fun _ => by omega) ok
      refine st.ret (fun _ => rfl) (fun _ => rfl) (fun gd => hj4 gd) q (fun _ => Nat.le_refl _) (fun _ => Nat.le_refl _) (fun gd => ?_) (fun ng => ?_)
      · have gd4 : GD u4 := gd
        obtain ⟨kk, k1, k2⟩ := hs4 gd4
        exact ⟨ν, by omega, kk, k1, (k2.lo n1 hf.nn).mono (Fr_312 (x := mm_f u4 312 - 1)) gd⟩
      · exact (hn4 ng).mono Fr_312
    · refine bd_asgIn gd (by omega) ?_
      have st2 := st.same (u := mm_setf u 312 (mm_f u 312 - 1)) (h' := 0) (m' := m) (e' := e) (i' := i) Fr_312' (fun z => absurd z gd) (fun z => absurd z gd) (fun q => absurd q.2.1 gd) (fun c => c.setf rfl (by decide) (by decide) (by decide))
      exact st2.bad gd (nid_0 st2.ci)
  · exact bd_assign hB (by omega) (fun u c f _ => k 0 u ⟨f, Or.inr ⟨Or.inr hB.no, c, nid_0 c.1⟩⟩)
/-- unary(), one nest deeper -/
theorem una_up' (ih : cAsg T ν) (ihn : cNew T ν) (ihp : cPrm T ν) (ihu : cUna T ν) : cUna T (ν + 1) :=
  una_up (q := 520) (by decide) (fun d a g w A m e i σ pw K X hw hsl hd hq hm hG k => c_unary ih ihn ihp ihu hw hsl (by omega) hq hm (Or.inl hG) k)
end ASG3
