/-! PHASE 3. superAt(), privateName() -/
theorem sg_ne {T : sT} {i : Nat} {s : Int32} (h : t_sg T i s = true) : T.1 i ≠ 0 := by
  unfold t_sg at h
  rw [Bool.and_eq_true] at h
  rw [eq_of_beq h.1]
  decide
theorem wd_ne {T : sT} {i : Nat} {s : Int32} (h : t_wd T i s = true) : T.1 i ≠ 0 := by
  unfold t_wd at h
  rw [Bool.and_eq_true] at h
  rw [eq_of_beq h.1]
  decide
/-- a private name more is asked for -/
theorem cG.priv {T : sT} {w : cW} {A : cA} {m e : Nat} {σ : mmS} {i : Nat} {x : Int32} (h : cG T w A m e σ i) (hi : i + 1 ≤ t_e T) (hin : w_in w = true) : cG T w (A.1, A.2.1, A.2.2.1 ++ [x], A.2.2.2) (m + 12) e (mm_setf (mm_setf (mm_seta σ 363 A.2.2.1.length x) 360 (mm_f σ 360 + 1)) 311 (mm_f σ 311 + 1)) (i + 1) := by
  obtain ⟨h1, h2, ⟨p1, p2⟩, ⟨n1, n2⟩, h5, ⟨s1, s2⟩, h7, ⟨v1, v2⟩, ⟨u1, u2, u3⟩, h10, ⟨k1, k2⟩, h12, c1, c2, c3, c4, n, c5, c6⟩ := h
  generalize hu : mm_setf (mm_setf (mm_seta σ 363 A.2.2.1.length x) 360 (mm_f σ 360 + 1)) 311 (mm_f σ 311 + 1) = u
  have hI : cI T u := by rw [← hu]; exact ((h1.seta rfl).setf rfl).setf rfl
  have f (j : Nat) (hj : j ≠ 311) (hj2 : j ≠ 360) : mm_f u j = mm_f σ j := by rw [← hu, f_other hj, f_other hj2]; rfl
  have fe (j : Nat) (hj : j ≠ 311) (hj2 : j ≠ 360) := fN_eq (f j hj hj2)
  have a (k : Nat) (hk : k ≠ 363) : mm_a u k = mm_a σ k := by rw [← hu]; exact a_seta_n hk
  have n' (k : Nat) : mm_n u k = mm_n σ k := by rw [← hu]; rfl
  refine ⟨hI, (f 303 (by decide) (by decide)).trans h2, ⟨by rw [← hu, f_same, p1]; exact (nI_succ i).symm, hi⟩, ⟨(f 312 (by decide) (by decide)).trans n1, n2⟩, h5.of (fun k k1 k2 => f k (by omega) (by omega)) (by rw [a 337 (by decide)]) (a 361 (by decide)) (a 362 (by decide)), ⟨(f 346 (by decide) (by decide)).trans s1, (f 347 (by decide) (by decide)).trans s2⟩, h7.of (f 324 (by decide) (by decide)) (f 325 (by decide) (by decide)) (f 346 (by decide) (by decide)) (fun k _ _ => ⟨a k (by omega), n' k⟩),
    ⟨(f 313 (by decide) (by decide)).trans v1, by show A.2.1 ≤ _; omega⟩, ⟨?_, ?_, fun k hk => ?_⟩, by rw [fe 336 (by decide) (by decide), cntF_of (σ := σ) (fun k _ => by rw [a 337 (by decide)])]; exact h10, ⟨(f 359 (by decide) (by decide)).trans k1, by show A.2.2.2.2 + (m + 12) ≤ _; omega⟩, by rw [f 358 (by decide) (by decide)]; exact ⟨h12.1, h12.2.1, h12.2.2.1, fun z => absurd (z.symm.trans hin) (by decide)⟩, ?_⟩
  · show mm_f u 360 = nI (A.2.2.1 ++ [x]).length
    rw [List.length_append, ← hu, f_other (by decide), f_same, u1]
    exact (nI_succ _).symm
  · show (A.2.2.1 ++ [x]).length ≤ _
    rw [List.length_append]
    simp only [List.length_cons, List.length_nil]
    omega
  · have hk : k < (A.2.2.1 ++ [x]).length := hk
    show mm_a u 363 k = (A.2.2.1 ++ [x])[k]
    rw [← hu]
    show mm_a (mm_seta σ 363 A.2.2.1.length x) 363 k = _
    by_cases c : k = A.2.2.1.length
    · subst c
      rw [a_seta_s, List.getElem_append_right (Nat.le_refl _)]
      simp
    · rw [a_seta_i c]
      rw [List.length_append] at hk
      simp only [List.length_cons, List.length_nil] at hk
      rw [List.getElem_append_left (by omega)]
      exact u3 k (by omega)
  · unfold cC
    rw [fe 315 (by decide) (by decide), fe 324 (by decide) (by decide), fe 336 (by decide) (by decide), fe 325 (by decide) (by decide)]
    exact ⟨by omega, by omega, by omega, by omega, n, (f 371 (by decide) (by decide)).trans c5, by omega⟩
theorem Fr.seta_o {θ : cTh} {σ : mmS} {s j : Nat} {x : Int32} (hs : cms s = true) (h1 : ¬ (316 ≤ s ∧ s ≤ 323)) (h2 : s ≠ 326 ∧ s ≠ 327 ∧ s ≠ 337 ∧ s ≠ 339 ∧ s ≠ 338 ∧ s ≠ 369 ∧ s ≠ 370 ∧ s ≠ 361 ∧ s ≠ 362 ∧ s ≠ 342 ∧ s ≠ 328 ∧ s ≠ 332 ∧ s ≠ 334) : Fr θ σ (mm_seta σ s j x) :=
  ⟨id, fun _ _ => rfl, ⟨rfl, gro.of (a_seta_n (by omega)) (a_seta_n (by omega)) (a_seta_n (by omega))⟩, fun k _ k2 => ⟨a_seta_n (fun e => by rw [e, hs] at k2; exact absurd k2 (by decide)), rfl, rfl, rfl⟩, ⟨Nat.le_refl _, Nat.le_refl _, Nat.le_refl _, Nat.le_refl _⟩, fun t _ => ⟨by rw [a_seta_n (by omega)], by rw [a_seta_n (by omega)]⟩, fun t _ => ⟨by rw [a_seta_n (by omega)], by rw [a_seta_n (by omega)]⟩, fun _ => ⟨Nat.le_refl _, fun k k1 k2 i _ _ => by rw [a_seta_n (by omega)], fun f _ => ⟨by rw [a_seta_n (by omega)], by rw [a_seta_n (by omega)]⟩, fun k _ => ⟨by rw [a_seta_n (by omega)], by rw [a_seta_n (by omega)]⟩, fun k _ => ⟨by rw [a_seta_n (by omega)], by rw [a_seta_n (by omega)]⟩⟩⟩
section SUP
variable {β : Type} {T : sT} {N : Int32 → mmS → Prop} {g : Nat} {w0 : cW} {m0 e0 : Nat} {θ : cTh} {l0 : Nat} {Z : Int32 → mmS → Prop} {b : Bool} {h : Nat} {w : cW} {A : cA} {m e : Nat} {σ σ0 : mmS} {i : Nat}
variable {ν a d : Nat} {Q : mmQ}
/-- what was gathered changes as the reading says -/
theorem St.acc {Sh : β → Nat → Int32 → mmS → Prop} {γ : Type} {r1 : sR γ} {v : γ} {f : γ → Nat → sR β} {u : mmS} {B : cA} {m' e' i' h' : Nat} (st : St T Sh N g w0 m0 e0 θ l0 Z false h w A m e (s_b r1 f) σ i) (hr : run (w_in w0) A r1 = some (v, i', B)) (hf : Fr θ σ u) (ht : tle (th σ) (th u)) (hh : h' ≤ h) (hg : cG T w B m' e' u i') : St T Sh N g w0 m0 e0 θ l0 Z false h' w B m' e' (f v i') u i' := by
  rcases st with ⟨q1, q2, q3, q4⟩ | ⟨q, -⟩
  · have l : tle θ (th u) := ⟨Nat.le_trans q2.1 ht.1, Nat.le_trans q2.2.1 ht.2.1, Nat.le_trans q2.2.2.1 ht.2.2.1, Nat.le_trans q2.2.2.2 ht.2.2.2⟩
    refine Or.inl ⟨hg, l, by omega, fun n v' rs => q4 n v' ⟨hf.trans rs.1, ?_⟩⟩
    have e : run (w_in w0) A (s_b r1 f) = run (w_in w0) B (f v i') := by rw [run_b, hr]
    rw [e]
    rcases rs.2 with x | ⟨y1 | y1, y2⟩
    · exact Or.inl x
    · exact Or.inr ⟨Or.inl y1, y2⟩
    · exact absurd hg.2.1 y1
  · exact absurd q (by decide)
theorem St_flN {Sh : β → Nat → Int32 → mmS → Prop} {r : sR β} (st : St T Sh N g w0 m0 e0 θ l0 Z b h w A m e r σ i) (hr : GD σ → run (w_in w0) A r = none) (r' : sR β) (w' : cW) (A' : cA) (m' e' i' : Nat) : St T Sh N g w0 m0 e0 θ l0 Z true h w' A' m' e' r' (fl T σ) i' := by
  rcases st with ⟨q1, q2, q3, q4⟩ | ⟨q1, q2, q3⟩
  · exact Or.inr ⟨rfl, q1.bad q3, fun n u f c hn => q4 n u ⟨Fr_fl.trans f, Or.inr ⟨Or.inl (hr q1.2.1), c, hn⟩⟩⟩
  · exact Or.inr ⟨rfl, q2.again, fun n u f c hn => q3 n u (Fr_fl.trans f) c hn⟩
theorem St.priv {Sh : β → Nat → Int32 → mmS → Prop} {f : Unit → Nat → sR β} {C : Int32 → mmS → Prop} (st : St T Sh N g w0 m0 e0 θ l0 Z false h w A m e (s_b (s_w (sA_pu (t_v T i)) () (i + 1)) f) σ i) (hd : 2 ≤ d) (hw : w_in w = w_in w0) (hk : T.1 i ≠ 0)
    (k : ∀ u x B, St T Sh N g w0 m0 e0 θ l0 Z true h w B (m + 12) e (f () (i + 1)) u (i + 1) → Fr (th σ) σ u → (¬ GD u → mm_f u 311 = nI (t_e T)) → C x u) : mm_I (MC d) Q 3085 [.inr (.inr (3, a))] σ C := by
  obtain ⟨d, rfl, hd⟩ := mc_pos hd
  refine mc_ci (P := mt3085) (L := 2) rfl rfl ⟨by decide, Nat.le_of_ble_eq_true rfl⟩ fun Q hK hX => b3085_0 _ _ _ _ _ (st.rdv (fun x hx => ?_))
  have q := st.good
  obtain ⟨c1, c2, c3, -⟩ := q.2.2.2.2.2.2.2.2.2.2.2.1
  generalize hcl : w_cl w = c at c1 c2 c3
  have hi := lt_e q.1 q.2.2.1.2 hk
  have u1 := q.2.2.2.2.2.2.2.2.1.1
  have u2 := q.2.2.2.2.2.2.2.2.1.2.1
  have e363 : mm_n σ 363 = 3002 := q.1.2.2.2.2.2.2.1.2.2.1
  have he := q.1.1.2.2.2.2.2.2.2.1
  refine br_p (fun z => ?_) (fun z => ?_)
  · have w0' : w_in w = false := by
      rw [c3]
      rw [c1] at z
      have : c = 0 := by
        by_cases c0 : c = 0
        · exact c0
        · exact absurd z (nI_ne0 (by omega) (by omega))
      rw [this]; rfl
    refine c_fail (by omega) st.ci.1 (hK _ _ (k _ _ A (St_flN st (fun gd => ?_) _ _ _ _ _ _) Fr_fl (fun _ => fl_flags.2)))
    rw [run_b, ← hw, w0']
    rfl
  · have w1 : w_in w = true := by
      rw [c3]
      rw [c1] at z
      have : 0 < c := by
        by_cases c0 : c = 0
        · rw [c0] at z; exact absurd nI_0 z
        · omega
      simp [this]
    rw [u1]
    refine wr e363 (by omega) (by decide) (hK _ _ (k _ _ (A.1, A.2.1, A.2.2.1 ++ [x], A.2.2.2) ?_ ?_ (fun z => absurd q.2.1 z)))
    · have q2 := q.priv (x := x) (by omega) w1
      have fr : Fr θ σ (mm_setf (mm_setf (mm_seta σ 363 A.2.2.1.length x) 360 (mm_f σ 360 + 1)) 311 (mm_f σ 311 + 1)) := ((Fr.seta_o rfl (by decide) (by decide)).trans (Fr.setf rfl (by decide) (by decide) (by decide) (by decide) (by decide) (by decide))).trans (Fr.setf rfl (by decide) (by decide) (by decide) (by decide) (by decide) (by decide))
      have st2 := st.acc (v := ()) (i' := i + 1) (B := (A.1, A.2.1, A.2.2.1 ++ [x], A.2.2.2)) (h' := h) (by
        rw [← hw, w1]
        obtain ⟨A1, A2, A3, A4, A5⟩ := A
        simp [run, s_w, sA_pu, A_st, h_run, hx q.2.1]) fr (by rw [th_setf (by decide) (by decide) (by decide) (by decide), th_setf (by decide) (by decide) (by decide) (by decide)]; exact tle.rfl') (Nat.le_refl _) q2
      rw [f_other (i := 360) (j := 311) (by decide), f_seta, f_seta]
      exact st2.weak
    · exact ((Fr.seta_o (θ := th σ) rfl (by decide) (by decide)).trans (Fr.setf rfl (by decide) (by decide) (by decide) (by decide) (by decide) (by decide))).trans (Fr.setf rfl (by decide) (by decide) (by decide) (by decide) (by decide) (by decide))
theorem c_superAt {K : Int32 → mmS → Prop} {X : Nat → mmS → Prop} (ih : cAsg T ν) (hw : w_nu w = ν) (hd : 50 * ν + 13 ≤ d) (hq : g + 10 ≤ GQ (w_nu w)) (hm : 24 ≤ m) (hk : T.1 i ≠ 0) (en : cG T w A m e σ i ∨ (false = true ∧ cB T (g + 0) σ)) (k : ∀ n u, Rs T (shN T ν σ) nid g w m e (th σ) (i + 1) A (s_sup T (s_lv T ν) (w_x w).1 i) σ n u → K n u) :
    mm_ci (MC d) 3072 [.inr (.inr (3, a))] σ K X := by
  obtain ⟨d, rfl, hd⟩ := mc_pos (c := 50 * ν + 12) (by omega)
  refine mc_ci (P := mt3072) (L := 2) rfl rfl ⟨by decide, Nat.le_of_ble_eq_true rfl⟩ fun Q hK hX => b3072_0 _ _ _ _ _ ?_
  have st := St.start (q := 10) (K := fun n u => Q (.inl (some (.inl n))) u) hq (by decide) en (fun n u rs => hK _ _ (k n u rs))
  have n1 := st.ci.2.1.2.1
  have hGQ := GQ_le ν
  rw [hw] at hq
  have st := st.adv (NZ_g st.good hk)
  have n2 : fN (mm_setf σ 311 (mm_f σ 311 + 1)) 315 = fN σ 315 := fN_eq (f_other (by decide))
  have gd := st.good.2.1
  have st := st.rise (h' := 4) gd (by omega)
  have x3 := st.good.2.2.2.2.1.1
  refine st.sign (by omega) (fun z => br_p (fun c => ?_) (fun c => ?_)) (fun z nz => br_p (fun c => ?_) (fun c => ?_))
  · refine St.fail (st.f z |>.f fun _ => ?_) (by omega) (fun _ => rfl) (fun u ng st hf => st.bad ng (nid_0 st.ci))
    exact bI_0.mp (x3.2.2.1.symm.trans c)
  · have hh : (w_x w).1.2.2.1 = true := by
      cases hx : (w_x w).1.2.2.1 with
      | true => rfl
      | false => exact absurd (x3.2.2.1.trans (by rw [hx]; rfl)) c
    have st := (st.f z).t fun _ => hh
    refine st.mark (by omega) (by decide) (fun u1 st hf1 _ => ?_)
    refine st.eat (by omega) (fun z6 => ?_) (fun u2 z6 st hf2 => ?_)
    · refine St.need (st.f z6) (by omega) (fun u3 st hf3 _ => ?_)
      refine St.call (c_expression (a := a) (inn := true) ih hw) (n_k 0) st (fun z => rfl) (by omega) (by rw [hw]; omega) (by omega) rfl (fun v j B q x4 u4 st hf4 hj hs hn => ?_)
      refine St.node (h := 2) st (by omega) (by omega) (fun n5 u5 st hf5 nw => ?_)
      have ht := st.tl.1
      refine St.need st (by omega) (fun u6 st hf6 _ => b3072_149 _ _ _ _ _ ?_)
      exact st.ret (fun _ => rfl) (fun _ => rfl) (fun gd => by have := hj (hf5.1 (hf6.1 gd)); omega) 1 (fun _ => by omega) (fun _ => Nat.le_refl _) (fun gd => by
        obtain ⟨k, k1, k2⟩ := sh_k (T := T) (ν := ν) (σ0 := σ) nw n1 (by have := hf1.nn; have := hf3.nn; have := hf4.nn; omega) rfl
        exact ⟨k, k1, k2.mono hf6 gd⟩) (fun _ => nw.nid.mono hf6)
    · refine st.rdk (fun x hx hnz => br_p (fun c => ?_) (fun c => ?_))
      · have st := (St.t st fun gd => z6 (hf2.1 gd)).t (fun gd => by unfold t_kd; rw [hx gd, c]; rfl)
        have st := st.adv (hnz (by rw [c]; decide))
        refine b3072_105 _ _ _ _ _ ?_
        obtain ⟨p, p1, p2, p3⟩ := st.p
        have e : mm_f (mm_setf u2 311 (mm_f u2 311 + 1)) 311 - 1 = mm_f u2 311 := by rw [f_same, Int32.add_sub_cancel]
        rw [e]
        have st' := st
        obtain ⟨p', p1', p2', -⟩ := (hnz (by rw [c]; decide) : NZ T u2)
        refine rd' (n := 3002) p1' st.ci.1.2.2.2.2.1 (by omega) (by decide) ?_
        refine St.node (h := 3) st (by omega) (by omega) (fun n5 u5 st hf5 nw => ?_)
        exact st.ret (fun _ => rfl) (fun _ => rfl) (fun gd => by omega) 1 (fun _ => by omega) (fun _ => Nat.le_refl _) (fun gd => sh_k nw n1 (by
          have := hf1.nn; have := hf2.nn
          rw [fN_eq (f_other (by decide) : mm_f (mm_setf u2 311 (mm_f u2 311 + 1)) 315 = mm_f u2 315)]; omega) rfl) (fun _ => nw.nid)
      · exact ((St.t st fun gd => z6 (hf2.1 gd)).f (fun gd => by unfold t_kd; rw [hx gd]; exact beq_eq_false_iff_ne.mpr c)).fail (by omega) (fun _ => rfl) (fun u ng st hf => st.bad ng (nid_0 st.ci))
  · refine St.fail ((st.t z).f fun _ => ?_) (by omega) (fun _ => rfl) (fun u ng st hf => st.bad ng (nid_0 st.ci))
    exact bI_0.mp (x3.2.2.2.1.symm.trans c)
  · have hh : (w_x w).1.2.2.2.1 = true := by
      cases hx : (w_x w).1.2.2.2.1 with
      | true => rfl
      | false => exact absurd (x3.2.2.2.1.trans (by rw [hx]; rfl)) c
    have st := (st.t z).t fun _ => hh
    have z := z gd
    refine st.mark (by omega) (by decide) (fun u1 st hf1 _ => ?_)
    refine st.callP (h := 3) (fun en kk => c_arguments ih hw (by omega) (by rw [hw]; omega) (by omega) (NZ_g st.good (sg_ne z)) en kk) () (fun z => z) rfl (fun v j B q x4 u4 st hf4 hj hs hn => ?_)
    refine St.node (h := 2) st (by omega) (by omega) (fun n5 u5 st hf5 nw => ?_)
    exact st.ret (fun _ => rfl) (fun _ => rfl) (fun gd => by have := hj (hf5.1 gd); omega) 1 (fun _ => by omega) (fun _ => Nat.le_refl _) (fun gd => sh_k nw n1 (by have := hf1.nn; have := hf4.nn; omega) rfl) (fun _ => nw.nid)
end SUP
