/-! PHASE 3. identifier(), semicolon(), key() -/
theorem cG.e1 {T : sT} {w : cW} {A : cA} {m m' e i : Nat} {σ u : mmS} (h : cG T w A m e σ i) (g : cG T w A m' e u (i + 1)) (f5 : mm_f u 325 = mm_f σ 325) (f7 : mm_f u 371 = mm_f σ 371) : cG T w A m' (e + 1) u (i + 1) := by
  obtain ⟨h1, h2, h3, h4, h5, h6, h7, h8, h9, h10, h11, h12, c1, c2, c3, c4, n, c5, c6⟩ := h
  obtain ⟨g1, g2, g3, g4, g5, g6, g7, g8, g9, g10, g11, g12, d1, d2, d3, d4, n', d5, d6⟩ := g
  have e5 := fN_eq f5
  exact ⟨g1, g2, g3, g4, g5, g6, g7, g8, g9, g10, g11, g12, d1, d2, d3, by omega, n, f7.trans c5, by omega⟩
section IDENT
variable {β : Type} {T : sT} {Sh : β → Nat → Int32 → mmS → Prop} {N : Int32 → mmS → Prop} {g : Nat} {w0 : cW} {m0 e0 : Nat} {θ : cTh} {l0 : Nat} {Z : Int32 → mmS → Prop} {b : Bool} {h : Nat} {w : cW} {A : cA} {m e : Nat} {r r' : sR β} {σ σ0 : mmS} {i : Nat}
variable {ν a d : Nat} {Q : mmQ}
/-- another reading that runs the same -/
theorem St.rwR (st : St T Sh N g w0 m0 e0 θ l0 Z b h w A m e r σ i) (hr : GD σ → run (w_in w0) A r = run (w_in w0) A r') : St T Sh N g w0 m0 e0 θ l0 Z b h w A m e r' σ i := by
  rcases st with ⟨q1, q2, q3, q4⟩ | q
  · refine Or.inl ⟨q1, q2, q3, fun n u rs => q4 n u ⟨rs.1, ?_⟩⟩
    rw [hr q1.2.1]
    exact rs.2
  · exact Or.inr q
/-- a token on that may be a name's -/
theorem St.advE (st : St T Sh N g w0 m0 e0 θ l0 Z b h w A m e r σ i) (z : NZ T σ) : St T Sh N g w0 m0 e0 θ l0 Z b h w A (m + 12) (e + 1) r (mm_setf σ 311 (mm_f σ 311 + 1)) (i + 1) :=
  st.same (Fr.setf rfl (by decide) (by decide) (by decide) (by decide) (by decide) (by decide)) (fun _ => by rw [th_setf (by decide) (by decide) (by decide) (by decide)]; exact tle.rfl') (fun gd => st.tl.2 gd) (fun q => q.e1 (q.adv z) (f_other (by decide)) (f_other (by decide))) (fun q => (q.adv z).mono (Nat.le_succ _))
theorem St.ident {f : Int32 → Nat → sR β} {C : Int32 → mmS → Prop} (st : St T Sh N g w0 m0 e0 θ l0 Z b h w A m e (s_b (s_ident T i) f) σ i) (hd : 2 ≤ d) (k : ∀ x u, St T Sh N g w0 m0 e0 θ l0 Z true h w A (m + 12) (e + 1) (f x (i + 1)) u (i + 1) → Fr (th σ) σ u → (GD u → x = t_v T i ∧ t_id T i = true) → (b = false → ¬ GD u → mm_f u 311 = nI (t_e T) ∧ x = 0) → C x u) : mm_I (MC d) Q 3026 [.inr (.inr (3, a))] σ C := by
  obtain ⟨q, q1, q2, q3⟩ := st.p
  refine c_identifier hd st.ci.1 q1 (by omega) (fun z => k 0 _ (st.fl (fun gd => ?_) _ _ _ _ _ _) Fr_fl (fun q => absurd q GD_fl) (fun _ _ => ⟨fl_flags.2, rfl⟩)) (fun z => ?_)
  · rw [s_ident, ← q3 gd, z]; rfl
  · have nz : NZ T σ := by
      have : T.1 q ≠ 0 := by
        simp only [t_id, Bool.and_eq_true, beq_iff_eq] at z
        rw [z.1]
        decide
      exact ⟨q, q1, kz_lt st.ci this, this⟩
    have st2 := st.advE nz
    rw [q1, ← nI_succ] at st2
    refine k _ _ (St.tt (st2.rw fun gd => ?_)) Fr_adv (fun gd => ?_) (fun hb ng => ?_)
    · have gd2 : GD σ := gd
      rw [s_ident, ← q3 gd2, z, cond_true, s_b_r]
    · have gd2 : GD σ := gd
      rw [← q3 gd2]
      exact ⟨rfl, z⟩
    · subst hb
      exact absurd st.good.2.1 ng
theorem St.weakM {m' e' : Nat} (st : St T Sh N g w0 m0 e0 θ l0 Z b h w A m e r σ i) (hm : m' ≤ m) (he : e' ≤ e) : St T Sh N g w0 m0 e0 θ l0 Z b h w A m' e' r σ i :=
  st.same Fr.rfl' (fun _ => tle.rfl') (fun gd => st.tl.2 gd) (fun q => q.mono hm he) id
theorem St.semi {f : Unit → Nat → sR β} {C : mmS → Prop} (st : St T Sh N g w0 m0 e0 θ l0 Z b h w A m e (s_b (s_semi T i) f) σ i) (hd : 3 ≤ d) (k : ∀ u j, St T Sh N g w0 m0 e0 θ l0 Z true h w A m e (f () j) u j → Fr (th σ) σ u → (GD u → i ≤ j) → C u) : mm_V (MC d) Q 3021 [.inr (.inr (3, a))] σ C := by
  obtain ⟨q, q1, q2, q3⟩ := st.p
  refine c_semi hd st.ci.1 q1 (by omega) (fun z => ?_) (fun z z2 => ?_) (fun z z2 => ?_)
  · have st2 := st.adv (NZ_sg st.ci q1 z)
    rw [q1, ← nI_succ] at st2
    have st3 := st2.rw (r' := f () (i + 1)) (fun gd => by
      have gd2 : GD σ := gd
      rw [s_semi, ← q3 gd2, z, cond_true, s_b_r])
    exact k _ (i + 1) (st3.tt.weakM (by omega) (Nat.le_refl _)) Fr_adv (fun _ => by omega)
  · have st3 := st.rw (r' := f () i) (fun gd => by rw [s_semi, ← q3 gd, z, cond_false, z2, cond_true, s_b_r])
    exact k _ i st3.tt Fr.rfl' (fun _ => Nat.le_refl _)
  · exact k _ i (st.fl (fun gd => by rw [s_semi, ← q3 gd, z, cond_false, z2]; rfl) _ _ _ _ _ _) Fr_fl (fun q => absurd q GD_fl)
/-- what key() answers: a node of its own; where it is no expression in brackets, no name is declared -/
def keyS (T : sT) (i : Nat) (σ : mmS) (_ : Unit) (_ : Nat) (n : Int32) (u : mmS) : Prop := own (th σ) n u ∧ (t_key T i = true → mm_f u 311 = nI (i + 1) ∧ mm_f u 325 = mm_f σ 325 ∧ mm_f u 371 = mm_f σ 371)
/-- key() -/
theorem c_key {K : Int32 → mmS → Prop} {X : Nat → mmS → Prop} (ih : cAsg T ν) (hw : w_nu w = ν) (hd : 50 * ν + 12 ≤ d) (hq : g + 10 ≤ GQ (w_nu w)) (hm : 24 ≤ m) (en : cG T w A m e σ i ∨ (true = true ∧ cB T (g + 4) σ)) (k : ∀ n u, Rs T (keyS T i σ) nid g w (m + 10) e (th σ) (i + 1) A (s_key T (s_lv T ν) (w_x w).1 i) σ n u → K n u) :
    mm_ci (MC d) 3082 [.inr (.inr (3, a))] σ K X := by
  obtain ⟨d, rfl, hd⟩ := mc_pos (c := 50 * ν + 11) (by omega)
  refine mc_ci (P := mt3082) (L := 2) rfl rfl ⟨by decide, Nat.le_of_ble_eq_true rfl⟩ fun Q hK hX => b3082_0 _ _ _ _ _ ?_
  have st := St.startM (q := 10) (K := fun n u => Q (.inl (some (.inl n))) u) hq (by decide) en (fun n u rs => hK _ _ (k n u rs))
  rw [hw] at hq
  have hGQ := GQ_le ν
  have w53 : (GD σ → t_key T i = true) → NZ T σ → mm_W mt3082 (MC d) Q (53, [some (.inr (.inr (3, a))), none], []) σ := fun hz nz => by
    have st := (st.rw (r' := s_r () (i + 1)) (fun gd => by rw [s_key, hz gd]; rfl))
    obtain ⟨p, p1, p2, p3⟩ := id nz
    have st0 := st
    have st := st.adv nz
    refine b3082_53 _ _ _ _ _ ?_
    rw [show mm_f (mm_setf σ 311 (mm_f σ 311 + 1)) 311 - 1 = mm_f σ 311 by rw [f_same, Int32.add_sub_cancel]]
    refine rd' (n := 3002) p1 st.ci.1.2.2.2.2.1 (by omega) (by decide) ?_
    refine St.node (h := 3) st (by omega) (by omega) (fun n5 u5 st5 hf5 nw => ?_)
    refine st5.ret (fun _ => rfl) (fun _ => rfl) (fun _ => Nat.le_refl _) 0 (fun _ => by omega) (fun _ => Nat.le_refl _) (fun gd => ⟨own_new nw hf5 st, fun _ => ?_⟩) (fun _ => nw.nid)
    have pe : mm_f σ 311 = nI i := (st0.gd (hf5.1 gd)).2.2.1.1
    have nf := nw.2.2.2.2.2.2.2.2.2
    refine ⟨(nf 311 (by decide)).trans ?_, (nf 325 (by decide)).trans (f_other (by decide)), (nf 371 (by decide)).trans (f_other (by decide))⟩
    rw [f_same, pe, nI_1]
  refine st.rdk (fun x1 h1 z1 => br_p (fun c => w53 (fun gd => by unfold t_key t_kd; rw [h1 gd, c]; rfl) (z1 (by rw [c]; decide))) (fun c1 => st.rdk (fun x2 h2 z2 => br_p (fun c => w53 (fun gd => by unfold t_key t_kd; rw [h2 gd, c]; rfl) (z2 (by rw [c]; decide))) (fun c2 => st.rdk (fun x3 h3 z3 => br_p (fun c => w53 (fun gd => by unfold t_key t_kd; rw [h3 gd, c]; rfl) (z3 (by rw [c]; decide))) (fun c3 => st.rdk (fun x4 h4 z4 => br_p (fun c => w53 (fun gd => by unfold t_key t_kd; rw [h4 gd, c]; rfl) (z4 (by rw [c]; decide))) (fun c4 => ?_))))))))
  have kf : GD σ → t_key T i = false := fun gd => by
    have e2 : x1 = x2 := (h1 gd).symm.trans (h2 gd)
    have e3 : x1 = x3 := (h1 gd).symm.trans (h3 gd)
    have e4 : x1 = x4 := (h1 gd).symm.trans (h4 gd)
    unfold t_key t_kd
    rw [h1 gd, beq_eq_false_iff_ne.mpr c1, beq_eq_false_iff_ne.mpr (by rw [e2]; exact c2), beq_eq_false_iff_ne.mpr (by rw [e3]; exact c3), beq_eq_false_iff_ne.mpr (by rw [e4]; exact c4)]; rfl
  have st := st.rw (r' := s_b (s_nd T 4 i) (fun _ j => s_b ((s_lv T ν).1 (w_x w).1 true j) (fun _ k => s_nd T 5 k))) (fun gd => by rw [s_key, kf gd]; rfl)
  refine st.need (by omega) (fun u1 st hf1 _ => b3082_87 _ _ _ _ _ ?_)
  refine St.call (h := 4) (ih a w true hw) (n_k 0) st (fun _ => rfl) (by omega) (by rw [hw]; omega) (by omega) rfl (fun v j B q x u2 st hf2 hj hs hn => ?_)
  refine St.node (h := 3) st (by omega) (by omega) (fun n5 u5 st5 hf5 nw => ?_)
  have on := own_new nw hf5 st
  have st5 := st5.rw (r' := s_b (s_nd T 5 j) (fun _ k => s_r () k)) (fun _ => by
    unfold s_nd
    cases t_sg T j 5 with
    | false => rfl
    | true => rw [cond_true, s_b_r])
  refine st5.need (by omega) (fun u6 st6 hf6 _ => ?_)
  refine st6.ret (fun _ => rfl) (fun _ => rfl) (fun gd => by have := hj (hf5.1 (hf6.1 gd)); omega) 0 (fun _ => by omega) (fun _ => Nat.le_refl _) (fun gd => ⟨on.mono hf6, fun z => ?_⟩) (fun _ => on.nid.mono hf6)
  rw [kf (hf1.1 (hf2.1 (hf5.1 (hf6.1 gd))))] at z
  exact nomatch z
end IDENT
