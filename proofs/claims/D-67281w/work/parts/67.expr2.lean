/-! PHASE 3. assign() where all is bad; expression() -/
theorem cB.setf {T : sT} {g k : Nat} {σ : mmS} {x : Int32} (h : cB T g σ) (hk : cif k = false) (h1 : k ≠ 303) (h2 : k ≠ 311) (h3 : k ≠ 360) : cB T g (mm_setf σ k x) := by
  obtain ⟨a1, a2, ⟨q, q1, q2, q3, q4, q5, q6, q7⟩, n, u1, u2⟩ := h
  have f (j : Nat) (hj : cif j = true) : fN (mm_setf σ k x) j = fN σ j := by
    unfold fN
    rw [f_other (fun e => by rw [e, hk] at hj; exact absurd hj (by decide))]
  refine ⟨a1.setf hk, (f_other h1.symm).trans a2, ⟨q, (f_other h2.symm).trans q1, q2, q3, ?_, ?_, ?_, ?_⟩, n, (f_other h3.symm).trans u1, u2⟩
  · rw [f 315 rfl]; exact q4
  · rw [f 324 rfl]; exact q5
  · rw [f 336 rfl]; exact q6
  · rw [f 325 rfl]; exact q7
/-- the place stays, or is the end -/
def stay (T : sT) (σ u : mmS) : Prop := mm_f u 311 = mm_f σ 311 ∨ mm_f u 311 = nI (t_e T)
theorem stay.trans {T : sT} {σ u v : mmS} (h : stay T σ u) (g : stay T u v) : stay T σ v := by
  rcases g with g | g
  · rcases h with h | h
    · exact Or.inl (g.trans h)
    · exact Or.inr (g.trans h)
  · exact Or.inr g
theorem Fr_312 {σ : mmS} {x : Int32} : Fr (th σ) σ (mm_setf σ 312 x) := Fr.setf rfl (by decide) (by decide) (by decide) (by decide) (by decide) (by decide)
theorem Fr.t {σ u v : mmS} (h : Fr (th σ) σ u) (g : Fr (th u) u v) (l : GD u → tle (th σ) (th u)) : Fr (th σ) σ v := h.trans (g.mono l)
section BAD
variable {T : sT} {g d a : Nat} {σ : mmS} {K : Int32 → mmS → Prop} {V : mmS → Prop} {X : Nat → mmS → Prop}
theorem bd_enter (h : cB T g σ) (hd : 2 ≤ d) (k : ∀ u, cB T g u → Fr (th σ) σ u → stay T σ u → V u) : mm_cv (MC d) 3043 [.inr (.inr (3, a))] σ V X := by
  obtain ⟨d, rfl, hd⟩ := mc_pos hd
  have c := h.setf (k := 312) (x := mm_f σ 312 + 1) rfl (by decide) (by decide) (by decide)
  refine mc_cv (P := mt3043) (L := 1) rfl rfl ⟨by decide, Nat.le_of_ble_eq_true rfl⟩ fun Q hK hX => b3043_0 _ _ _ _ (br_p (fun _ => ?_) (fun _ => hK _ (k _ c Fr_312 (Or.inl (f_other (by decide))))))
  refine c_fail (by omega) c.1.1 ⟨rfl, hK _ (k _ c.again (Fr_312.t Fr_fl fun z => absurd z c.no) (Or.inr fl_flags.2))⟩
theorem bd_assign {v : Int32} (h : cB T g σ) (hd : 4 ≤ d) (k : ∀ u, cB T g u → Fr (th σ) σ u → stay T σ u → K 0 u) : mm_ci (MC d) 3053 [.inr (.inr (3, a)), .inl v] σ K X := by
  obtain ⟨d, rfl, hd⟩ := mc_pos hd
  refine mc_ci (P := mt3053) (L := 3) rfl rfl ⟨by decide, Nat.le_of_ble_eq_true rfl⟩ fun Q hK hX => b3053_0 _ _ _ _ _ _ ?_
  refine bd_enter h (by omega) (fun u c f s => ?_)
  obtain ⟨d, rfl, hd⟩ := mc_pos (c := 2) (by omega)
  refine mc_ci (P := mt3054) (L := 5) rfl rfl ⟨by decide, Nat.le_of_ble_eq_true rfl⟩ fun Q2 hK2 hX2 => b3054_0 _ _ _ _ _ _ _ _ (br_n c.no (hK2 _ _ (hK _ _ ?_)))
  exact k _ (c.setf rfl (by decide) (by decide) (by decide)) (f.t Fr_312 fun z => absurd z c.no) (s.trans (Or.inl (f_other (by decide))))
end BAD
section EXPR2
variable {β : Type} {T : sT} {N : Int32 → mmS → Prop} {g : Nat} {w0 : cW} {m0 e0 : Nat} {θ : cTh} {l0 : Nat} {Z : Int32 → mmS → Prop} {b : Bool} {h : Nat} {w : cW} {A : cA} {m e : Nat} {σ : mmS} {i : Nat}
theorem St.bd {β' : Type} {Sh : β → Nat → Int32 → mmS → Prop} {r r' : sR β} {u : mmS} {h' m' e' i' : Nat} {w' : cW} {A' : cA} (st : St T Sh N g w0 m0 e0 θ l0 Z b h w A m e r σ i) (ng : ¬ GD σ) (hf : Fr (th σ) σ u) (hb : cB T (g + h) σ → cB T (g + h') u) : St T Sh N g w0 m0 e0 θ l0 Z b h' w' A' m' e' r' u i' := by
  rcases st with ⟨q, -⟩ | ⟨q1, q2, q3⟩
  · exact absurd q.2.1 ng
  · exact Or.inr ⟨q1, hb q2, fun n v f c hn => q3 n v ((hf.mono (fun z => absurd z ng)).trans f) c hn⟩
theorem St.rise {Sh : β → Nat → Int32 → mmS → Prop} {r : sR β} {h' : Nat} (st : St T Sh N g w0 m0 e0 θ l0 Z b h w A m e r σ i) (gd : GD σ) (hg : g + h' ≤ 69500) : St T Sh N g w0 m0 e0 θ l0 Z b h' w A m e r σ i := by
  rcases st with ⟨q1, q2, q3, q4⟩ | ⟨-, q, -⟩
  · exact Or.inl ⟨q1, q2, hg, q4⟩
  · exact absurd gd q.no
theorem St.cb {Sh : β → Nat → Int32 → mmS → Prop} {r : sR β} (st : St T Sh N g w0 m0 e0 θ l0 Z b h w A m e r σ i) (ng : ¬ GD σ) : cB T (g + h) σ := by
  rcases st with ⟨q, -⟩ | ⟨-, q, -⟩
  · exact absurd q.2.1 ng
  · exact q
variable {ν a d : Nat} {inn : Bool} {Q : mmQ} {σ0 : mmS}
theorem expr_bad {v1 : Int32} {Sh : β → Nat → Int32 → mmS → Prop} {r : sR β} (hd : 50 * ν + 10 ≤ d) (hg : g + 1 ≤ 69500) (k : Nat) : ∀ (q : Nat) (σ : mmS) (n : Int32), mm_f σ 311 = nI q → pot T q ≤ k → q ≤ 1332 → ¬ GD σ → nid n σ → St T Sh nid g w0 m0 e0 θ l0 (fun n u => Q (.inl (some (.inl n))) u) b 0 w A m e r σ i → mm_W mt3074 (MC d) Q (6, [some (.inr (.inr (3, a))), some (.inl v1), some (.inl n)], []) σ := by
  induction k with
  | zero =>
    intro q σ n hq hk hq2 ng hn st
    refine b3074_6 _ _ _ _ _ _ (st.sign (by omega) (fun _ => st.bad ng hn) (fun _ z => ?_))
    obtain ⟨p, p1, p2, p3⟩ := z
    have e : p = q := nI_inj (by omega) (by omega) (p1.symm.trans hq)
    subst e
    have hqe : p ≠ t_e T := fun e => p3 (by rw [e]; exact st.ci.1.2.2.2.2.2.2.2.2.1)
    obtain ⟨q', q1', q2', q3', -⟩ := (st.cb ng).2.2.1
    have e : q' = p := nI_inj (by omega) (by omega) (q1'.symm.trans hq)
    subst e
    have hp := pot_1 hqe q2' p2
    omega
  | succ k ih =>
    intro q σ n hq hk hq2 ng hn st
    refine b3074_6 _ _ _ _ _ _ (st.sign (by omega) (fun _ => st.bad ng hn) (fun _ z => ?_))
    have st1 := st.adv1 z (by omega)
    obtain ⟨p, p1, p2, p3⟩ := z
    have e : p = q := nI_inj (by omega) (by omega) (p1.symm.trans hq)
    subst e
    have hqe : p ≠ t_e T := fun e => p3 (by rw [e]; exact st.ci.1.2.2.2.2.2.2.2.2.1)
    obtain ⟨q', q1', q2', q3', -⟩ := (st.cb ng).2.2.1
    have e : q' = p := nI_inj (by omega) (by omega) (q1'.symm.trans hq)
    subst e
    have hp := pot_1 hqe q2' p2
    have ng1 : ¬ GD (mm_setf σ 311 (mm_f σ 311 + 1)) := ng
    refine bd_assign (st1.cb ng1) (by omega) (fun u c f s => ?_)
    have st2 := st1.bd (β' := Unit) ng1 f (fun _ => c) (h' := 1) (w' := w) (A' := A) (m' := 24) (e' := e) (i' := i) (r' := r)
    have ngu : ¬ GD u := fun z => ng1 (f.1 z)
    refine st2.node (h := 0) (by omega) (by decide) (fun n2 u2 st3 f3 nw => ?_)
    have ngu2 : ¬ GD u2 := fun z => ngu (f3.1 z)
    have st4 := st3.bd (β' := Unit) ngu2 Fr.rfl' (fun z => z) (h' := 0) (w' := w) (A' := A) (m' := m) (e' := e) (i' := i) (r' := r)
    have p311 : mm_f u2 311 = mm_f u 311 := nw.2.2.2.2.2.2.2.2.2 311 (by decide)
    rcases s with s | s
    · exact ih (q' + 1) u2 n2 (by rw [p311, s, f_same, hq, nI_1]) (by omega) (by omega) ngu2 nw.nid st4
    · exact ih (t_e T) u2 n2 (p311.trans s) (by rw [pot_e]; omega) (by have := st.ci.1.2.2.2.2.2.2.2.1; omega) ngu2 nw.nid st4
/-- further expressions behind commas -/
theorem expr_loop (ih : cAsg T ν) (hw : w_nu w = ν) (hd : 50 * ν + 10 ≤ d) (hq : g + 2 ≤ GQ ν) (h0 : 1 ≤ fN σ0 315) (f : Nat) : ∀ (b : Bool) (A : cA) (m i q : Nat) (v : sN) (σ : mmS) (n : Int32), (GD σ → l0 ≤ i) → (GD σ → t_e T < f + i) → 24 ≤ m → m0 + q ≤ m → fN σ0 315 ≤ fN σ 315 → (GD σ → shN T ν σ0 v q n σ) → (¬ GD σ → nid n σ) →
    St T (shN T ν σ0) nid g w m0 e θ l0 (fun n u => Q (.inl (some (.inl n))) u) b 1 w A m e (s_exprL T (s_lv T ν) (w_x w).1 inn f v i) σ i → mm_W mt3074 (MC d) Q (6, [some (.inr (.inr (3, a))), some (.inl (bI inn)), some (.inl n)], []) σ := by
  have hGQ := GQ_le ν
  induction f with
  | zero =>
    intro b A m i q v σ n hl0 hf hm hm2 hl hs hn st
    by_cases gd : GD σ
    · have := hf gd
      have := (st.gd gd).2.2.1.2
      omega
    · obtain ⟨p, p1, p2, -⟩ := st.p
      exact expr_bad hd (by omega) 1262 p σ n p1 pot_le p2 gd (hn gd) (st.mono (Nat.zero_le _))
  | succ f IH =>
    intro b A m i q v σ n hl0 hf hm hm2 hl hs hn st
    by_cases gd : GD σ
    · refine b3074_6 _ _ _ _ _ _ (st.sign (by omega) (fun z => ?_) (fun z nz => ?_))
      · exact (St.f st z).ret (fun _ => rfl) (fun _ => rfl) hl0 q (fun _ => hm2) (fun _ => Nat.le_refl _) hs hn
      · have st1 := (St.t st z).adv nz
        refine St.call (ih a w inn hw) (n_k 0) st1 (fun z => rfl) (by omega) (by rw [hw]; omega) (by omega) rfl (fun v2 j2 B2 q2 x2 u2 st2 hf2 hj2 hs2 hn2 => ?_)
        refine st2.node (h := 0) (by omega) (by omega) (fun n3 u3 st3 hf3 nw => ?_)
        have l2 : fN σ 315 ≤ fN u2 315 := by
          have := hf2.nn
          rw [fN_eq (f_other (by decide) : mm_f (mm_setf σ 311 (mm_f σ 311 + 1)) 315 = mm_f σ 315)] at this
          exact this
        have l3 := hf3.nn
        by_cases gd3 : GD u3
        · refine IH true B2 (m + 12 + q2 - 1) j2 1 (n_k 29) u3 n3 (fun _ => ?_) (fun _ => ?_) (by omega) (by omega) (by omega) (fun _ => sh_k nw h0 (by omega) rfl) (fun _ => nw.nid) ?_
          · have := hl0 gd; have := hj2 (hf3.1 gd3); omega
          · have := hf gd; have := hj2 (hf3.1 gd3); omega
          · exact st3.rise (h' := 1) gd3 (by omega)
        · obtain ⟨p, p1, p2, -⟩ := st3.p
          exact expr_bad hd (by omega) 1262 p u3 n3 p1 pot_le p2 gd3 nw.nid st3
    · obtain ⟨p, p1, p2, -⟩ := st.p
      exact expr_bad hd (by omega) 1262 p σ n p1 pot_le p2 gd (hn gd) (st.mono (Nat.zero_le _))
theorem c_expression (ih : cAsg T ν) (hw : w_nu w = ν) : CI T (shN T ν) nid (50 * ν + 11) 1 3 true 1 w (s_expr T (s_lv T ν) (w_x w).1 inn) 3074 [.inr (.inr (3, a)), .inl (bI inn)] := by
  intro d g A m e i σ K X hd hq hm en k
  obtain ⟨d, rfl, hd⟩ := mc_pos (c := 50 * ν + 10) (by omega)
  refine mc_ci (P := mt3074) (L := 3) rfl rfl ⟨by decide, Nat.le_of_ble_eq_true rfl⟩ fun Q hK hX => b3074_0 _ _ _ _ _ _ ?_
  have st := St.start (K := fun n u => Q (.inl (some (.inl n))) u) hq (by decide) en (fun n u rs => hK _ _ (k n u rs))
  have n1 := st.ci.2.1.2.1
  rw [hw] at hq
  refine St.call (ih a w inn hw) (n_k 0) st (fun z => z) (by omega) (by rw [hw]; omega) hm rfl (fun v j B q n u st hf hj hs hn => ?_)
  exact expr_loop ih hw (by omega) (by omega) n1 (t_e T + 1) true B (m + q) j q v u n (fun gd => hj gd) (fun gd => by omega) (by omega) (Nat.le_refl _) hf.nn (fun gd => (hs gd).sh) hn st
end EXPR2
