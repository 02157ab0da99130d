/-! PHASE 3. unary() -/
/-- the operator's number where an operand begins -/
def t_cd (T : sT) (i : Nat) : Int32 := if T.1 i = 3 then T.2.1 i else if T.1 i = 1 then 100 + T.2.1 i else -1
theorem nI_h (k : Nat) : (100 : Int32) + nI k = nI (100 + k) := nI_add 100 k
theorem cd_sign {T : sT} (h : tokOK T) (i : Nat) (s : Int32) (n : Nat) (hs : s = nI n) (hn : n ≤ 60) : (t_cd T i = s) ↔ t_sg T i s = true := by
  unfold t_cd t_sg
  rw [Bool.and_eq_true, beq_iff_eq, beq_iff_eq]
  by_cases h3 : T.1 i = 3
  · rw [if_pos h3]
    exact ⟨fun q => ⟨h3, q⟩, fun q => q.2⟩
  · rw [if_neg h3]
    refine ⟨fun q => ?_, fun q => absurd q.1 h3⟩
    exfalso
    by_cases h1 : T.1 i = 1
    · rw [if_pos h1] at q
      obtain ⟨k, k1, k2⟩ := (h i).2 h1
      rw [k1, nI_h, hs] at q
      have := nI_inj (by omega) (by omega) q
      omega
    · rw [if_neg h1, hs] at q
      have := nI_pos (n := n) (by omega)
      rw [← q] at this
      exact this (by decide)
theorem cd_word {T : sT} (h : tokOK T) (i : Nat) (s : Int32) (n : Nat) (hs : s = nI n) (hn : n ≤ 100000) : (t_cd T i = 100 + s) ↔ t_wd T i s = true := by
  unfold t_cd t_wd
  rw [Bool.and_eq_true, beq_iff_eq, beq_iff_eq]
  by_cases h3 : T.1 i = 3
  · rw [if_pos h3]
    refine ⟨fun q => ?_, fun q => absurd (h3.symm.trans q.1) (by decide)⟩
    exfalso
    obtain ⟨k, k1, k2⟩ := (h i).1 h3
    rw [k1, hs, nI_h] at q
    have := nI_inj (by omega) (by omega) q
    omega
  · rw [if_neg h3]
    by_cases h1 : T.1 i = 1
    · rw [if_pos h1]
      obtain ⟨k, k1, k2⟩ := (h i).2 h1
      refine ⟨fun q => ⟨h1, ?_⟩, fun q => by rw [q.2]⟩
      rw [k1, hs, nI_h, nI_h] at q
      have := nI_inj (by omega) (by omega) q
      rw [k1, hs, show k = n by omega]
    · rw [if_neg h1]
      refine ⟨fun q => ?_, fun q => absurd q.1 h1⟩
      exfalso
      rw [hs, nI_h] at q
      have := nI_pos (n := 100 + n) (by omega)
      rw [← q] at this
      exact this (by decide)
theorem t_un_iff {T : sT} (h : tokOK T) (i : Nat) : t_un T i = (t_cd T i == 18 || t_cd T i == 19 || t_cd T i == 32 || t_cd T i == 33 || t_cd T i == 109 || t_cd T i == 134 || t_cd T i == 132) := by
  have b1 (s : Int32) (n : Nat) (hs : s = nI n) (hn : n ≤ 60) : (t_cd T i == s) = t_sg T i s := by
    rw [Bool.eq_iff_iff, beq_iff_eq]
    exact cd_sign h i s n hs hn
  have b2 (s : Int32) (n : Nat) (hs : s = nI n) (hn : n ≤ 100000) : (t_cd T i == 100 + s) = t_wd T i s := by
    rw [Bool.eq_iff_iff, beq_iff_eq]
    exact cd_word h i s n hs hn
  rw [b1 18 18 rfl (by decide), b1 19 19 rfl (by decide), b1 32 32 rfl (by decide), b1 33 33 rfl (by decide), show (109 : Int32) = 100 + 9 by decide, show (134 : Int32) = 100 + 34 by decide, show (132 : Int32) = 100 + 32 by decide, b2 9 9 rfl (by decide), b2 34 34 rfl (by decide), b2 32 32 rfl (by decide)]
  unfold t_un t_kd t_sg t_wd t_v
  cases (T.1 i == 3) <;> cases (T.1 i == 1) <;> cases (T.2.1 i == 18) <;> cases (T.2.1 i == 19) <;> cases (T.2.1 i == 32) <;> cases (T.2.1 i == 33) <;> cases (T.2.1 i == 9) <;> cases (T.2.1 i == 34) <;> rfl
section UNA
variable {β : Type} {T : sT} {Sh : β → Nat → Int32 → mmS → Prop} {N : Int32 → mmS → Prop} {g : Nat} {w0 : cW} {m0 e0 : Nat} {θ : cTh} {l0 : Nat} {Z : Int32 → mmS → Prop} {b : Bool} {h : Nat} {w : cW} {A : cA} {m e : Nat} {r : sR β} {σ σ0 : mmS} {i : Nat}
variable {ν a d : Nat} {Q : mmQ}
/-- nest-- -/
def dec (u : mmS) : mmS := mm_setf u 312 (mm_f u 312 - 1)
/-- enter; unary(pw); nest-- is behind it -/
def unaF (d a : Nat) (Q : mmQ) (pw : Bool) (C : Int32 → mmS → Prop) (σ : mmS) : Prop :=
  mm_V (MC d) Q 3043 [.inr (.inr (3, a))] σ (fun σ1 => mm_I (MC d) Q 3109 [.inr (.inr (3, a)), .inl (bI pw)] σ1 C)
def cUna (T : sT) (ν : Nat) : Prop := ∀ (d a g : Nat) (w : cW) (A : cA) (m e i : Nat) (σ : mmS) (Q : mmQ) (pw : Bool) (C : Int32 → mmS → Prop), w_nu w = ν → 50 * ν + 10 ≤ d → g ≤ GQ ν → 24 ≤ m → (cG T w A m e σ i ∨ (true = true ∧ cB T (g + 0) σ)) → (∀ n u, Rs T (shN T ν σ) nid g w m e (th σ) (i + 1) A ((s_lv T ν).2.1 (w_x w).1 pw i) σ n (dec u) → C n u) → unaF d a Q pw C σ
theorem St.callD {γ : Type} {Sh' : mmS → γ → Nat → Int32 → mmS → Prop} {N' : Int32 → mmS → Prop} {c s m' : Nat} {bb : Bool} {r1 : Nat → sR γ} {f : γ → Nat → sR β} {C : Int32 → mmS → Prop} {Goal : Prop}
    (hC : (cG T w A m e σ i ∨ (bb = true ∧ cB T (g + h + c) σ)) → (∀ n u, Rs T (Sh' σ) N' (g + h) w m' e (th σ) (i + s) A (r1 i) σ n (dec u) → C n u) → Goal) (v0 : γ) (st : St T Sh N g w0 m0 e0 θ l0 Z b (h + c) w A m e (s_b (r1 i) f) σ i) (hb : b = true → bb = true) (hw : w_in w = w_in w0)
    (k : ∀ v j B q n u, St T Sh N g w0 m0 e0 θ l0 Z true h w B (m' + q) e (f v j) (dec u) j → Fr (th σ) σ (dec u) → (GD (dec u) → i + s ≤ j) → (GD (dec u) → Sh' σ v q n (dec u)) → (¬ GD (dec u) → N' n (dec u)) → C n u) : Goal :=
  st.callP (C := fun n u' => ∀ u, dec u = u' → C n u) (fun en kk => hC en (fun n u rs => kk n (dec u) rs u rfl)) v0 hb hw (fun v j B q n u' s1 hf hj hs hn u hu => by subst hu; exact k v j B q n u s1 hf hj hs hn)
theorem bd_unary {v : Int32} {K : Int32 → mmS → Prop} {X : Nat → mmS → Prop} (ng : ¬ GD σ) (hd : 1 ≤ d) (k : K 0 σ) : mm_ci (MC d) 3109 [.inr (.inr (3, a)), .inl v] σ K X := by
  obtain ⟨d, rfl, hd⟩ := mc_pos hd
  exact mc_ci (P := mt3109) (L := 7) rfl rfl ⟨by decide, Nat.le_of_ble_eq_true rfl⟩ fun Q hK hX => b3109_0 _ _ _ _ _ _ _ _ _ _ (br_n ng (hK _ _ k))
theorem bd_unaF {pw : Bool} {C : Int32 → mmS → Prop} (hb : cB T g σ) (hd : 3 ≤ d) (k : ∀ u, cB T g (dec u) → Fr (th σ) σ (dec u) → C 0 u) : unaF d a Q pw C σ := by
  refine bd_enter hb (by omega) (fun u c f _ => bd_unary c.no (by omega) (k _ (c.setf rfl (by decide) (by decide) (by decide)) (f.t Fr_312 fun z => absurd z c.no)))
theorem una_no : cUna T 0 := by
  intro d a g w A m e i σ Q pw C hw hd hg hm en k
  rcases en with hG | ⟨-, hB⟩
  · have st : St T (shN T 0 σ) nid g w m e (th σ) (i + 1) (fun n u' => ∀ u, dec u = u' → C n u) false 0 w A m e (none : sR sN) σ i := Or.inl ⟨hG, tle.rfl', by have := GQ_le 0; omega, fun n u' rs u hu => k n u (by rw [hu]; exact rs)⟩
    refine st.enter (by omega) (fun _ => rfl) (fun u st hf hp he => ?_)
    have ng : ¬ GD u := fun z => by have := hp z; omega
    refine bd_unary ng (by omega) ?_
    have st2 := st.same (u := mm_setf u 312 (mm_f u 312 - 1)) (h' := 0) (m' := m) (e' := e) (i' := i) Fr_312' (fun z => absurd z ng) (fun z => absurd z ng) (fun q => absurd q.2.1 ng) (fun c => c.setf rfl (by decide) (by decide) (by decide))
    exact st2.bad ng (nid_0 st2.ci) u rfl
  · exact bd_unaF hB (by omega) (fun u c f => k 0 u ⟨f, Or.inr ⟨Or.inr hB.no, c, nid_0 c.1⟩⟩)
/-- a level's unary() of one's own gives the one of the level above -/
theorem una_up {q : Nat} (hq : q ≤ 1370) (hu : ∀ (d a g : Nat) (w : cW) (A : cA) (m e i : Nat) (σ : mmS) (pw : Bool) (K : Int32 → mmS → Prop) (X : Nat → mmS → Prop), w_nu w = ν → wSl w → 50 * ν + 45 ≤ d → g + q ≤ GQ (w_nu w) → 24 ≤ m → cG T w A m e σ i → (∀ n u, Rs T (shN T ν σ) nid g w m e (th σ) (i + 1) A (s_una T (s_lv T ν) (w_x w).1 pw i) σ n u → K n u) → mm_ci (MC d) 3109 [.inr (.inr (3, a)), .inl (bI pw)] σ K X) : cUna T (ν + 1) := by
  intro d a g w A m e i σ Q pw C hw hd hg hm en k
  rcases en with hG | ⟨-, hB⟩
  · have ok := hG.ok
    have hQ : GQ ν = GQ (ν + 1) + 1370 := by
      have := ok.1
      unfold GQ
      omega
    have n1 := hG.1.2.1.2.1
    have hν : w_nu w - 1 = ν := by omega
    have st : St T (shN T (ν + 1) σ) nid g w m e (th σ) (i + 1) (fun n u' => ∀ u, dec u = u' → C n u) false 0 w A m e (s_una T (s_lv T ν) (w_x w).1 pw i) σ i := Or.inl ⟨hG, tle.rfl', by have := GQ_le (ν + 1); omega, fun n u' rs u hu => k n u (by rw [hu]; exact rs)⟩
    refine st.enter (by omega) (fun z => by omega) (fun u st hf hp he => ?_)
    by_cases gd : GD u
    · rw [hν] at st
      have g2 := st.gd gd
      have tlu := st.tl.1 gd
      have st2 := st.rw (r' := s_b (s_una T (s_lv T ν) (w_x w).1 pw i) (fun n k => s_r n k)) (fun _ => by
        cases hx : s_una T (s_lv T ν) (w_x w).1 pw i with
        | none => rfl
        | some z => obtain ⟨z1, z2, z3⟩ := z; simp only [s_b, s_r, sA_m0])
      refine St.callP (h := 0) (c := 0) (m' := m) (s := 1) (bb := false) (b := false) (Sh' := shN T ν) (N' := nid) (r1 := s_una T (s_lv T ν) (w_x w).1 pw) (C := C) (fun en kk => hu d a g (dn w ν) A m e i u pw _ _ rfl (wSl_dn ok (by omega)) (by omega) (by show g + q ≤ GQ ν; omega) hm g2 kk) (n_k 0) (st2.strong gd) (fun z => z) rfl (fun v j B q x u4 st hf4 hj4 hs4 hn4 => ?_)
      rw [← hν] at st
      have st := st.leave (fun _ => by omega) ok
      refine st.ret (fun _ => rfl) (fun _ => rfl) (fun gd => hj4 gd) q (fun _ => Nat.le_refl _) (fun _ => Nat.le_refl _) (fun gd => ?_) (fun ng => ?_) u4 rfl
      · have gd4 : GD u4 := gd
        obtain ⟨kk, k1, k2⟩ := hs4 gd4
        exact ⟨kk, k1, ((k2.lo n1 hf.nn).mono (Fr_312 (x := mm_f u4 312 - 1)) gd).nu (by omega)⟩
      · exact (hn4 ng).mono Fr_312
    · refine bd_unary gd (by omega) ?_
      have st2 := st.same (u := mm_setf u 312 (mm_f u 312 - 1)) (h' := 0) (m' := m) (e' := e) (i' := i) Fr_312' (fun z => absurd z gd) (fun z => absurd z gd) (fun q => absurd q.2.1 gd) (fun c => c.setf rfl (by decide) (by decide) (by decide))
      exact st2.bad gd (nid_0 st2.ci) u rfl
  · exact bd_unaF hB (by omega) (fun u c f => k 0 u ⟨f, Or.inr ⟨Or.inr hB.no, c, nid_0 c.1⟩⟩)
end UNA
