/-! PHASE 4. Where the module is read: walking over changes of the program -/
def wT : cW := (x_top, false, 48, 1, 0, 0, 0, (0, 0), 0)
/-- all but the reader's own rows and the program's is the same -/
def FRM (σ u : mmS) : Prop := (∀ k, cmf k = false → (Nat.ble 200 k && Nat.blt k 300) = false → mm_f u k = mm_f σ k) ∧ mm_r u = mm_r σ ∧ (∀ k, lst k → cms k = false → (k == 215 || k == 217 || k == 219) = false → sam σ u k) ∧ fN σ 315 ≤ fN u 315
theorem FRM.rfl' {σ : mmS} : FRM σ σ := ⟨fun _ _ _ => rfl, rfl, fun _ _ _ _ => sam.rfl', Nat.le_refl _⟩
theorem FRM.trans {σ u v : mmS} (h : FRM σ u) (g : FRM u v) : FRM σ v := ⟨fun k h1 h2 => (g.1 k h1 h2).trans (h.1 k h1 h2), g.2.1.trans h.2.1, fun k h1 h2 h3 => (h.2.2.1 k h1 h2 h3).trans (g.2.2.1 k h1 h2 h3), Nat.le_trans h.2.2.2 g.2.2.2⟩
theorem FRM.fr {σ u : mmS} {θ : cTh} (f : Fr θ σ u) : FRM σ u := ⟨fun k h _ => f.2.1 k h, f.2.2.1.1, fun k h1 h2 _ => f.2.2.2.1 k h1 h2, f.2.2.2.2.1.1⟩
def SM {β : Type} (T : sT) (g : Nat) (A0 : cA) (r0 : sR β) (NG : Prop × mmS) (b : Bool) (h : Nat) (A : cA) (m e : Nat) (r : sR β) (σ : mmS) (i : Nat) : Prop :=
  St T (fun (_ : β) _ _ _ => True) any2 g wT 0 0 (0, 0, 0, 0) 0 (fun _ u => ¬ GD u → NG.1) b h wT A m e r σ i ∧ (GD σ → run false A0 r0 = run false A r) ∧ (run false A0 r0 = none → NG.1) ∧ FRM NG.2 σ
theorem tle0 {a : cTh} : tle (0, 0, 0, 0) a := ⟨Nat.zero_le _, Nat.zero_le _, Nat.zero_le _, Nat.zero_le _⟩
theorem FRM.pg {σ u : mmS} (q : pgR σ u) : FRM σ u := ⟨fun k _ h => by
  rcases Nat.lt_or_ge k 200 with c | c
  · exact q.2.1.2 k c
  · rcases Nat.lt_or_ge k 300 with c2 | c2
    · rw [Nat.ble_eq_true_of_le c, Nat.blt_eq.mpr c2] at h; exact nomatch h
    · exact q.1 k c2, q.2.1.1, fun k h1 _ h3 => q.2.2 k h1 h3, Nat.le_of_eq (fN_eq (q.1 315 (by decide))).symm⟩
section SMS
variable {β : Type} {T : sT} {g : Nat} {A0 : cA} {r0 : sR β} {NG : Prop × mmS} {b : Bool} {h : Nat} {A : cA} {m e : Nat} {r r' : sR β} {σ u : mmS} {i : Nat}
variable {d a : Nat} {Q : mmQ} {Ak Bk : mmS → Prop}
theorem SM.start (en : cG T wT A m e σ i ∨ (cB T (g + h) σ ∧ NG.1)) (hg : g + h ≤ 69500) (hN : run false A r = none → NG.1) (hF : FRM NG.2 σ) : SM T g A r NG true h A m e r σ i := by
  refine ⟨?_, fun _ => rfl, hN, hF⟩
  rcases en with q | ⟨q, n⟩
  · refine Or.inl ⟨q, tle0, hg, fun n u rs ng => ?_⟩
    rcases rs.2 with ⟨v, j, B, q, x1, x2, x3, x4⟩ | ⟨x1 | x1, x2, x3⟩
    · exact absurd x2.2.1 ng
    · exact hN x1
    · exact absurd q.2.1 x1
  · exact Or.inr ⟨rfl, q, fun _ _ _ _ _ _ => n⟩
/-- a rule's answer -/
theorem SM.to {b' : Bool} {h' m' e' i' : Nat} {A' : cA} {θ : cTh} (s : SM T g A0 r0 NG b h A m e r σ i) (st : St T (fun (_ : β) _ _ _ => True) any2 g wT 0 0 (0, 0, 0, 0) 0 (fun _ u => ¬ GD u → NG.1) b' h' wT A' m' e' r' u i') (hf : Fr θ σ u) (he : GD u → run false A r = run false A' r') : SM T g A0 r0 NG b' h' A' m' e' r' u i' :=
  ⟨st, fun gd => (s.2.1 (hf.1 gd)).trans (he gd), s.2.2.1, s.2.2.2.trans (FRM.fr hf)⟩
theorem SM.rw (s : SM T g A0 r0 NG b h A m e r σ i) (hr : GD σ → r = r') : SM T g A0 r0 NG b h A m e r' σ i := s.to (θ := (0, 0, 0, 0)) (s.1.rw hr) Fr.rfl' fun gd => by rw [hr gd]
theorem SM.f {c : Bool} {r1 r2 : sR β} (s : SM T g A0 r0 NG b h A m e (bif c then r1 else r2) σ i) (hc : GD σ → c = false) : SM T g A0 r0 NG b h A m e r2 σ i := s.rw fun gd => by rw [hc gd]; rfl
theorem SM.t {c : Bool} {r1 r2 : sR β} (s : SM T g A0 r0 NG b h A m e (bif c then r1 else r2) σ i) (hc : GD σ → c = true) : SM T g A0 r0 NG b h A m e r1 σ i := s.rw fun gd => by rw [hc gd]; rfl
theorem SM.gd (s : SM T g A0 r0 NG b h A m e r σ i) (gd : GD σ) : cG T wT A m e σ i := s.1.gd gd
theorem SM.no (s : SM T g A0 r0 NG b h A m e r σ i) (ng : ¬ GD σ) : b = true ∧ cB T (g + h) σ ∧ NG.1 := by
  rcases s.1 with ⟨q, -⟩ | ⟨q1, q2, q3⟩
  · exact absurd q.2.1 ng
  · exact ⟨q1, q2, q3 0 σ Fr.rfl' (q2.mono (by omega)) trivial ng⟩
theorem SM.ci (s : SM T g A0 r0 NG b h A m e r σ i) : cI T σ := s.1.ci
theorem SM.weak (s : SM T g A0 r0 NG b h A m e r σ i) {h' m' e' : Nat} (hh : h' ≤ h) (hm : m' ≤ m) (he : e' ≤ e) : SM T g A0 r0 NG true h' A m' e' r σ i := by
  refine ⟨?_, s.2.1, s.2.2.1, s.2.2.2⟩
  rcases s.1 with ⟨q1, q2, q3, q4⟩ | ⟨q1, q2, q3⟩
  · exact Or.inl ⟨q1.mono hm he, q2, by omega, q4⟩
  · exact Or.inr ⟨rfl, q2.mono (by omega), q3⟩
theorem SM.bnd (s : SM T g A0 r0 NG b h A m e r σ i) (gd : GD σ) : g + h ≤ 69500 := by
  rcases s.1 with ⟨q1, q2, q3, q4⟩ | ⟨q1, q2, q3⟩
  · exact q3
  · exact absurd gd q2.no
/-- a change of the program -/
theorem SM.pg (s : SM T g A0 r0 NG b h A m e r σ i) (q : pgR σ u) (I : cI T u) : SM T g A0 r0 NG b h A m e r u i := by
  have hF := s.2.2.2.trans (FRM.pg q)
  have e3 : mm_f u 303 = mm_f σ 303 := q.1 303 (by decide)
  by_cases gd : GD σ
  · have gu : GD u := by unfold GD; rw [e3]; exact gd
    refine ⟨Or.inl ⟨(s.gd gd).pg I q, tle0, s.bnd gd, fun n v rs ng => ?_⟩, fun _ => s.2.1 gd, s.2.2.1, hF⟩
    rcases rs.2 with ⟨w, j, B, q, x1, x2, x3, x4⟩ | ⟨x1 | x1, x2, x3⟩
    · exact absurd x2.2.1 ng
    · exact s.2.2.1 ((s.2.1 gd).trans x1)
    · exact absurd gu x1
  · have ng : ¬ GD u := fun z => gd (by unfold GD at z ⊢; rw [← e3]; exact z)
    obtain ⟨h1, h2, h3⟩ := s.no gd
    exact ⟨Or.inr ⟨h1, h2.pg I q, fun _ _ _ _ _ _ => h3⟩, fun z => absurd z ng, s.2.2.1, hF⟩
/-- it has failed -/
theorem SM.bad (s : SM T g A0 r0 NG b h A m e r σ i) (hN : NG.1) (I : cI T u) (q : pgR (fl T σ) u) : SM T g A0 r0 NG true h A m e r u i := by
  have e3 : mm_f u 303 = 1 := (q.1 303 (by decide)).trans fl_flags.1
  have ng : ¬ GD u := fun z => by unfold GD at z; rw [e3] at z; exact absurd z (by decide)
  have c : cB T (g + h) (fl T σ) := by
    by_cases gd : GD σ
    · exact (s.gd gd).bad (s.bnd gd)
    · exact (s.no gd).2.1.again
  exact ⟨Or.inr ⟨rfl, c.pg I q, fun _ _ _ _ _ _ => hN⟩, fun z => absurd z ng, s.2.2.1, (s.2.2.2.trans (FRM.fr (θ := (0, 0, 0, 0)) Fr_fl)).trans (FRM.pg q)⟩
theorem SM.need {s : Int32} {f : Unit → Nat → sR β} {V : mmS → Prop} (s0 : SM T g A0 r0 NG b h A m e (s_b (s_nd T s i) f) σ i) (hd : 3 ≤ d) (k : ∀ u, SM T g A0 r0 NG true h A (m + 12) e (f () (i + 1)) u (i + 1) → Fr (th σ) σ u → (GD u → t_sg T i s = true) → V u) : mm_V (MC d) Q 3036 [.inr (.inr (3, a)), .inl s] σ V :=
  s0.1.need hd fun u st hf hs => k u (s0.to st hf fun gd => by rw [s_nd, hs gd, cond_true, s_b_r]) hf hs
theorem SM.eat {s : Int32} (s0 : SM T g A0 r0 NG b h A m e r σ i) (hd : 2 ≤ d) (k0 : (GD σ → t_sg T i s = false) → Ak σ) (k1 : ∀ u, (GD σ → t_sg T i s = true) → SM T g A0 r0 NG b h A (m + 12) e r u (i + 1) → Fr (th σ) σ u → Bk u) : mm_I (MC d) Q 3022 [.inr (.inr (3, a)), .inl s] σ (fun x u => mm_br (x = 0) (Ak u) (Bk u)) :=
  s0.1.eat hd k0 fun u hs st hf => k1 u hs (s0.to st hf fun _ => rfl) hf
theorem SM.eatWord {s : Int32} (s0 : SM T g A0 r0 NG b h A m e r σ i) (hd : 2 ≤ d) (k0 : (GD σ → t_wd T i s = false) → Ak σ) (k1 : ∀ u, (GD σ → t_wd T i s = true) → SM T g A0 r0 NG b h A (m + 12) e r u (i + 1) → Fr (th σ) σ u → Bk u) : mm_I (MC d) Q 3035 [.inr (.inr (3, a)), .inl s] σ (fun x u => mm_br (x = 0) (Ak u) (Bk u)) :=
  s0.1.eatWord hd k0 fun u hs st hf => k1 u hs (s0.to st hf fun _ => rfl) hf
theorem SM.ident {f : Int32 → Nat → sR β} {C : Int32 → mmS → Prop} (s0 : SM T g A0 r0 NG b h A m e (s_b (s_ident T i) f) σ i) (hd : 2 ≤ d) (k : ∀ x u, SM T g A0 r0 NG true h A (m + 12) (e + 1) (f x (i + 1)) u (i + 1) → Fr (th σ) σ u → C x u) : mm_I (MC d) Q 3026 [.inr (.inr (3, a))] σ C :=
  s0.1.ident hd fun x u st hf hx _ => k x u (s0.to st hf fun gd => by rw [s_ident, (hx gd).2, cond_true, s_b_r, (hx gd).1]) hf
theorem SM.wordAt {f : Int32 → Nat → sR β} {C : Int32 → mmS → Prop} (s0 : SM T g A0 r0 NG b h A m e (s_b (s_word T i) f) σ i) (hd : 2 ≤ d) (k : ∀ x u, SM T g A0 r0 NG true h A (m + 12) (e + 1) (f x (i + 1)) u (i + 1) → Fr (th σ) σ u → (GD u → t_kd T i 1 = true) → C x u) : mm_I (MC d) Q 3037 [.inr (.inr (3, a))] σ C :=
  s0.1.wordAt hd fun x u st hf hx => k x u (s0.to st hf fun gd => by rw [s_word, t_kd, (hx gd).2, (hx gd).1]; exact congrArg _ s_b_r) hf fun gd => by rw [t_kd, (hx gd).2]; rfl
theorem SM.semi {f : Unit → Nat → sR β} {C : mmS → Prop} (s0 : SM T g A0 r0 NG b h A m e (s_b (s_semi T i) f) σ i) (hd : 3 ≤ d) (k : ∀ u j, SM T g A0 r0 NG true h A m e (f () j) u j → Fr (th σ) σ u → (GD u → i ≤ j) → C u) : mm_V (MC d) Q 3021 [.inr (.inr (3, a))] σ C := by
  obtain ⟨q, q1, q2, q3⟩ := s0.1.p
  refine c_semi hd s0.ci.1 q1 (by omega) (fun z => ?_) (fun z z2 => ?_) (fun z z2 => ?_)
  · have st2 := s0.1.adv (NZ_sg s0.ci q1 z)
    rw [q1, ← nI_succ] at st2
    have er : GD σ → s_b (s_semi T i) f = f () (i + 1) := fun gd => by rw [s_semi, ← q3 gd, z, cond_true, s_b_r]
    have st3 := st2.rw (r' := f () (i + 1)) (fun gd => er gd)
    exact k _ (i + 1) ((s0.to st3 Fr_adv fun gd => by rw [er (Fr_adv.1 gd)]).weak (Nat.le_refl _) (by omega) (Nat.le_refl _)) Fr_adv (fun _ => by omega)
  · exact k _ i ((s0.rw fun gd => by rw [s_semi, ← q3 gd, z, cond_false, z2, cond_true, s_b_r]).weak (Nat.le_refl _) (Nat.le_refl _) (Nat.le_refl _)) Fr.rfl' (fun _ => Nat.le_refl _)
  · exact k _ i (s0.to (s0.1.fl (fun gd => by rw [s_semi, ← q3 gd, z, cond_false, z2]; rfl) _ _ _ _ _ _) (Fr_fl (θ := (0, 0, 0, 0))) fun gd => absurd gd GD_fl) Fr_fl (fun q => absurd q GD_fl)
theorem SM.fail {C : Int32 → mmS → Prop} (s0 : SM T g A0 r0 NG b h A m e r σ i) (hd : 1 ≤ d) (hr : GD σ → run false A r = none) (k : ∀ u, ¬ GD u → SM T g A0 r0 NG true h A m e r u i → Fr (th σ) σ u → C 0 u) : mm_I (MC d) Q 3025 [.inr (.inr (3, a))] σ C := by
  have st := s0.1.rwR (r' := none) hr
  exact st.fail hd (fun _ => rfl) fun u ng st2 hf => k u ng (s0.to (St.bd (β' := Unit) st2 ng Fr.rfl' id) hf fun gd => absurd gd ng) hf
theorem SM.sign {s : Int32} (s0 : SM T g A0 r0 NG b h A m e r σ i) (hd : 1 ≤ d) (k0 : (GD σ → t_sg T i s = false) → Ak σ) (k1 : (GD σ → t_sg T i s = true) → NZ T σ → Bk σ) : mm_I (MC d) Q 3023 [.inr (.inr (3, a)), .inl s] σ (fun x u => mm_br (x = 0) (Ak u) (Bk u)) := s0.1.sign hd k0 k1
theorem SM.word {s : Int32} (s0 : SM T g A0 r0 NG b h A m e r σ i) (hd : 1 ≤ d) (k0 : (GD σ → t_wd T i s = false) → Ak σ) (k1 : (GD σ → t_wd T i s = true) → NZ T σ → Bk σ) : mm_I (MC d) Q 3018 [.inr (.inr (3, a)), .inl s] σ (fun x u => mm_br (x = 0) (Ak u) (Bk u)) := s0.1.word hd k0 k1
theorem SM.adv (s0 : SM T g A0 r0 NG b h A m e r σ i) (z : NZ T σ) : SM T g A0 r0 NG b h A (m + 12) e r (mm_setf σ 311 (mm_f σ 311 + 1)) (i + 1) := s0.to (s0.1.adv z) Fr_adv fun _ => rfl
theorem SM.call {γ : Type} {Sh' : mmS → γ → Nat → Int32 → mmS → Prop} {N' : Int32 → mmS → Prop} {c s m' e' : Nat} {bb : Bool} {r1 : Nat → sR γ} {f : γ → Nat → sR β} {C : Int32 → mmS → Prop} {Goal : Prop}
    (hC : (cG T wT A m e σ i ∨ (bb = true ∧ cB T (g + h + c) σ)) → (∀ n u, Rs T (Sh' σ) N' (g + h) wT m' e' (th σ) (i + s) A (r1 i) σ n u → C n u) → Goal) (v0 : γ) (s0 : SM T g A0 r0 NG b (h + c) A m e (s_b (r1 i) f) σ i) (hb : b = true → bb = true)
    (k : ∀ v j B q n u, SM T g A0 r0 NG true h B (m' + q) e' (f v j) u j → Fr (th σ) σ u → (GD u → i + s ≤ j) → (GD u → run false A (r1 i) = some (v, j, B)) → (GD u → Sh' σ v q n u) → (¬ GD u → N' n u) → C n u) : Goal :=
  St.callR (θ1 := th σ) hC v0 s0.1 hb rfl (fun _ => tle0) fun v j B q n u st hf hj hr hs hn => k v j B q n u (s0.to st hf fun gd => by rw [run_b, show run false A (r1 i) = some (v, j, B) from hr gd]) hf hj hr hs hn
end SMS
