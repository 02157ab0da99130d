/-! PHASE 3. What an expression's node is like; the first methods -/
def rN (v : sN) (k : Nat) (u : mmS) : Prop := mm_a u 316 k = v.1 ∧ (v.1 = 4 → mm_a u 317 k = v.2.1) ∧ (v.1 = 26 ∨ v.1 = 28 → mm_a u 320 k = v.2.2.1) ∧ mm_a u 323 k = bI v.2.2.2.1 ∧ (v.1 = 35 → ∃ j, mm_a u 317 k = nI j ∧ 1 ≤ j ∧ j < k ∧ mm_a u 316 j = v.2.2.2.2.2) ∧ mm_a u 322 k = 0 ∧ (¬ (v.1 = 9 ∨ v.1 = 10) → v.2.2.2.2.1 = none) ∧ (¬ v.1 = 30 ∧ ¬ v.1 = 31)
/-- what becomes of a literal that is assigned to -/
def cvR (T : sT) (D lo hi k : Nat) (R : Nat → Nat → Int32) (c : Option Int) (q : Nat) : Prop :=
  ∀ (d a g : Nat) (w : cW) (A : cA) (m e i : Nat) (τ : mmS) (K : Int32 → mmS → Prop) (X : Nat → mmS → Prop), D ≤ d → g + D + 64 ≤ 69500 → cG T w A (m + q) e τ i → 24 ≤ m → hi ≤ fN τ 315 →
    (∀ s, 316 ≤ s → s ≤ 323 → ∀ j, lo ≤ j → j < hi → ¬ (s = 322 ∧ j = k) → mm_a τ s j = R s j) →
    (∀ v z, c = some z → cG T w (A.1, A.2.1 - z, A.2.2) m e v i → Fr (lo, (th τ).2) τ v → (∀ s, 316 ≤ s → s ≤ 323 → ∀ j, hi ≤ j → j < fN τ 315 → mm_a v s j = mm_a τ s j) → mm_a v 322 k = mm_a τ 322 k → K (nI k) v) →
    (∀ n v, c = none → cB T g v → Fr (th τ) τ v → nid n v → K n v) → mm_ci (MC d) 3103 [.inr (.inr (3, a)), .inl (nI k)] τ K X
theorem cvR.qm {T : sT} {D lo hi k : Nat} {R : Nat → Nat → Int32} {c : Option Int} {q q' : Nat} (h : cvR T D lo hi k R c q) (hq : q ≤ q') : cvR T D lo hi k R c q' := by
  intro d a g w A m e i τ K X hd hg hG hm hn hR k1 k2
  exact h d a g w A m e i τ K X hd hg (hG.mono (by omega) (Nat.le_refl _)) hm hn hR k1 k2
def cvT (T : sT) (ν lo k : Nat) (c : Option Int) (q : Nat) (u : mmS) : Prop := cvR T (6 * ν + 10) lo (fN u 315) k (mm_a u) c q
def shK (T : sT) (ν lo : Nat) (v : sN) (q k : Nat) (u : mmS) : Prop := (1 ≤ lo ∧ 1 ≤ q) ∧ lo ≤ k ∧ k < fN u 315 ∧ rN v k u ∧ (v.1 = 9 ∨ v.1 = 10 → v.2.2.2.1 = false → cvT T ν lo k v.2.2.2.2.1 q u)
def shN (T : sT) (ν : Nat) (σ : mmS) (v : sN) (q : Nat) (n : Int32) (u : mmS) : Prop := ∃ k, n = nI k ∧ shK T ν (fN σ 315) v q k u
theorem cvR.mono {T : sT} {D D' lo lo' hi hi' k : Nat} {R R' : Nat → Nat → Int32} {c : Option Int} {q : Nat} (h : cvR T D lo hi k R c q) (h1 : D ≤ D') (h2 : lo' ≤ lo) (h3 : hi ≤ hi') (hk : k < hi) (hr : ∀ s, 316 ≤ s → s ≤ 323 → ∀ j, lo ≤ j → j < hi → ¬ (s = 322 ∧ j = k) → R' s j = R s j) : cvR T D' lo' hi' k R' c q := by
  intro d a g w A m e i τ K X hd hg hG hm hn hR k1 k2
  exact h d a g w A m e i τ K X (by omega) (by omega) hG hm (by omega) (fun s s1 s2 j j1 j2 ne => (hR s s1 s2 j (by omega) (by omega) ne).trans (hr s s1 s2 j j1 j2 ne))
    (fun v z c1 c2 c3 c4 c5 => k1 v z c1 c2 (c3.mono fun _ => ⟨h2, Nat.le_refl _, Nat.le_refl _, Nat.le_refl _⟩) (fun s s1 s2 j j1 j2 => c4 s s1 s2 j (by omega) j2) c5) k2
theorem cvT.mono {T : sT} {ν lo k : Nat} {c : Option Int} {q : Nat} {u u' : mmS} (h : cvT T ν lo k c q u) (h1 : 1 ≤ lo) (hk : k < fN u 315) (f : Fr (th u) u u') (gd : GD u') : cvT T ν lo k c q u' :=
  cvR.mono h (Nat.le_refl _) (Nat.le_refl _) f.2.2.2.2.1.1 hk (fun s s1 s2 j j1 j2 _ => (f.2.2.2.2.2.2.2 gd).2.1 s s1 s2 j (by omega) j2)
theorem rN.mono {v : sN} {k : Nat} {u u' : mmS} (h : rN v k u) (h1 : 1 ≤ k) (h2 : k < fN u 315) (f : Fr (th u) u u') (gd : GD u') : rN v k u' := by
  have fg := (f.2.2.2.2.2.2.2 gd).2.1
  have e (s : Nat) (s1 : 316 ≤ s) (s2 : s ≤ 323) : mm_a u' s k = mm_a u s k := fg s s1 s2 k h1 h2
  obtain ⟨a1, a2, a3, a4, a5, a6, a7, a8⟩ := h
  refine ⟨by rw [e 316 (by decide) (by decide)]; exact a1, by rw [e 317 (by decide) (by decide)]; exact a2, by rw [e 320 (by decide) (by decide)]; exact a3, by rw [e 323 (by decide) (by decide)]; exact a4, fun q => ?_, by rw [e 322 (by decide) (by decide)]; exact a6, a7, a8⟩
  obtain ⟨j, j1, j2, j3, j4⟩ := a5 q
  exact ⟨j, by rw [e 317 (by decide) (by decide)]; exact j1, j2, j3, by rw [fg 316 (by decide) (by decide) j j2 (by show j < fN u 315; omega)]; exact j4⟩
theorem shK.mono {T : sT} {ν lo : Nat} {v : sN} {q k : Nat} {u u' : mmS} (h : shK T ν lo v q k u) (f : Fr (th u) u u') (gd : GD u') : shK T ν lo v q k u' := by
  obtain ⟨a1, a2, a3, a4, a5⟩ := h
  have fm := f.2.2.2.2.1.1
  exact ⟨a1, a2, by omega, a4.mono (by omega) a3 f gd, fun q1 q2 => (a5 q1 q2).mono a1.1 a3 f gd⟩
/-- the node's number, in any mode -/
theorem nd_of {T : sT} {ν : Nat} {σ u : mmS} {v : sN} {q : Nat} {n : Int32} (h1 : GD u → shN T ν σ v q n u) (h2 : ¬ GD u → nid n u) : ∃ k, n = nI k ∧ k < fN u 315 ∧ (GD u → shK T ν (fN σ 315) v q k u) := by
  by_cases gd : GD u
  · obtain ⟨k, k1, k2⟩ := h1 gd
    exact ⟨k, k1, k2.2.2.1, fun _ => k2⟩
  · obtain ⟨k, k1, k2⟩ := h2 gd
    exact ⟨k, k1, k2, fun z => absurd z gd⟩
/-- a node that was just made: no literal -/
theorem sh_new {T : sT} {ν lo : Nat} {σ u : mmS} {w x y z d n : Int32} {v : sN} (h : NwN σ w x y z d n u) (h0 : 1 ≤ lo) (hl : lo ≤ fN σ 315) (e1 : w = v.1) (e2 : v.1 = 4 → x = v.2.1) (e3 : v.1 = 26 ∨ v.1 = 28 → d = v.2.2.1) (e4 : v.2.2.2.1 = false) (e5 : ¬ v.1 = 35) (e6 : ¬ (v.1 = 9 ∨ v.1 = 10)) (e7 : v.2.2.2.2.1 = none := by exact rfl) (e8 : (v.1 == 30 || v.1 == 31) = false := by exact rfl) : shK T ν lo v 1 (fN σ 315) u := by
  obtain ⟨n1, n2, n3, n4, n5, n6, n7, n8, n9, -⟩ := h
  refine ⟨⟨h0, Nat.le_refl _⟩, hl, by omega, ⟨n3.trans e1, fun q => n4.trans (e2 q), fun q => n7.trans (e3 q), by rw [n9, e4]; rfl, fun q => absurd q e5, n8, fun _ => e7, fun q => (by rw [q] at e8; exact absurd e8 (by decide)), fun q => (by rw [q] at e8; exact absurd e8 (by decide))⟩, fun q => absurd q e6⟩
theorem sh_k {T : sT} {ν : Nat} {σ0 σ u : mmS} {w x y z d n : Int32} (h : NwN σ w x y z d n u) (h0 : 1 ≤ fN σ0 315) (hl : fN σ0 315 ≤ fN σ 315) (e5 : (w == 4 || w == 26 || w == 28 || w == 35 || w == 9 || w == 10) = false) (e8 : (w == 30 || w == 31) = false := by exact rfl) : shN T ν σ0 (n_k w) 1 n u := by
  simp only [Bool.or_eq_false_iff, beq_eq_false_iff_ne] at e5
  obtain ⟨⟨⟨⟨⟨e1, e2⟩, e3⟩, e4⟩, e5⟩, e6⟩ := e5
  exact ⟨_, h.1, sh_new h h0 hl rfl (fun q => absurd q e1) (fun q => absurd q (fun q => by rcases q with q | q; exact e2 q; exact e3 q)) rfl e4 (fun q => by rcases q with q | q; exact e5 q; exact e6 q) rfl e8⟩
theorem Fr.nn {θ : cTh} {σ u : mmS} (h : Fr θ σ u) : fN σ 315 ≤ fN u 315 := h.2.2.2.2.1.1
/-- the contract of assign() -/
theorem shK.nu {T : sT} {ν ν' lo : Nat} {v : sN} {q k : Nat} {u : mmS} (h : shK T ν lo v q k u) (hl : ν ≤ ν') : shK T ν' lo v q k u := by
  obtain ⟨s1, s2, s3, s4, s5⟩ := h
  exact ⟨s1, s2, s3, s4, fun z1 z2 => cvR.mono (s5 z1 z2) (by omega) (Nat.le_refl _) (Nat.le_refl _) s3 (fun _ _ _ _ _ _ _ => rfl)⟩
def asN (T : sT) (ν : Nat) (σ : mmS) (v : sN) (q : Nat) (n : Int32) (u : mmS) : Prop := ∃ μ, ν = μ + 1 ∧ shN T μ σ v q n u
def cAsg (T : sT) (ν : Nat) : Prop := ∀ (a : Nat) (w : cW) (inn : Bool), w_nu w = ν → CI T (asN T ν) nid (50 * ν + 10) 0 0 true 1 w ((s_lv T ν).1 (w_x w).1 inn) 3053 [.inr (.inr (3, a)), .inl (bI inn)]
theorem asN.sh {T : sT} {ν : Nat} {σ : mmS} {v : sN} {q : Nat} {n : Int32} {u : mmS} (h : asN T ν σ v q n u) : shN T ν σ v q n u := by
  obtain ⟨μ, rfl, k, k1, k2⟩ := h
  exact ⟨k, k1, k2.nu (Nat.le_succ μ)⟩
section EXPR
theorem St.mono {β : Type} {T : sT} {Sh : β → Nat → Int32 → mmS → Prop} {N : Int32 → mmS → Prop} {g : Nat} {w0 : cW} {m0 e0 : Nat} {θ : cTh} {l0 : Nat} {Z : Int32 → mmS → Prop} {b : Bool} {h h' : Nat} {w : cW} {A : cA} {m e : Nat} {r : sR β} {σ : mmS} {i : Nat} (st : St T Sh N g w0 m0 e0 θ l0 Z b h w A m e r σ i) (l : h' ≤ h) : St T Sh N g w0 m0 e0 θ l0 Z b h' w A m e r σ i :=
  st.same Fr.rfl' (fun _ => tle.rfl') (fun gd => by have := st.tl.2 gd; omega) id (fun q => q.mono (by omega))
variable {T : sT} {ν a : Nat} {w : cW} {inn : Bool}
theorem St.startM {β : Type} {T : sT} {Sh : β → Nat → Int32 → mmS → Prop} {N : Int32 → mmS → Prop} {g : Nat} {w : cW} {A : cA} {m m0 e i c q l0 : Nat} {bb : Bool} {σ : mmS} {r : sR β} {K : Int32 → mmS → Prop} (hq : g + q ≤ GQ (w_nu w)) (hc : c ≤ q) (en : cG T w A m e σ i ∨ (bb = true ∧ cB T (g + c) σ)) (k : ∀ n u, Rs T Sh N g w m0 e (th σ) l0 A r σ n u → K n u) : St T Sh N g w m0 e (th σ) l0 K bb c w A m e r σ i := by
  rcases en with en | ⟨e1, e2⟩
  · exact Or.inl ⟨en, tle.rfl', by have := GQ_le (w_nu w); omega, k⟩
  · exact Or.inr ⟨e1, e2, fun n u f cb hn => k n u ⟨f, Or.inr ⟨Or.inr e2.no, cb, hn⟩⟩⟩
theorem St.start {β : Type} {T : sT} {Sh : β → Nat → Int32 → mmS → Prop} {N : Int32 → mmS → Prop} {g : Nat} {w : cW} {A : cA} {m e i c q l0 : Nat} {bb : Bool} {σ : mmS} {r : sR β} {K : Int32 → mmS → Prop} (hq : g + q ≤ GQ (w_nu w)) (hc : c ≤ q) (en : cG T w A m e σ i ∨ (bb = true ∧ cB T (g + c) σ)) (k : ∀ n u, Rs T Sh N g w m e (th σ) l0 A r σ n u → K n u) : St T Sh N g w m e (th σ) l0 K bb c w A m e r σ i := by
  rcases en with en | ⟨e1, e2⟩
  · exact Or.inl ⟨en, tle.rfl', by have := GQ_le (w_nu w); omega, k⟩
  · exact Or.inr ⟨e1, e2, fun n u f cb hn => k n u ⟨f, Or.inr ⟨Or.inr e2.no, cb, hn⟩⟩⟩
theorem c_cond (ih : cAsg T ν) (hw : w_nu w = ν) (hB : ∀ a, CI T (shN T ν) nid (50 * ν + 49) 4 650 false 1 w (s_bin T (s_lv T ν) (w_x w).1 inn 13 1) 3108 [.inr (.inr (3, a)), .inl 1, .inl (bI inn)]) :
    CI T (shN T ν) nid (50 * ν + 50) 6 670 false 1 w (s_cond T (s_lv T ν) (w_x w).1 inn) 3107 [.inr (.inr (3, a)), .inl (bI inn)] := by
  intro d g A m e i σ K X hd hq hm en k
  obtain ⟨d, rfl, hd⟩ := mc_pos (c := 50 * ν + 49) (by omega)
  refine mc_ci (P := mt3107) (L := 4) rfl rfl ⟨by decide, Nat.le_of_ble_eq_true rfl⟩ fun Q hK hX => b3107_0 _ _ _ _ _ _ _ ?_
  have st := St.start (K := fun n u => Q (.inl (some (.inl n))) u) hq (by decide) en (fun n u rs => hK _ _ (k n u rs))
  have n1 := st.ci.2.1.2.1
  refine St.call (hB a) (n_k 0) st (fun z => z) (by omega) (by omega) hm rfl (fun v j B q n u st hf hj hs hn => ?_)
  refine st.wrong (fun gd st => st.eat (by omega) (fun h0 => ?_) (fun u1 h1 st hf1 => ?_)) (fun ng => st.bad ng (hn ng))
  · exact (st.f h0).ret (fun _ => rfl) (fun _ => rfl) hj q (fun _ => Nat.le_refl _) (fun _ => Nat.le_refl _) hs hn
  · refine St.call (ih a w true hw) (n_k 0) (st.t fun gd => h1 (hf1.1 gd)) (fun z => rfl) (by omega) (by omega) (by omega) rfl (fun v2 j2 B2 q2 x2 u2 st hf2 hj2 hs2 hn2 => ?_)
    refine st.need (by omega) (fun u3 st hf3 _ => ?_)
    refine St.call (ih a w inn hw) (n_k 0) st (fun z => rfl) (by omega) (by omega) (by omega) rfl (fun v4 j4 B4 q4 x4 u4 st hf4 hj4 hs4 hn4 => ?_)
    refine St.node (h := 0) (st.mono (by decide)) (by omega) (by omega) (fun x5 u5 st hf5 nw => ?_)
    refine st.ret (fun _ => rfl) (fun _ => rfl) (fun gd => ?_) 1 (fun _ => by omega) (fun _ => Nat.le_refl _) (fun _ => sh_k nw n1 (by have := hf.nn; have := hf1.nn; have := hf2.nn; have := hf3.nn; have := hf4.nn; omega) rfl) (fun _ => nw.nid)
    have g4 := hf5.1 gd
    have g3 := hf4.1 g4
    have g2 := hf3.1 g3
    have := hj4 g4; have := hj2 g2; have := hj (hf1.1 (hf2.1 g2))
    omega
end EXPR
