/-! PHASE 3. Rules: nodes, calls by contract, what is wrong -/
/-- a new node -/
def NwN (σ : mmS) (w x y z v : Int32) (n : Int32) (u : mmS) : Prop := n = nI (fN σ 315) ∧ fN u 315 = fN σ 315 + 1 ∧ mm_a u 316 (fN σ 315) = w ∧ mm_a u 317 (fN σ 315) = x ∧ mm_a u 318 (fN σ 315) = y ∧ mm_a u 319 (fN σ 315) = z ∧ mm_a u 320 (fN σ 315) = v ∧ mm_a u 322 (fN σ 315) = 0 ∧ mm_a u 323 (fN σ 315) = 0 ∧ ∀ k, k ≠ 315 → mm_f u k = mm_f σ k
theorem NwN.nid {σ u : mmS} {w x y z v n : Int32} (h : NwN σ w x y z v n u) : nid n u := ⟨_, h.1, by rw [h.2.1]; omega⟩
theorem Fr.seta {θ : cTh} {σ : mmS} {s j : Nat} {x : Int32} (hs : 316 ≤ s ∧ s ≤ 323) (hj : GD σ → θ.1 ≤ j) : Fr θ σ (mm_seta σ s j x) := by
  refine ⟨id, fun _ _ => rfl, ⟨rfl, gro.of (a_seta_n (by omega)) (a_seta_n (by omega)) (a_seta_n (by omega))⟩, fun k _ k2 => ⟨a_seta_n (fun e => ?_), rfl, rfl, rfl⟩, ⟨Nat.le_refl _, Nat.le_refl _, Nat.le_refl _, Nat.le_refl _⟩, fun t _ => ⟨by rw [a_seta_n (by omega)], by rw [a_seta_n (by omega)]⟩, fun t _ => ⟨by rw [a_seta_n (by omega)], by rw [a_seta_n (by omega)]⟩, fun gd => ⟨Nat.le_refl _, fun k _ _ i _ hi => a_seta_i (by have := hj gd; omega), fun f _ => ⟨by rw [a_seta_n (by omega)], by rw [a_seta_n (by omega)]⟩, fun k _ => ⟨by rw [a_seta_n (by omega)], by rw [a_seta_n (by omega)]⟩, fun k _ => ⟨by rw [a_seta_n (by omega)], by rw [a_seta_n (by omega)]⟩⟩⟩
  rw [e] at k2
  have : cms s = true := by simp [cms, Nat.ble_eq_true_of_le hs.1, Nat.ble_eq_true_of_le hs.2]
  rw [this] at k2
  exact absurd k2 (by decide)
theorem cis_no {s : Nat} (hs : 316 ≤ s ∧ s ≤ 323) (h3 : s ≠ 323) (h6 : s ≠ 316) (h7 : s ≠ 317) : cis s = false := by
  rcases Nat.lt_or_ge s 324 with c | c
  · have h : ∀ s : Fin 324, 316 ≤ s.val → s.val ≠ 323 → s.val ≠ 316 → s.val ≠ 317 → cis s.val = false := by decide +kernel
    exact h ⟨s, c⟩ hs.1 h3 h6 h7
  · omega
/-- a field of a node is written -/
theorem cG.seta {T : sT} {w : cW} {A : cA} {m e : Nat} {σ : mmS} {i s j : Nat} {x : Int32} (h : cG T w A m e σ i) (hs : 316 ≤ s ∧ s ≤ 323) (hI : cI T (mm_seta σ s j x)) : cG T w A m e (mm_seta σ s j x) i := by
  obtain ⟨h1, h2, h3, h4, h5, h6, h7, h8, ⟨u1, u2, u3⟩, h10, h11, h12, hc⟩ := h
  have n (k : Nat) (hk : ¬ (316 ≤ k ∧ k ≤ 323)) : mm_a (mm_seta σ s j x) k = mm_a σ k := a_seta_n (by omega)
  exact ⟨hI, h2, h3, h4, h5.of (fun _ _ _ => rfl) (by rw [n 337 (by decide)]) (n 361 (by decide)) (n 362 (by decide)), h6, h7.of rfl rfl rfl (fun k k1 _ => ⟨n k (by omega), rfl⟩), h8, ⟨u1, u2, by rw [n 363 (by decide)]; exact u3⟩, (cntF_of (fun k _ => by rw [n 337 (by decide)])).trans h10, h11, h12, hc⟩
theorem cB.seta {T : sT} {g : Nat} {σ : mmS} {s j : Nat} {x : Int32} (h : cB T g σ) (hI : cI T (mm_seta σ s j x)) : cB T g (mm_seta σ s j x) := by
  obtain ⟨h1, h2, h3, h4⟩ := h
  exact ⟨hI, h2, h3, h4⟩
section WALK2
variable {β γ : Type} {T : sT} {Sh : β → Nat → Int32 → mmS → Prop} {N : Int32 → mmS → Prop} {g : Nat} {w0 : cW} {m0 e0 : Nat} {θ : cTh} {l0 : Nat} {Z : Int32 → mmS → Prop} {b : Bool} {h : Nat} {w : cW} {A : cA} {m e : Nat} {r r' : sR β} {σ : mmS} {i : Nat}
variable {d a : Nat} {Q : mmQ}
/-- the same reading in another state -/
theorem St.same {u : mmS} {h' m' e' i' : Nat} (st : St T Sh N g w0 m0 e0 θ l0 Z b h w A m e r σ i) (hf : Fr θ σ u) (ht : GD σ → tle (th σ) (th u)) (hh : GD σ → g + h' ≤ 69500) (hg : cG T w A m e σ i → cG T w A m' e' u i') (hb : cB T (g + h) σ → cB T (g + h') u) : St T Sh N g w0 m0 e0 θ l0 Z b h' w A m' e' r u i' := by
  rcases st with ⟨q1, q2, q3, q4⟩ | ⟨q1, q2, q3⟩
  · have gd := q1.2.1
    have ht := ht gd
    have l : tle θ (th u) := ⟨Nat.le_trans q2.1 ht.1, Nat.le_trans q2.2.1 ht.2.1, Nat.le_trans q2.2.2.1 ht.2.2.1, Nat.le_trans q2.2.2.2 ht.2.2.2⟩
    refine Or.inl ⟨hg q1, l, hh gd, fun n v rs => q4 n v ⟨hf.trans rs.1, ?_⟩⟩
    rcases rs.2 with x | ⟨x1 | x1, x2⟩
    · exact Or.inl x
    · exact Or.inr ⟨Or.inl x1, x2⟩
    · exact absurd (hg q1).2.1 x1
  · exact Or.inr ⟨q1, hb q2, fun n v f c hn => q3 n v (hf.trans f) c hn⟩
theorem St.tl (st : St T Sh N g w0 m0 e0 θ l0 Z b h w A m e r σ i) : (GD σ → tle θ (th σ)) ∧ (GD σ → g + h ≤ 69500) := by
  rcases st with ⟨q1, q2, q3, q4⟩ | ⟨-, q2, -⟩
  · exact ⟨fun _ => q2, fun _ => q3⟩
  · exact ⟨fun z => absurd z q2.no, fun z => absurd z q2.no⟩
theorem St.NS {u : mmS} {k x y z : Int32} (st : St T Sh N g w0 m0 e0 θ l0 Z b (h + 1) w A (m + 1) e r σ i) (n : NS σ k x y z u) (h35 : (k == 35) = false ∨ nid x σ) : St T Sh N g w0 m0 e0 θ l0 Z b h w A m e r u i := by
  have ht := NS_th n
  have hf := Fr.NS n
  rcases st with ⟨q1, q2, q3, q4⟩ | ⟨q1, q2, q3⟩
  · have l : tle θ (th u) := by
      rw [ht]
      exact ⟨Nat.le_succ_of_le q2.1, q2.2.1, q2.2.2.1, q2.2.2.2⟩
    have q := q1.NS (by omega) n h35
    refine Or.inl ⟨q, l, by omega, fun n v rs => q4 n v ⟨(hf.mono (fun _ => q2)).trans rs.1, ?_⟩⟩
    rcases rs.2 with x | ⟨x1 | x1, x2⟩
    · exact Or.inl x
    · exact Or.inr ⟨Or.inl x1, x2⟩
    · exact absurd q.2.1 x1
  · exact Or.inr ⟨q1, cB.NS q2 n h35, fun n v f c hn => q3 n v ((hf.mono (fun z => absurd z q2.no)).trans f) c hn⟩
theorem St.cap (st : St T Sh N g w0 m0 e0 θ l0 Z b h w A m e r σ i) : fN σ 315 ≤ 85000 ∧ fN σ 324 ≤ 8750 ∧ fN σ 336 ≤ 8750 ∧ fN σ 325 ≤ 129500 := by
  rcases st with ⟨q1, -⟩ | ⟨-, ⟨h1, h2, ⟨q, q1, q2, q3, q4, h4, h5, h6⟩, -⟩, -⟩
  · have := q1.caps; omega
  · omega
theorem St.node {k x y z : Int32} {C : Int32 → mmS → Prop} (st : St T Sh N g w0 m0 e0 θ l0 Z b (h + 1) w A m e r σ i) (hd : 3 ≤ d) (hm : 1 ≤ m) (kk : ∀ n u, St T Sh N g w0 m0 e0 θ l0 Z b h w A (m - 1) e r u i → Fr (th σ) σ u → NwN σ k x y z 0 n u → C n u) (h35 : (k == 35) = false ∨ nid x σ := by exact Or.inl rfl) :
    mm_I (MC d) Q 3051 [.inr (.inr (3, a)), .inl k, .inl x, .inl y, .inl z] σ C := by
  obtain ⟨m, rfl⟩ : ∃ m', m = m' + 1 := ⟨m - 1, by omega⟩
  have u := lnB.use st.ci
  refine c_node hd st.ci.2.1 st.cap.1 (by omega) u.2.1 (fun v n => kk _ v (st.NS n h35) (Fr.NS n) ?_)
  obtain ⟨n1, n2, n3, n4, n5, ⟨n6, n7, n8, n9, n10, n11, n12, n13⟩, -⟩ := n
  exact ⟨rfl, n2, n6, n7, n8, n9, n10, n12, n13, n3⟩
theorem St.node5 {k x y z v : Int32} {C : Int32 → mmS → Prop} (st : St T Sh N g w0 m0 e0 θ l0 Z b (h + 1) w A m e r σ i) (hd : 4 ≤ d) (hm : 1 ≤ m) (kk : ∀ n u, St T Sh N g w0 m0 e0 θ l0 Z b h w A (m - 1) e r u i → Fr (th σ) σ u → NwN σ k x y z v n u → C n u) (h35 : (k == 35) = false ∨ nid x σ := by exact Or.inl rfl) :
    mm_I (MC d) Q 3056 [.inr (.inr (3, a)), .inl k, .inl x, .inl y, .inl z, .inl v] σ C := by
  obtain ⟨m, rfl⟩ : ∃ m', m = m' + 1 := ⟨m - 1, by omega⟩
  have u := lnB.use st.ci
  refine c_node5 hd st.ci.2.1 st.cap.1 (by omega) u.2.1 (fun p n => ?_)
  have hlo : GD σ → θ.1 ≤ fN σ 315 := fun gd => (st.tl.1 gd).1
  have fr : Fr (th σ) σ (mm_seta p 320 (fN σ 315) v) := (Fr.NS n).trans (Fr.seta (by decide) fun _ => Nat.le_refl _)
  refine kk _ _ (st.same (fr.mono fun gd => st.tl.1 gd) (fun _ => ?_) (fun gd => by have := st.tl.2 gd; omega) (fun q => ?_) (fun q => (cB.NS q n h35).seta ((cB.NS q n h35).1.seta rfl))) fr ?_
  · have ht := NS_th n
    show tle (th σ) (th p)
    rw [ht]
    exact ⟨Nat.le_succ _, Nat.le_refl _, Nat.le_refl _, Nat.le_refl _⟩
  · exact (q.NS (by omega) n h35).seta (by decide) ((q.NS (by omega) n h35).1.seta rfl)
  · obtain ⟨n1, n2, n3, n4, n5, ⟨n6, n7, n8, n9, n10, n11, n12, n13⟩, -⟩ := n
    exact ⟨rfl, n2, by rw [a_seta_n (by decide)]; exact n6, by rw [a_seta_n (by decide)]; exact n7, by rw [a_seta_n (by decide)]; exact n8, by rw [a_seta_n (by decide)]; exact n9, a_seta_s, by rw [a_seta_n (by decide)]; exact n12, by rw [a_seta_n (by decide)]; exact n13, n3⟩
/-- what is read by a part with a contract of its own -/
theorem St.callP {Sh' : mmS → γ → Nat → Int32 → mmS → Prop} {N' : Int32 → mmS → Prop} {c s m' : Nat} {bb : Bool} {r1 : Nat → sR γ} {f : γ → Nat → sR β} {C : Int32 → mmS → Prop} {Goal : Prop}
    (hC : (cG T w A m e σ i ∨ (bb = true ∧ cB T (g + h + c) σ)) → (∀ n u, Rs T (Sh' σ) N' (g + h) w m' e (th σ) (i + s) A (r1 i) σ n u → C n u) → Goal) (v0 : γ) (st : St T Sh N g w0 m0 e0 θ l0 Z b (h + c) w A m e (s_b (r1 i) f) σ i) (hb : b = true → bb = true) (hw : w_in w = w_in w0)
    (k : ∀ v j B q n u, St T Sh N g w0 m0 e0 θ l0 Z true h w B (m' + q) e (f v j) u j → Fr (th σ) σ u → (GD u → i + s ≤ j) → (GD u → Sh' σ v q n u) → (¬ GD u → N' n u) → C n u) : Goal := by
  refine hC ?_ (fun n u rs => ?_)
  · rcases st with ⟨q1, -⟩ | ⟨q1, q2, -⟩
    · exact Or.inl q1
    · exact Or.inr ⟨hb q1, by rw [Nat.add_assoc]; exact q2⟩
  · obtain ⟨hf, rs⟩ := rs
    rcases rs with ⟨v, j, B, q, x1, x2, x3, x4⟩ | ⟨x1, x2, x3⟩
    · have gd := x2.2.1
      refine k v j B q n u ?_ hf (fun _ => x4) (fun _ => x3) (fun z => absurd gd z)
      rcases st with ⟨q1, q2, q3, q4⟩ | ⟨q1, q2, q3⟩
      · have l : tle θ (th u) := by
          have hg := (hf.2.2.2.2.2.2.2 gd).1
          obtain ⟨f1, f2, f3, f4⟩ := hf.2.2.2.2.1
          have e1 : fN σ 356 = fN u 356 := by
            have a1 := q1.2.2.2.2.1.2.2.2.2.2.1
            have a2 := x2.2.2.2.2.1.2.2.2.2.2.1
            exact (fN_eq (a1.trans a2.symm))
          exact ⟨Nat.le_trans q2.1 f1, Nat.le_trans q2.2.1 f4, Nat.le_trans q2.2.2.1 hg, Nat.le_trans q2.2.2.2 (by show fN σ 356 ≤ fN u 356; omega)⟩
        refine Or.inl ⟨x2, l, by omega, fun n' v' rs => q4 n' v' ⟨(hf.mono (fun _ => q2)).trans rs.1, ?_⟩⟩
        have e : run (w_in w0) A (s_b (r1 i) f) = run (w_in w0) B (f v j) := by
          rw [run_b, ← hw, x1]
        rw [e]
        rcases rs.2 with x | ⟨y1 | y1, y2⟩
        · exact Or.inl x
        · exact Or.inr ⟨Or.inl y1, y2⟩
        · exact absurd gd y1
      · exact absurd (hf.1 gd) q2.no
    · refine k v0 i A 0 n u (Or.inr ⟨rfl, x2, fun n' u' f' c' hn => ?_⟩) hf (fun z => absurd z x2.no) (fun z => absurd z x2.no) (fun _ => x3)
      rcases st with ⟨q1, q2, q3, q4⟩ | ⟨q1, q2, q3⟩
      · refine q4 n' u' ⟨(hf.mono (fun _ => q2)).trans f', Or.inr ⟨Or.inl ?_, c', hn⟩⟩
        rcases x1 with x1 | x1
        · rw [run_b, ← hw, x1]
        · exact absurd q1.2.1 x1
      · exact q3 n' u' ((hf.mono (fun z => absurd z q2.no)).trans f') c' hn
/-- a call of a method with a contract -/
theorem St.call {Sh' : mmS → γ → Nat → Int32 → mmS → Prop} {N' : Int32 → mmS → Prop} {D c q s y : Nat} {bb : Bool} {r1 : Nat → sR γ} {as : List mmV} {f : γ → Nat → sR β} {C : Int32 → mmS → Prop} (hC : CI T Sh' N' D c q bb s w r1 y as) (v0 : γ) (st : St T Sh N g w0 m0 e0 θ l0 Z b (h + c) w A m e (s_b (r1 i) f) σ i) (hb : b = true → bb = true) (hd : D ≤ d) (hg : g + h + q ≤ GQ (w_nu w)) (hm : 24 ≤ m) (hw : w_in w = w_in w0)
    (k : ∀ v j B q n u, St T Sh N g w0 m0 e0 θ l0 Z true h w B (m + q) e (f v j) u j → Fr (th σ) σ u → (GD u → i + s ≤ j) → (GD u → Sh' σ v q n u) → (¬ GD u → N' n u) → C n u) : mm_I (MC d) Q y as σ C :=
  st.callP (m' := m) (hC d (g + h) A m e i σ C _ hd hg hm) v0 hb hw k
theorem St.callV {Sh' : mmS → γ → Nat → Int32 → mmS → Prop} {D c q s y : Nat} {bb : Bool} {r1 : Nat → sR γ} {as : List mmV} {f : γ → Nat → sR β} {C : mmS → Prop} (hC : CV T Sh' D c q bb s w r1 y as) (v0 : γ) (st : St T Sh N g w0 m0 e0 θ l0 Z b (h + c) w A m e (s_b (r1 i) f) σ i) (hb : b = true → bb = true) (hd : D ≤ d) (hg : g + h + q ≤ GQ (w_nu w)) (hm : 24 ≤ m) (hw : w_in w = w_in w0)
    (k : ∀ v j B q u, St T Sh N g w0 m0 e0 θ l0 Z true h w B (m + q) e (f v j) u j → Fr (th σ) σ u → (GD u → i + s ≤ j) → (GD u → Sh' σ v q 0 u) → C u) : mm_V (MC d) Q y as σ C :=
  st.callP (m' := m) (N' := any2) (C := fun n u => n = 0 → C u) (fun en kk => hC d (g + h) A m e i σ C _ hd hg hm en (fun u rs => kk 0 u rs rfl)) v0 hb hw (fun v j B q n u s1 hf hj hs _ hn => k v j B q u s1 hf hj (fun gd => by rw [← hn]; exact hs gd))
/-- if (wrong) -/
theorem St.wrong {X1 X2 : Prop} (st : St T Sh N g w0 m0 e0 θ l0 Z b h w A m e r σ i) (k0 : GD σ → St T Sh N g w0 m0 e0 θ l0 Z false h w A m e r σ i → X1) (k1 : ¬ GD σ → X2) : mm_br (mm_f σ 303 = 0) X1 X2 := by
  refine br_p (fun z => k0 z ?_) (fun z => k1 z)
  rcases st with q | ⟨-, q, -⟩
  · exact Or.inl q
  · exact absurd z q.no
/-- a token on: one more is put by -/
theorem St.adv1 (st : St T Sh N g w0 m0 e0 θ l0 Z b h w A m e r σ i) (z : NZ T σ) (hg : g + h + 1 ≤ 69500) : St T Sh N g w0 m0 e0 θ l0 Z b (h + 1) w A (m + 12) e r (mm_setf σ 311 (mm_f σ 311 + 1)) (i + 1) :=
  st.same (Fr.setf rfl (by decide) (by decide) (by decide) (by decide) (by decide) (by decide)) (fun _ => by rw [th_setf (by decide) (by decide) (by decide) (by decide)]; exact tle.rfl') (fun _ => by omega) (fun q => q.adv z) (fun q => q.adv z)
/-- a field of a node of one's own is written -/
theorem St.setn {s k : Nat} {n x : Int32} {K : mmS → Prop} (st : St T Sh N g w0 m0 e0 θ l0 Z b h w A m e r σ i) (hs : 316 ≤ s ∧ s ≤ 323) (h3 : s ≠ 323 ∨ x = 0 ∨ x = 1) (hn : n = nI k) (hk : k < fN σ 315) (ho : GD σ → θ.1 ≤ k) (h67 : (s ≠ 316 ∧ s ≠ 317) ∨ (s = 317 ∧ (nid x σ ∨ ¬ mm_a σ 316 k = 35)) ∨ (s = 316 ∧ 1 ≤ k ∧ ¬ x = 35)) (kk : St T Sh N g w0 m0 e0 θ l0 Z b h w A m e r (mm_seta σ s k x) i → K (mm_seta σ s k x)) : mm_S σ s n x K := by
  have c := st.ci.2.1
  have hI : cI T (mm_seta σ s k x) := by
    by_cases h : s = 323
    · subst h
      exact st.ci.par (h3.resolve_left (fun z => z rfl))
    · rcases h67 with ⟨z6, z7⟩ | ⟨z, z7⟩ | ⟨z, z6, z7⟩
      · exact st.ci.seta (cis_no hs h z6 z7)
      · subst z
        exact st.ci.set7 z7
      · subst z
        exact st.ci.set6 z6 z7
  have c5 := c.2.2.2.2.1
  have c3 := c.2.2.1
  have c6 := c.2.2.2.2.2.1 s hs.1 hs.2
  refine wr' hn c6 (by omega) (by omega) (kk (st.same (Fr.seta hs ho) (fun _ => tle.rfl') (fun gd => st.tl.2 gd) (fun q => q.seta hs hI) (fun q => q.seta hI)))
end WALK2
