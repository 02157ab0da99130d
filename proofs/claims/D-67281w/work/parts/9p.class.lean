/-! PHASE 3. classAt(): what a class has of names -/
theorem nI_m {k : Nat} (h : k < 2 ^ 31) : ¬ nI k = -1 := by
  intro e
  have := congrArg Int32.toNatClampNeg e
  rw [nI_clamp h] at this
  have h1 : k = 0 := this
  subst h1
  exact absurd e (by decide)
theorem lnk_pre {σ u : mmS} {B : Nat} (hB : B < 2 ^ 31) (h3 : ∀ k, k < fN σ 325 → ¬ mm_a σ 334 k = -1 → mm_a u 334 k = mm_a σ 334 k) : ∀ {l l' : List Nat} {e e' : Int32}, lnk σ l e → lnk u l' e' → (¬ e = -1 → e' = e) → (∀ k ∈ l, k < fN σ 325 ∧ k < B) → (∀ k ∈ l', k < B) → ∃ t, l' = l ++ t
  | [], l', _, _, _, _, _, _, _ => ⟨l', rfl⟩
  | k :: l, l', e, e', h, h', he, hl, hl' => by
    have hk := hl k List.mem_cons_self
    have e1 : e = nI k := h.1
    have e2 : e' = nI k := by rw [he (by rw [e1]; exact nI_m (by omega)), e1]
    cases l' with
    | nil =>
      have : e' = -1 := h'
      rw [e2] at this
      exact absurd this (nI_m (by omega))
    | cons k' l'' =>
      have hk' := hl' k' List.mem_cons_self
      have : k' = k := nI_inj (by omega) (by omega) (h'.1.symm.trans e2)
      subst this
      obtain ⟨t, ht⟩ := lnk_pre hB h3 h.2 h'.2 (fun ne => h3 _ hk.1 ne) (fun q hq => hl q (List.mem_cons_of_mem _ hq)) (fun q hq => hl' q (List.mem_cons_of_mem _ hq))
      exact ⟨t, by rw [ht]; rfl⟩
/-- what a scope had it has still, at the same places -/
theorem R_pre {σ u : mmS} {R R' : Nat → List Nat} {s : Nat} (h : stru σ R) (h' : stru u R') (g : gro σ u) (hs : s < fN σ 324) (hs' : s < fN u 324) (hc : fN σ 325 ≤ 129500) (hc' : fN u 325 ≤ 129500) : ∃ t, R' s = R s ++ t := by
  obtain ⟨l1, l2, l3, l4⟩ := h.2.2.1 s hs
  obtain ⟨m1, m2, m3, m4⟩ := h'.2.2.1 s hs'
  exact lnk_pre (B := 129500) (by decide) (fun k hk ne => (g.2 k hk).2 ne) l1 m1 (fun ne => g.1 s hs ne) (fun k hk => ⟨l3 k hk, by have := l3 k hk; omega⟩) (fun k hk => by have := m3 k hk; omega)
theorem R_eq {σ u : mmS} {R R' : Nat → List Nat} {s : Nat} (h : stru σ R) (h' : stru u R') (g : gro σ u) (hs : s < fN σ 324) (hs' : s < fN u 324) (hc : fN σ 325 ≤ 129500) (hc' : fN u 325 ≤ 129500) (he : (ens u (R' s)).length = (ens σ (R s)).length) : R' s = R s := by
  obtain ⟨t, ht⟩ := R_pre h h' g hs hs' hc hc'
  rw [ht] at he
  unfold ens at he
  rw [List.length_map, List.length_map, List.length_append] at he
  have : t = [] := List.length_eq_zero_iff.mp (by omega)
  rw [ht, this, List.append_nil]
/-- half(): a private name's row with what it is half of -/
def hfS (σ : mmS) (n : Nat) (r kd st : Int32) : mmS := mm_setf (mm_seta (mm_seta σ 369 n r) 370 n (if kd = 1 ∨ kd = 2 then 2 * kd + st else 0)) 371 (nI (n + 1))
theorem c_half {T : sT} {σ : mmS} {n a d : Nat} {r kd st : Int32} {K : mmS → Prop} {X : Nat → mmS → Prop} (hd : 1 ≤ d) (h : cI T σ) (hn : mm_f σ 371 = nI n) (hb : n < 3000) (k : K (hfS σ n r kd st)) : mm_cv (MC d) 3089 [.inr (.inr (3, a)), .inl r, .inl kd, .inl st] σ K X := by
  obtain ⟨d, rfl, hd⟩ := mc_pos (c := 0) (by omega)
  obtain ⟨⟨l1, l2, l3, l4, l5, l6⟩, -⟩ := h.2.2.2.2.2.2
  refine mc_cv (P := mt3089) (L := 4) rfl rfl ⟨by decide, Nat.le_of_ble_eq_true rfl⟩ fun Q hK hX => b3089_0 _ _ _ _ _ _ _ ?_
  have s1 : nI n + 1 = nI (n + 1) := nI_1 n
  refine wr' hn l4 hb (by decide) ?_
  have f1 : mm_f (mm_seta σ 369 n r) 371 = nI n := hn
  have l5' : mm_n (mm_seta σ 369 n r) 370 = 3000 := l5
  have w28 : (kd = 1 ∨ kd = 2) → mm_W mt3089 (MC d) Q (28, [some (.inr (.inr (3, a))), some (.inl r), some (.inl kd), some (.inl st)], [.inl (mm_f (mm_seta σ 369 n r) 371), .inr (.inr (370, mm_v (mm_seta σ 369 n r) 370))]) (mm_seta σ 369 n r) := fun hk => by
    refine b3089_28 _ _ _ _ _ _ _ _ _ ?_
    show mm_S (mm_seta σ 369 n r) 370 _ _ _
    refine wr' f1 l5' hb (by decide) (hK _ ?_)
    unfold hfS at k
    rw [if_pos hk] at k
    have e : mm_f (mm_seta (mm_seta σ 369 n r) 370 n (2 * kd + st)) 371 = nI n := hn
    rw [e, s1]
    exact k
  refine br_p (fun c1 => w28 (Or.inl c1)) (fun c1 => br_p (fun c2 => w28 (Or.inr c2)) (fun c2 => ?_))
  refine wr' f1 l5' hb (by decide) (hK _ ?_)
  unfold hfS at k
  rw [if_neg (fun z => by rcases z with z | z; exact c1 z; exact c2 z)] at k
  have e : mm_f (mm_seta (mm_seta σ 369 n r) 370 n 0) 371 = nI n := hn
  rw [e, s1]
  exact k
/-- pairs(): is there the other half, alone -/
theorem c_pairs {T : sT} {σ : mmS} {n a d k0 : Nat} {r kd st : Int32} {K : Int32 → mmS → Prop} {X : Nat → mmS → Prop} (hd : 1 ≤ d) (h : cI T σ) (hn : mm_f σ 371 = nI n) (hb : n ≤ 3000) (hk : k0 < n) (h0 : mm_a σ 369 k0 = r) (hne : ∀ k, k < n → k ≠ k0 → ¬ mm_a σ 369 k = r)
    (kk0 : mm_a σ 370 k0 = 0 → K 0 σ) (kk : ¬ mm_a σ 370 k0 = 0 → K (bI (decide (kd = 3 - mf_idiv (mm_a σ 370 k0) 2) && decide (st = mf_irem (mm_a σ 370 k0) 2))) (mm_seta σ 370 k0 0)) : mm_ci (MC d) 3090 [.inr (.inr (3, a)), .inl r, .inl kd, .inl st] σ K X := by
  obtain ⟨d, rfl, hd⟩ := mc_pos (c := 0) (by omega)
  obtain ⟨⟨l1, l2, l3, l4, l5, l6⟩, -⟩ := h.2.2.2.2.2.2
  refine mc_ci (P := mt3090) (L := 6) rfl rfl ⟨by decide, Nat.le_of_ble_eq_true rfl⟩ fun Q hK hX => b3090_0 _ _ _ _ _ _ _ _ _ ?_
  have loop : ∀ f q, n < f + q → q ≤ n → (k0 < q → mm_a σ 370 k0 = 0) → ∀ wv5 : Option mmV, mm_W mt3090 (MC d) Q (3, [some (.inr (.inr (3, a))), some (.inl r), some (.inl kd), some (.inl st), some (.inl (nI q)), wv5], []) σ := by
    intro f
    induction f with
    | zero => intro q h1 h2; omega
    | succ f IH =>
      intro q h1 h2 h3 wv5
      refine b3090_3 _ _ _ _ _ _ _ _ _ (br_p (fun c => ?_) (fun c => ?_))
      · rw [hn] at c
        have hq : q < n := (nI_lt_iff (by omega) (by omega)).mp c
        have nx : (k0 < q + 1 → mm_a σ 370 k0 = 0) → mm_W mt3090 (MC d) Q (3, [some (.inr (.inr (3, a))), some (.inl r), some (.inl kd), some (.inl st), some (.inl (nI q + 1)), wv5], []) σ := fun hz => by
          rw [nI_1]
          exact IH (q + 1) (by omega) (by omega) hz wv5
        refine rd' rfl l4 (by omega) (by decide) (br_p (fun c1 => ?_) (fun c1 => nx (fun hlt => h3 (by
          have : q ≠ k0 := fun e => c1 (by rw [e]; exact h0)
          omega))))
        have eq : q = k0 := Decidable.byContradiction fun ne => hne q hq ne c1
        subst eq
        refine rd' rfl l5 (by omega) (by decide) (br_p (fun c2 => nx (fun _ => c2)) (fun c2 => ?_))
        have kk := kk c2
        refine rd' rfl l5 (by omega) (by decide) ⟨by decide, br_p (fun c3 => rd' rfl l5 (by omega) (by decide) ⟨by decide, br_p (fun c4 => ?_) (fun c4 => ?_)⟩) (fun c3 => ?_)⟩
        · rw [decide_eq_true c3, decide_eq_true c4] at kk
          exact wr' rfl l5 (by omega) (by decide) ⟨Or.inr rfl, hK _ _ kk⟩
        · rw [decide_eq_false c4, Bool.and_false] at kk
          exact wr' rfl l5 (by omega) (by decide) ⟨Or.inl rfl, hK _ _ kk⟩
        · rw [decide_eq_false c3, Bool.false_and] at kk
          exact wr' rfl l5 (by omega) (by decide) ⟨Or.inl rfl, hK _ _ kk⟩
      · rw [hn] at c
        have hq : ¬ q < n := fun z => c ((nI_lt_iff (by omega) (by omega)).mpr z)
        exact ⟨Or.inl rfl, hK _ _ (kk0 (h3 (by omega)))⟩
  have := loop (n + 1) 0 (by omega) (by omega) (fun z => absurd z (by omega)) none
  rw [nI_0] at this
  exact this
