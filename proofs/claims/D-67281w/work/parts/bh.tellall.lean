/-! PHASE 4. tell() as a rule; tellAll() -/
/-- nodes and names are the same -/
def pgX (σ u : mmS) : Prop := (∀ k, 312 ≤ k → mm_f u k = mm_f σ k) ∧ ∀ s, 300 ≤ s → lst s → sam σ u s
theorem pgX.rfl' {σ : mmS} : pgX σ σ := ⟨fun _ _ => rfl, fun _ _ _ => sam.rfl'⟩
theorem pgX.trans {σ u v : mmS} (h : pgX σ u) (g : pgX u v) : pgX σ v := ⟨fun k hk => (g.1 k hk).trans (h.1 k hk), fun s h1 h2 => (h.2 s h1 h2).trans (g.2 s h1 h2)⟩
theorem pgX.pg {σ u : mmS} (h : pgR σ u) : pgX σ u := ⟨fun k hk => h.1 k (by omega), fun s h1 h2 => h.2.2 s h2 (by
  simp only [Bool.or_eq_false_iff, beq_eq_false_iff_ne]
  omega)⟩
theorem pgX.fl {T : sT} {σ : mmS} : pgX σ (fl T σ) := ⟨fun k hk => fl_f (by omega) (by omega), fun _ _ _ => sam.rfl'⟩
theorem s_newL_app {l a b : List sO} : s_newL l (a ++ b) = (s_newL l a && s_newL (l ++ a) b) := by
  induction a generalizing l with
  | nil => simp [s_newL]
  | cons x t ih => rw [List.cons_append, s_newL, s_newL, ih, List.append_assoc, Bool.and_assoc]; rfl
theorem nwT_new {o : List (Int32 × Int32 × Int32)} {x : Int32} {y : sO} (hy : y.1 = x) : nwT o x = s_new1 (o.map tdm) y := by
  unfold nwT s_new1
  rw [hy, List.any_map]
  have e : ((fun y : sO => y.1 == x) ∘ tdm) = fun y => y.1 == x := rfl
  rw [e]
  have : decide (0 ≤ x) = !decide (x < 0) := by
    by_cases c : x < 0
    · rw [decide_eq_true c, decide_eq_false (Int32.not_le.mpr c)]; rfl
    · rw [decide_eq_false c, decide_eq_true (Int32.not_lt.mp c)]; rfl
  rw [this]
  cases decide (x < 0) <;> simp
section TALL
variable {β : Type} {T : sT} {g : Nat} {A0 : cA} {r0 : sR β} {NG : Prop × mmS} {b : Bool} {h : Nat} {A : cA} {m e : Nat} {r r' : sR β} {σ u : mmS} {i c n : Nat} {RQ : List Int32} {LO : List sO} {θ : cTh}
variable {d a : Nat} {Q : mmQ} {Ak Bk : mmS → Prop}
/-- tell(name, asked, request) -/
theorem SM.tell {v1 v2 v3 : Int32} {C : mmS → Prop} {X : Nat → mmS → Prop} (s0 : SM T g A0 r0 NG b h A m e r σ i) (p : PM c n RQ LO σ) (hd : 6 ≤ d) (hn : GD σ → n + 1 ≤ 1300) (hN : GD σ → s_new1 LO (v1, decide (v3 < 0), v2) = false → run false A r = none)
    (kk : ∀ u, SM T g A0 r0 NG true h A m e r u i → (GD u → GD σ ∧ s_new1 LO (v1, decide (v3 < 0), v2) = true) → PM c (n + 1) RQ (LO ++ [(v1, decide (v3 < 0), v2)]) u → pgX σ u → C u) : mm_cv (MC d) 3040 [.inr (.inr (3, a)), .inl v1, .inl v2, .inl v3] σ C X := by
  obtain ⟨rq, ni, o, p1, p2, p3⟩ := p
  refine c_tell hd s0.ci p1 (by omega) (fun ng => ?_) (fun gd hw u q1 q2 q3 => ?_) (fun gd hw u q1 q2 q3 => ?_)
  · exact kk σ (s0.any ng _ _ _ _ _) (fun gd => absurd gd ng) ⟨rq, ni, o, p1, p2, fun gd => absurd gd ng⟩ pgX.rfl'
  · have h3 := p3 gd
    rw [nwT_new (y := (v1, decide (v3 < 0), v2)) rfl, h3.2.2.2.2] at hw
    refine kk u ((s0.pg q1 q2).weak (Nat.le_refl _) (Nat.le_refl _) (Nat.le_refl _)) (fun _ => ⟨gd, hw⟩) ⟨rq, ni, _, q3, ⟨p2.1, p2.2.1, ?_⟩, fun _ => ⟨h3.1, by omega, by omega, ?_, ?_⟩⟩ (pgX.pg q1)
    · have := hn gd
      simp only [List.length_append, List.length_cons, List.length_nil]
      omega
    · simp only [List.length_append, List.length_cons, List.length_nil]
      omega
    · rw [List.map_append, h3.2.2.2.2]; rfl
  · have h3 := p3 gd
    rw [nwT_new (y := (v1, decide (v3 < 0), v2)) rfl, h3.2.2.2.2] at hw
    have hng := s0.2.2.1 ((s0.2.1 gd).trans (hN gd hw))
    have e3 : mm_f u 303 = 1 := (q1.1 303 (by decide)).trans fl_flags.1
    have ng : ¬ GD u := fun z => by unfold GD at z; rw [e3] at z; exact absurd z (by decide)
    refine kk u (s0.bad hng q2 q1) (fun gu => absurd gu ng) ⟨rq, ni, _, q3, ⟨p2.1, p2.2.1, ?_⟩, fun gu => absurd gu ng⟩ (pgX.fl.trans (pgX.pg q1))
    have := hn gd
    simp only [List.length_append, List.length_cons, List.length_nil]
    omega
/-- names of one's own -/
def tl1 (x : Int32) : sO := (x, true, x)
theorem cN.rdN {s k : Nat} {K : Int32 → Prop} (cn : cN σ) (hs : 316 ≤ s ∧ s ≤ 323) (hk : k < fN σ 315) (h : K (mm_a σ s k)) : mm_L σ s (nI k) K := by
  have c5 := cn.2.2.2.2.1
  have c3 := cn.2.2.1
  have c6 := cn.2.2.2.2.2.1 s hs.1 hs.2
  exact rd c6 (by omega) (by omega) h
theorem tlR_lt {u : mmS} {lo hi D f k : Nat} {bb : Bool} {l : List Int32} (hh : hi < 2 ^ 31) (ht : tlR u lo hi D f bb k = some l) : k < 2 ^ 31 := by
  have hf : ∀ f, tlR u lo hi D f false k = some l → k < 2 ^ 31 := fun f ht => by
    cases f with
    | zero => exact nomatch ht
    | succ f =>
      rw [tlR] at ht
      by_cases c : lo ≤ k ∧ k < hi
      · omega
      · rw [if_neg c] at ht; exact nomatch ht
  cases bb with
  | false => exact hf f ht
  | true =>
    cases f with
    | zero => exact nomatch ht
    | succ f =>
      rw [tlR] at ht
      by_cases c : k = 0
      · omega
      · rw [if_neg c] at ht
        cases h1 : tlR u lo hi D f false k with
        | none => rw [h1] at ht; exact nomatch ht
        | some l1 =>
          cases f with
          | zero => exact nomatch h1
          | succ f =>
            rw [tlR] at h1
            by_cases c : lo ≤ k ∧ k < hi
            · omega
            · rw [if_neg c] at h1; exact nomatch h1
theorem tell_all {σ0 : mmS} {lo hi : Nat} (hlo : 1 ≤ lo) (hhi : hi ≤ fN σ0 315) : ∀ (f : Nat) (bb : Bool) (D : Nat) (k : Nat) (l : List Int32), tlR σ0 lo hi D f bb k = some l →
    ∀ (d : Nat) (τ : mmS) (LO : List sO) (n : Nat) (b : Bool), D + 8 ≤ d → SM T g A0 r0 NG b h A m e r τ i → PM c n RQ LO τ → pgX σ0 τ → (GD τ → n + l.length ≤ 1300) → (GD τ → s_newL LO (l.map tl1) = false → run false A r = none) →
    (bb = false → ∀ (C : mmS → Prop) (X : Nat → mmS → Prop), (∀ u, SM T g A0 r0 NG true h A m e r u i → (GD u → GD τ ∧ s_newL LO (l.map tl1) = true) → PM c (n + l.length) RQ (LO ++ l.map tl1) u → pgX σ0 u → C u) → mm_cv (MC d) 3113 [.inr (.inr (3, a)), .inl (nI k)] τ C X) ∧
    (bb = true → ∀ (Q : mmQ) (v1 v2 : Int32), (∀ u, SM T g A0 r0 NG true h A m e r u i → (GD u → GD τ ∧ s_newL LO (l.map tl1) = true) → PM c (n + l.length) RQ (LO ++ l.map tl1) u → pgX σ0 u → Q (.inl none) u) → mm_W mt3113 (MC d) Q (88, [some (.inr (.inr (3, a))), some (.inl v1), some (.inl v2), some (.inl (nI k))], []) τ) := by
  intro f
  induction f with
  | zero => intro bb D k l ht; exact nomatch ht
  | succ f ih =>
    intro bb D k l ht d τ LO n b hd s0 p hx hn hN
    have cn := s0.ci.2.1
    have f315 : fN τ 315 = fN σ0 315 := fN_eq (hx.1 315 (by decide))
    have ea : ∀ s, 316 ≤ s → s ≤ 323 → mm_a τ s = mm_a σ0 s := fun s s1 s2 => (hx.2 s (by omega) (Or.inr (by omega))).1
    have triv : ∀ C : mmS → Prop, (∀ u, SM T g A0 r0 NG true h A m e r u i → (GD u → GD τ ∧ s_newL LO (([] : List Int32).map tl1) = true) → PM c (n + 0) RQ (LO ++ ([] : List Int32).map tl1) u → pgX σ0 u → C u) → C τ := fun C kk => by
      refine kk τ (s0.weak (Nat.le_refl _) (Nat.le_refl _) (Nat.le_refl _)) (fun gd => ⟨gd, rfl⟩) ?_ hx
      rw [List.map_nil, List.append_nil]
      exact p
    cases bb with
    | false =>
      refine ⟨fun _ C X kk => ?_, fun z => nomatch z⟩
      obtain ⟨d, rfl, hd⟩ := mc_pos (c := D + 7) hd
      refine mc_cv (P := mt3113) (L := 4) rfl rfl ⟨by decide, Nat.le_of_ble_eq_true rfl⟩ fun Q hK hX => b3113_0 _ _ _ _ _ _ _ (br_p (fun gd => ?_) (fun ng => ?_))
      · rw [tlR] at ht
        by_cases cr : lo ≤ k ∧ k < hi
        · rw [if_pos cr] at ht
          have hk : k < fN τ 315 := by omega
          have hkb : fN τ 315 < 2 ^ 31 := by have := s0.1.cap.1; omega
          refine br_n (nI_ne0 (by omega) (by omega)) (cn.rdN (by decide) hk ?_)
          rw [ea 316 (by decide) (by decide)]
          by_cases c4 : mm_a σ0 316 k = 4
          · rw [if_pos c4] at ht
            have : [mm_a σ0 317 k] = l := Option.some.inj ht
            subst this
            refine br_y c4 (cn.rdN (by decide) hk (cn.rdN (by decide) hk ?_))
            rw [ea 317 (by decide) (by decide)]
            have e1 : s_newL LO ([mm_a σ0 317 k].map tl1) = s_new1 LO (mm_a σ0 317 k, decide ((-1 : Int32) < 0), mm_a σ0 317 k) := by
              show (_ && true) = _
              rw [Bool.and_true]; rfl
            refine s0.tell p (by omega) hn (fun gd hz => hN gd (e1.trans hz)) (fun u q1 q2 q3 q4 => hK _ (kk u q1 (fun gu => ⟨(q2 gu).1, e1.trans (q2 gu).2⟩) q3 (hx.trans q4)))
          · rw [if_neg c4] at ht
            refine br_n c4 ?_
            by_cases c5 : mm_a σ0 316 k = 52 ∨ mm_a σ0 316 k = 53
            · rw [if_pos c5] at ht
              by_cases cD : D = 0
              · rw [if_pos cD] at ht; exact nomatch ht
              · rw [if_neg cD] at ht
                have go : mm_L τ 317 (nI k) (fun x5 => mm_V (MC d) Q 3113 [.inr (.inr (3, a)), .inl x5] τ (fun σ6 => Q (.inl none) σ6)) := by
                  refine cn.rdN (by decide) hk ?_
                  rw [ea 317 (by decide) (by decide)]
                  have hj : mm_a σ0 317 k = nI (tN (mm_a σ0 317 k)) := by
                    exact tN_back (tlR_lt (by omega) ht)
                  rw [hj]
                  exact (ih false (D - 1) _ l ht d τ LO n b (by omega) s0 p hx hn hN).1 rfl _ _ (fun u q1 q2 q3 q4 => hK _ (kk u q1 q2 q3 q4))
                rcases c5 with c5 | c5
                · exact br_y c5 go
                · exact br_n (by rw [c5]; decide) (br_y c5 go)
            · rw [if_neg c5] at ht
              refine br_n (fun z => c5 (Or.inl z)) (br_n (fun z => c5 (Or.inr z)) ?_)
              by_cases c6 : mm_a σ0 316 k = 50 ∨ mm_a σ0 316 k = 51
              · rw [if_pos c6] at ht
                by_cases cD : D = 0
                · rw [if_pos cD] at ht; exact nomatch ht
                · rw [if_neg cD] at ht
                  have go : mm_L τ 317 (nI k) (fun x9 => mm_W mt3113 (MC d) Q (88, [some (.inr (.inr (3, a))), some (.inl (nI k)), some (.inl (mm_a σ0 316 k)), some (.inl x9)], []) τ) := by
                    refine cn.rdN (by decide) hk ?_
                    rw [ea 317 (by decide) (by decide)]
                    have hj : mm_a σ0 317 k = nI (tN (mm_a σ0 317 k)) := by
                      exact tN_back (tlR_lt (by omega) ht)
                    rw [hj]
                    exact (ih true (D - 1) _ l ht d τ LO n b (by omega) s0 p hx hn hN).2 rfl _ _ _ (fun u q1 q2 q3 q4 => hK _ (kk u q1 q2 q3 q4))
                  rcases c6 with c6 | c6
                  · exact br_y c6 go
                  · exact br_n (by rw [c6]; decide) (br_y c6 go)
              · rw [if_neg c6] at ht
                have : ([] : List Int32) = l := Option.some.inj ht
                subst this
                refine br_n (fun z => c6 (Or.inl z)) (br_n (fun z => c6 (Or.inr z)) (hK _ (triv C kk)))
        · rw [if_neg cr] at ht; exact nomatch ht
      · obtain ⟨rq, ni, o, p1, p2, p3⟩ := p
        exact hK _ (kk τ (s0.any ng _ _ _ _ _) (fun gd => absurd gd ng) ⟨rq, ni, o, p1, p2, fun gd => absurd gd ng⟩ hx)
    | true =>
      refine ⟨fun z => (nomatch z), fun _ Q v1 v2 kk => ?_⟩
      rw [tlR] at ht
      by_cases c0 : k = 0
      · rw [if_pos c0] at ht
        have : ([] : List Int32) = l := Option.some.inj ht
        subst this
        exact b3113_88 _ _ _ _ _ _ _ (br_y (by rw [c0]; exact nI_0) (triv (Q (.inl none)) kk))
      · rw [if_neg c0] at ht
        cases h1 : tlR σ0 lo hi D f false k with
        | none => rw [h1] at ht; exact nomatch ht
        | some l1 =>
          rw [h1] at ht
          simp only at ht
          cases h2 : tlR σ0 lo hi D f true (tN (mm_a σ0 322 k)) with
          | none => rw [h2] at ht; exact nomatch ht
          | some l2 =>
            rw [h2] at ht
            have : l1 ++ l2 = l := Option.some.inj ht
            subst this
            have cr : lo ≤ k ∧ k < hi := by
              cases f with
              | zero => exact nomatch h1
              | succ f =>
                rw [tlR] at h1
                by_cases c : lo ≤ k ∧ k < hi
                · exact c
                · rw [if_neg c] at h1; exact nomatch h1
            have hkb : fN τ 315 < 2 ^ 31 := by have := s0.1.cap.1; omega
            refine b3113_88 _ _ _ _ _ _ _ (br_n (nI_ne0 (by omega) (by omega)) ?_)
            rw [List.length_append] at hn
            refine (ih false D k l1 h1 d τ LO n b hd s0 p hx (fun gd => by have := hn gd; omega) (fun gd hz => hN gd (by rw [List.map_append, s_newL_app, hz]; rfl))).1 rfl _ _ (fun u q1 q2 q3 q4 => ?_)
            have f315u : fN u 315 = fN σ0 315 := fN_eq (q4.1 315 (by decide))
            refine q1.ci.2.1.rdN (by decide) (by omega) ?_
            rw [(q4.2 322 (by decide) (Or.inr (by decide))).1]
            have hj : mm_a σ0 322 k = nI (tN (mm_a σ0 322 k)) := tN_back (tlR_lt (by omega) h2)
            rw [hj]
            refine (ih true D _ l2 h2 d u (LO ++ l1.map tl1) (n + l1.length) true hd q1 q3 q4 (fun gd => by have := hn (q2 gd).1; omega) (fun gd hz => hN (q2 gd).1 (by rw [List.map_append, s_newL_app, hz, Bool.and_false]))).2 rfl _ _ _ (fun w z1 z2 z3 z4 => kk w z1 (fun gw => ⟨(q2 (z2 gw).1).1, ?_⟩) ?_ z4)
            · rw [List.map_append, s_newL_app, (q2 (z2 gw).1).2, (z2 gw).2]; rfl
            · rw [List.length_append, List.map_append, ← Nat.add_assoc, ← List.append_assoc]; exact z3
end TALL
