/-! PHASE 4. read(): its end: names told of one's own, covers -/
section RDE
variable {T : sT} {A0 : cA} {r0 : sR sM} {NG : Prop × mmS} {A : cA} {e : Nat} {σ u : mmS} {i : Nat} {v : sM}
variable {d a av1 av2 : Nat} {Q : mmQ}
theorem one_path {R : Nat → List Nat} {L : hC} {b : Nat} (hb : fN σ 324 ≤ 262144) (p : path σ R L (nI 0) b) : ∃ s, L = [(s, ens σ (R 0))] ∧ 0 < fN σ 324 := by
  cases L with
  | nil => exact absurd (show nI 0 = -1 from p) (by decide)
  | cons x t =>
    obtain ⟨k, p1, p2, p3, p4, p5, p6⟩ := p
    have hk : k = 0 := (nI_inj (by omega) (by omega) p1).symm
    subst hk
    cases t with
    | nil => exact ⟨x.1, by rw [← p5], p3⟩
    | cons y t' =>
      obtain ⟨k', -, q2, -⟩ := p6
      exact absurd q2 (Nat.not_lt_zero _)
/-- what a module is known to be, once read -/
def Md (T : sT) (A0 : cA) (r0 : sR sM) (u : mmS) : Prop := ∃ v i A s es, run false A0 r0 = some (v, i, A) ∧ A.1 = [(s, es)] ∧ A.2.1 = 0 ∧ (∀ o ∈ v.2, o.2.1 = true → (h_find es o.2.2).isSome = true) ∧ cG T wT A 24 0 u i ∧ PM 1 i v.1 v.2 u ∧ mm_f u 201 = nI (t_e T)
def MdN (T : sT) (A0 : cA) (r0 : sR sM) : Prop := run false A0 r0 = none ∨ ∃ v i A s es, run false A0 r0 = some (v, i, A) ∧ A.1 = [(s, es)] ∧ ¬ (A.2.1 = 0 ∧ ∀ o ∈ v.2, o.2.1 = true → (h_find es o.2.2).isSome = true)
theorem rd_497 {wv3 wv4 wv5 wv6 wv7 : Option mmV} (hr : (mm_r σ 302).1 = 2) (k0 : (¬ mm_f σ 303 = 0 ∨ ¬ mm_f σ 313 = 0) → Q (.inl (some (.inl 0))) (mm_setf σ 201 (mm_f σ 310 - 1))) (k1 : mm_f σ 303 = 0 → mm_f σ 313 = 0 → Q (.inl (some (.inl 1))) (mm_setf σ 201 (mm_f σ 310 - 1))) {v3 v4 v5 v6 v7 : Int32} :
    mm_W mt3002 (MC d) Q (497, [some (.inr (.inr (3, a))), some (.inr (.inr (2, av1))), some (.inr (.inr (100, av2))), some (.inl v3), some (.inl v4), some (.inl v5), some (.inl v6), some (.inl v7)], []) σ := by
  have f (k : Nat) (hk : k ≠ 201) : mm_f (mm_setf σ 201 (mm_f σ 310 - 1)) k = mm_f σ k := f_other hk
  refine b3002_497 _ _ _ _ _ _ _ _ _ _ _ ⟨hr, br_p (fun h3 => br_p (fun h13 => ⟨Or.inr rfl, k1 ?_ ?_⟩) (fun h13 => ⟨Or.inl rfl, k0 (Or.inr ?_)⟩)) (fun h3 => ⟨Or.inl rfl, k0 (Or.inl ?_)⟩)⟩
  · rw [← h3, f 303 (by decide)]
  · rw [← h13, f 313 (by decide)]
  · rw [f 313 (by decide)] at h13; exact h13
  · rw [f 303 (by decide)] at h3; exact h3
theorem cI.s201 {x : Int32} (h : cI T σ) : cI T (mm_setf σ 201 x) := h.pg (pgR.setf (by decide)) (lnB.setf h.2.2.2.2.2.2)
theorem rd_428 {v3 v4 w6 : Int32} {q0 : Nat} {v0 : sM} (hd : 2 ≤ d) (hr0 : r0 = s_modL T q0 v0 0) (hA0 : 0 ≤ A0.2.1) (hNG : NG.1 = (run false A0 r0 = none))
    (k1 : ∀ u, Md T A0 r0 u → cI T u → FRM NG.2 u → Q (.inl (some (.inl 1))) u) (k0 : ∀ u, MdN T A0 r0 → cI T u → FRM NG.2 u → Q (.inl (some (.inl 0))) u)
    (s0 : SM T 0 A0 r0 NG true 0 A 24 0 (s_r v i) σ i) (p : PM 1 i v.1 v.2 σ) : mm_W mt3002 (MC d) Q (428, [some (.inr (.inr (3, a))), some (.inr (.inr (2, av1))), some (.inr (.inr (100, av2))), some (.inl v3), some (.inl v4), some (.inl (nI 0)), some (.inl w6), some (.inl 0)], []) σ := by
  have F201 : ∀ {u : mmS} {x : Int32}, FRM NG.2 u → FRM NG.2 (mm_setf u 201 x) := fun F => F.trans (FRM.pg (pgR.setf (by decide)))
  by_cases gd : GD σ
  · have G := s0.gd gd
    have hrun : run false A0 r0 = some (v, i, A) := (s0.2.1 gd).trans run_r
    obtain ⟨R, bb, y1, y2, -⟩ := G.2.2.2.2.2.2.1
    have e346 : mm_f σ 346 = nI 0 := G.2.2.2.2.2.1.1
    rw [e346] at y2
    have b324 : fN σ 324 ≤ 262144 := Nat.le_trans y1.1.2.1 y1.1.2.2.2.1
    have b325 : fN σ 325 ≤ 262144 := Nat.le_trans y1.2.1.2.1 y1.2.1.2.2.2.1
    obtain ⟨s, hL, h324⟩ := one_path b324 y2
    have hcov : 0 ≤ A.2.1 := Int.le_trans hA0 (mod_cov (T := T) (by rw [← hr0]; exact hrun))
    obtain ⟨e313, hc2⟩ := G.2.2.2.2.2.2.2.1
    have hle := s0.le gd
    have h313 : mm_f σ 313 = 0 ↔ A.2.1 = 0 := by
      obtain ⟨n, hn⟩ := Int.eq_ofNat_of_zero_le hcov
      have e : mm_f σ 313 = nI n := by rw [e313, hn]; rfl
      rw [e, hn]
      constructor
      · intro z
        have := nI_inj (a := n) (b := 0) (by omega) (by omega) (by rw [z, nI_0])
        rw [this]; rfl
      · intro z
        have : n = 0 := by omega
        rw [this]; exact nI_0
    obtain ⟨rq, ni, o, z1, z2, z3⟩ := id p
    have z3 := z3 gd
    have n219 : mm_n σ 219 < 2 ^ 31 := by have := s0.ci.2.2.2.2.2.2.1.2.2.2.2.2.2.2.2.2; omega
    have n220 : mm_f σ 220 = nI o.length := z1.2.2.1
    have e310 : mm_f σ 310 - 1 = nI (t_e T) := by
      have h := s0.ci.1.2.2.2.2.2.2.2.2.1
      rw [h]
      exact nI_pred
    have tail : ∀ (w7 : Int32), (∀ o ∈ v.2, o.2.1 = true → (h_find (ens σ (R 0)) o.2.2).isSome = true) → mm_W mt3002 (MC d) Q (497, [some (.inr (.inr (3, a))), some (.inr (.inr (2, av1))), some (.inr (.inr (100, av2))), some (.inl v3), some (.inl v4), some (.inl (nI 0)), some (.inl w6), some (.inl w7)], []) σ := fun w7 hall => by
      have I := s0.ci.s201 (x := mm_f σ 310 - 1)
      refine rd_497 s0.hr (fun hz => k0 _ (Or.inr ⟨v, i, A, s, _, hrun, hL, fun z => ?_⟩) I (F201 s0.2.2.2)) (fun h3 h13 => k1 _ ⟨v, i, A, s, _, hrun, hL, h313.mp h13, hall, G.pg I (pgR.setf (by decide)), ?_, by rw [f_same, e310]⟩ I (F201 s0.2.2.2))
      · rcases hz with hz | hz
        · exact hz gd
        · exact hz (h313.mpr z.1)
      · obtain ⟨rq, ni, o, ⟨⟨x1, x2, x3⟩, ⟨x4, x5⟩, x6, x7, x8⟩, z2, z3⟩ := p
        exact ⟨rq, ni, o, ⟨⟨(f_other (by decide)).trans x1, x2, x3⟩, ⟨(f_other (by decide)).trans x4, x5⟩, (f_other (by decide)).trans x6, x7, x8⟩, z2, fun _ => z3 gd⟩
    have bad : ∀ (w7 : Int32), (∃ o ∈ v.2, o.2.1 = true ∧ (h_find (ens σ (R 0)) o.2.2).isSome = false) → mm_W mt3002 (MC d) Q (428, [some (.inr (.inr (3, a))), some (.inr (.inr (2, av1))), some (.inr (.inr (100, av2))), some (.inl v3), some (.inl v4), some (.inl (nI 0)), some (.inl w6), some (.inl w7)], []) (mm_setf σ 303 1) := fun w7 ⟨o, o1, o2, o3⟩ => by
      have I : cI T (mm_setf σ 303 1) := s0.ci.setf rfl
      have F : FRM σ (mm_setf σ 303 1) := ⟨fun k h1 _ => f_other (fun e => by rw [← e] at h1; exact nomatch h1), rfl, fun _ _ _ _ => sam.rfl', Nat.le_of_eq (fN_eq (f_other (by decide))).symm⟩
      have t : mm_W mt3002 (MC d) Q (497, [some (.inr (.inr (3, a))), some (.inr (.inr (2, av1))), some (.inr (.inr (100, av2))), some (.inl v3), some (.inl v4), some (.inl (nI 0)), some (.inl w6), some (.inl w7)], []) (mm_setf σ 303 1) :=
        rd_497 s0.hr (fun _ => k0 _ (Or.inr ⟨v, i, A, s, _, hrun, hL, fun z => by rw [z.2 o o1 o2] at o3; exact nomatch o3⟩) I.s201 (F201 (s0.2.2.2.trans F))) (fun h3 => absurd h3 (by rw [f_same]; decide))
      exact b3002_428 _ _ _ _ _ _ _ _ _ _ _ ⟨s0.hr, br_p (fun _ => br_n (by show ¬ mm_f (mm_setf σ 303 1) 303 = 0; rw [f_same]; decide) ⟨s0.hr, t⟩) (fun _ => t)⟩
    have loop : ∀ (f k : Nat), o.length ≤ f + k → k ≤ o.length → (∀ j (hj : j < o.length), j < k → (tdm o[j]).2.1 = true → (h_find (ens σ (R 0)) (tdm o[j]).2.2).isSome = true) → mm_W mt3002 (MC d) Q (428, [some (.inr (.inr (3, a))), some (.inr (.inr (2, av1))), some (.inr (.inr (100, av2))), some (.inl v3), some (.inl v4), some (.inl (nI 0)), some (.inl w6), some (.inl (nI k))], []) σ := by
      intro f
      induction f with
      | zero =>
        intro k h1 h2 hall
        refine b3002_428 _ _ _ _ _ _ _ _ _ _ _ ⟨s0.hr, br_n ?_ (tail _ (fun x hx => ?_))⟩
        · rw [n220, nI_ltI (by omega) (by omega)]; omega
        · rw [← z3.2.2.2.2, List.mem_map] at hx
          obtain ⟨y, hy, rfl⟩ := hx
          obtain ⟨j, hj, rfl⟩ := List.mem_iff_getElem.mp hy
          exact hall j hj (by omega)
      | succ f ih =>
        intro k h1 h2 hall
        refine b3002_428 _ _ _ _ _ _ _ _ _ _ _ ⟨s0.hr, br_p (fun c => br_y gd ⟨s0.hr, ?_⟩) (fun c => tail _ (fun x hx => ?_))⟩
        · rw [n220, nI_ltI (by omega) (by omega)] at c
          obtain ⟨w1, w2, w3⟩ := z1.2.2.2.2 k c
          have z4 := z1.2.2.2.1
          have e1 : (4 * nI k : Int32) + 1 = nI (4 * k + 1) := by rw [nI_4]; exact nI_add _ 1
          have e2 : (4 * nI k : Int32) + 2 = nI (4 * k + 2) := by rw [nI_4]; exact nI_add _ 2
          rw [e1]
          refine rd (n := mm_n σ 219) rfl (by omega) n219 ?_
          rw [w2]
          have up : (∀ (_ : (tdm o[k]).2.1 = true), (h_find (ens σ (R 0)) (tdm o[k]).2.2).isSome = true) → mm_W mt3002 (MC d) Q (428, [some (.inr (.inr (3, a))), some (.inr (.inr (2, av1))), some (.inr (.inr (100, av2))), some (.inl v3), some (.inl v4), some (.inl (nI 0)), some (.inl w6), some (.inl (nI k + 1))], []) σ := fun hk => by
            rw [nI_s1]
            refine ih (k + 1) (by omega) (by omega) (fun j hj h3 => ?_)
            by_cases c : j < k
            · exact hall j hj c
            · have : j = k := by omega
              subst this
              exact hk
          refine br_p (fun c2 => ⟨s0.hr, ?_⟩) (fun c2 => up (fun z => absurd (of_decide_eq_true z) c2))
          rw [e2]
          refine rd (n := mm_n σ 219) rfl (by omega) n219 ?_
          rw [w3]
          have hown : (tdm o[k]).2.1 = true := decide_eq_true c2
          have e0 : (0 : Int32) = nI 0 := nI_0.symm
          rw [e0]
          refine (c_find (R := R) (by omega) y1 h324 (fun hn => ?_) (fun r hr hn => ?_))
          · refine br_y (by decide) ⟨Or.inr rfl, ?_⟩
            exact bad _ ⟨tdm o[k], by rw [← z3.2.2.2.2]; exact List.mem_map_of_mem (List.getElem_mem c), hown, by show (h_find _ (o[k]).2.2).isSome = false; rw [hn]; rfl⟩
          · have hrr : r < 2 ^ 31 := by
              have h1 := ((y1.2.2.1 0 h324).2.2.1 r hr)
              omega
            exact br_n (nI_pos hrr) (up (fun _ => by show (h_find _ (o[k]).2.2).isSome = true; rw [hn]; rfl))
        · rw [n220, nI_ltI (by omega) (by omega)] at c
          rw [← z3.2.2.2.2, List.mem_map] at hx
          obtain ⟨y, hy, rfl⟩ := hx
          obtain ⟨j, hj, rfl⟩ := List.mem_iff_getElem.mp hy
          exact hall j hj (by omega)
    have := loop o.length 0 (by omega) (by omega) (fun j _ hj => absurd hj (Nat.not_lt_zero _))
    rw [nI_0] at this ⊢
    exact this
  · have hN : run false A0 r0 = none := hNG ▸ (s0.no gd).2.2
    have t : mm_W mt3002 (MC d) Q (497, [some (.inr (.inr (3, a))), some (.inr (.inr (2, av1))), some (.inr (.inr (100, av2))), some (.inl v3), some (.inl v4), some (.inl (nI 0)), some (.inl w6), some (.inl 0)], []) σ :=
      rd_497 s0.hr (fun _ => k0 _ (Or.inl hN) s0.ci.s201 (F201 s0.2.2.2)) (fun h3 => absurd h3 gd)
    exact b3002_428 _ _ _ _ _ _ _ _ _ _ _ ⟨s0.hr, br_p (fun _ => br_n gd ⟨s0.hr, t⟩) (fun _ => t)⟩
/-- s_mod, told by Md and MdN -/
end RDE
