/-! arrays -/
theorem so_kd_lt {k : Nat} (h : mm_kd k < 5) : 89 ≤ k ∧ k < 1000 := by
  unfold mm_kd at h
  cases h1 : Nat.blt k 89 with
  | true => rw [h1] at h; simp at h
  | false =>
    rw [h1] at h
    cases h2 : Nat.blt 999 k with
    | true =>
      rw [h2] at h
      cases h3 : Nat.beq k 1999 with
      | true => rw [h3] at h; simp at h
      | false => rw [h3] at h; simp at h
    | false =>
      have a1 : ¬ k < 89 := fun z => by rw [Nat.blt_eq.mpr z] at h1; cases h1
      have a2 : ¬ 999 < k := fun z => by rw [Nat.blt_eq.mpr z] at h2; cases h2
      omega
theorem so_kd5 {k : Nat} (h : mm_kd k = 5) : k = 1999 := by
  unfold mm_kd at h
  cases h1 : Nat.blt k 89 with
  | true => rw [h1] at h; simp at h
  | false =>
    rw [h1] at h
    cases h2 : Nat.blt 999 k with
    | true =>
      rw [h2] at h
      cases h3 : Nat.beq k 1999 with
      | true => exact Nat.eq_of_beq_eq_true h3
      | false => rw [h3] at h; simp at h
    | false =>
      rw [h2] at h
      simp only [cond_false] at h
      exfalso
      revert h
      generalize Nat.blt k 205 = b1
      generalize Nat.blt k 402 = b2
      cases b1 <;> cases b2 <;> simp only [cond_true, cond_false] <;> (repeat (first | (intro h; omega) | (generalize Nat.beq k _ = b; cases b <;> simp only [cond_true, cond_false])))
theorem so_cond {P : Nat → Prop} {c : Bool} {a b : Nat} (ha : P a) (hb : P b) : P (bif c then a else b) := by cases c; exact hb; exact ha
theorem so_kd_rng (k : Nat) : mm_kd k = 9 ∨ mm_kd k = 5 ∨ mm_kd k < 5 := by
  show (fun x => x = 9 ∨ x = 5 ∨ x < 5) (mm_kd k)
  unfold mm_kd
  repeat' apply so_cond (P := fun x => x = 9 ∨ x = 5 ∨ x < 5)
  all_goals decide
theorem so_rr.arr {N : Nat} {σ : mmS} {k a : Nat} {w : Value} (h : so_rr N σ k a w) (hk : 89 ≤ k ∧ k < 1000) : (w = .null ∨ w = .ref a) ∧ a < N ∧ ∀ j, j < 1000 → 0 < mm_n σ j → a = mm_v σ j → w = .ref a := by
  unfold so_rr at h
  rw [if_neg (by omega), if_neg (by omega), if_neg (by omega), if_neg (by omega)] at h
  exact h
theorem so_W.arr {D : va_G} {cA : Nat → ClassId} {A : Nat → Prop} {σ : mmS} {H : Heap} (h : so_W D cA A σ H) {k : Nat} (hk : 89 ≤ k ∧ k < 1000) (h0 : 0 < mm_n σ k) :
    H[mm_v σ k]? = some (vp_cell (cA (mm_kd k)) (mm_n σ k, if mm_kd k = 4 then .inr (.inl (mm_l σ k)) else .inl (mm_a σ k))) := by
  have h1 := h.1 k hk.2 h0
  unfold so_at at h1
  rw [if_neg (by omega)] at h1
  exact h1
theorem mm_in.pos {i : Int32} {n : Nat} (h : mm_in i n) : 0 < n := by
  rcases Nat.eq_zero_or_pos n with e | e
  · exact absurd (Or.inr (by rw [e]; exact Nat.zero_le _)) h
  · exact e
/-- an array's cell written -/
theorem so_W.cell {D : va_G} {cA : Nat → ClassId} {A : Nat → Prop} {σ u : mmS} {H H1 : Heap} (hW : so_W D cA A σ H) {k : Nat} (hk : 89 ≤ k ∧ k < 1000) (h0 : 0 < mm_n σ k)
    (hz : H1.size = H.size) (ho : ∀ a : Nat, a ≠ mm_v σ k → H1[a]? = H[a]?) (hc : H1[mm_v σ k]? = some (vp_cell (cA (mm_kd k)) (mm_n u k, if mm_kd k = 4 then .inr (.inl (mm_l u k)) else .inl (mm_a u k))))
    (en : mm_n u = mm_n σ) (ev : mm_v u = mm_v σ) (ef : mm_f u = mm_f σ) (er : mm_r u = mm_r σ) (ea : ∀ j, j ≠ k → mm_a u j = mm_a σ j ∧ mm_l u j = mm_l σ j) : so_W D cA A u H1 := by
  obtain ⟨w1, w2, w3, w4, w5, w6, w7⟩ := hW
  refine ⟨fun k' hk' h0' => ?_, by rw [en, ev]; exact w2, by rw [ev, hz]; exact w3, trivial, by rw [en, ev]; exact w5, by rw [en]; exact w6, by rw [en, ev]; exact w7⟩
  rw [en] at h0'
  have g := w1 k' hk' h0'
  unfold so_at at g ⊢
  by_cases c : k' < 6
  · rw [if_pos c] at g ⊢
    obtain ⟨q', V', g1, g2, g3, g4⟩ := g
    have hne : mm_v σ k' ≠ mm_v σ k := fun h => by
      have := w2 k' k hk' (by omega) h0' h0 h
      omega
    refine ⟨q', V', g1, g2, by rw [ev]; exact g3.kept (ho _ hne), fun j' hj' => ?_⟩
    rw [hz]
    have g5 := g4 j' hj'
    unfold so_fv at g5 ⊢
    split
    · rename_i h9; rw [h9] at g5; rw [ef]; exact g5
    · rename_i h9; rw [h9] at g5; rw [en, ev]; exact g5
    · rename_i h9; rw [h9] at g5; rw [er]; exact g5.same en ev
    · trivial
  · rw [if_neg c] at g ⊢
    by_cases ck : k' = k
    · subst ck
      rw [ev]
      exact hc
    · have hne : mm_v σ k' ≠ mm_v σ k := fun h => ck (w2 k' k hk' (by omega) h0' h0 h)
      rw [en, ev, (ea k' ck).1, (ea k' ck).2, ho _ hne]
      exact g

theorem so_iald {X : so_X} {cc : ByteArray} {nL pc : Nat} {own mn : String} (C : so_C X cc nL own mn) (d : decode cc pc = .ok (.iaload, 1)) : so_ok X nL pc mo_iald := by
  obtain ⟨p, l, e, R, s, m, args, below, meth, c, D, cA, A, E, O, Q, QF⟩ := X
  obtain ⟨hx, hb, hml, hown, hts, hnest, hKK, hvk, hAq, hlk, hmn, hsc⟩ := C
  intro lv st σ K h hK
  match st, h with
  | .inl i :: .inr (.inr (k, q)) :: st, h =>
    intro H locs cells slots ls vs hW hS hA hc hs hl hv
    obtain ⟨r1, rfl, hv1⟩ := so_iv1 (v := .inl 0) hv
    obtain ⟨w, r, rfl, h1, hv2⟩ := so_iv3 hv1
    have h1 : so_rr H.size σ k q w := h1
    have h7 : (bif Nat.beq (mm_kd k) 0 || Nat.beq (mm_kd k) 5 then mm_ld σ k q i (fun x => K (pc + 1, lv, .inl x :: st) σ) else False) := h
    cases hkd : Nat.beq (mm_kd k) 0 with
    | true =>
      rw [hkd] at h7
      replace hkd := Nat.eq_of_beq_eq_true hkd
      obtain ⟨rfl, hin, h7⟩ : q = mm_v σ k ∧ mm_in i (mm_n σ k) ∧ K (pc + 1, lv, .inl (mm_a σ k i.toNatClampNeg) :: st) σ := h7
      have hkd : mm_kd k = 0 := hkd
      have hkr := so_kd_lt (k := k) (by rw [hkd]; decide)
      have h1 := so_rr.arr h1 hkr
      rw [h1.2.2 k hkr.2 hin.pos rfl]
      have hcell := hW.arr hkr hin.pos
      rw [hkd, if_neg (by decide)] at hcell
      have hP : va_P D so_cl [(mm_v σ k, .inl (cA 0, mm_n σ k, .inl (mm_a σ k)))] H := fun z q9 hz => by
        match z, hz with
        | 0, hz => cases hz; exact hcell
      exact va_iald hx hb hKK hP 0 0 rfl rfl hin d (hK _ _ h7 H locs cells slots ls _ hW hS hA hc hs hl ⟨rfl, hv2⟩)
    | false =>
      cases hkd5 : Nat.beq (mm_kd k) 5 with
      | false => rw [hkd, hkd5] at h7; exact h7.elim
      | true =>
        rw [hkd, hkd5] at h7
        obtain ⟨rfl, hin, h7⟩ : q = mm_v σ k ∧ mm_in i (mm_n σ k) ∧ K (pc + 1, lv, .inl (mm_a σ k i.toNatClampNeg) :: st) σ := h7
        have hk9 := so_kd5 (Nat.eq_of_beq_eq_true hkd5)
        subst hk9
        unfold so_rr at h1
        rw [if_neg (by omega), if_neg (by omega), if_neg (by omega), if_pos (by omega)] at h1
        obtain ⟨-, rfl, -⟩ := h1
        obtain ⟨-, ⟨s2, s3, s4⟩, -⟩ := id hS
        rw [s2]
        rw [s3] at hin
        rw [s4] at h7
        obtain ⟨hscA, ⟨scr, g1, g2, g3, g4, g5⟩, -⟩ := hsc
        have hg1 : H[E.2.2.2.2.1]? = some scr := (hA.2.1 _ (Array.getElem?_eq_some_iff.mp g1).1 hscA).trans g1
        have hlt : i.toNatClampNeg < E.2.2.2.2.2.1 := Nat.not_le.mp fun q => hin (Or.inr q)
        exact W.iald hx hb hg1 g2 g3 (by rw [g4]; exact hin) (g5 _ hlt) rfl rfl d (hK _ _ h7 H locs cells slots ls _ hW hS hA hc hs hl ⟨rfl, hv2⟩)

theorem so_bald {X : so_X} {cc : ByteArray} {nL pc : Nat} {own mn : String} (C : so_C X cc nL own mn) (d : decode cc pc = .ok (.baload, 1)) : so_ok X nL pc mo_bald := by
  obtain ⟨p, l, e, R, s, m, args, below, meth, c, D, cA, A, E, O, Q, QF⟩ := X
  obtain ⟨hx, hb, hml, hown, hts, hnest, hKK, hvk, hAq, hlk, hmn, hsc⟩ := C
  intro lv st σ K h hK
  match st, h with
  | .inl i :: .inr (.inr (k, q)) :: st, h =>
    intro H locs cells slots ls vs hW hS hA hc hs hl hv
    obtain ⟨r1, rfl, hv1⟩ := so_iv1 (v := .inl 0) hv
    obtain ⟨w, r, rfl, h1, hv2⟩ := so_iv3 hv1
    have h1 : so_rr H.size σ k q w := h1
    have h7 : (bif Nat.beq (mm_kd k) 1 || Nat.beq (mm_kd k) 2 then mm_ld σ k q i (fun x => K (pc + 1, lv, .inl x :: st) σ) else False) := h
    cases hkd : Nat.beq (mm_kd k) 1 with
    | true =>
      rw [hkd] at h7
      replace hkd := Nat.eq_of_beq_eq_true hkd
      obtain ⟨rfl, hin, h7⟩ : q = mm_v σ k ∧ mm_in i (mm_n σ k) ∧ K (pc + 1, lv, .inl (mm_a σ k i.toNatClampNeg) :: st) σ := h7
      have hkd : mm_kd k = 1 := hkd
      have hkr := so_kd_lt (k := k) (by rw [hkd]; decide)
      have h1 := so_rr.arr h1 hkr
      rw [h1.2.2 k hkr.2 hin.pos rfl]
      have hcell := hW.arr hkr hin.pos
      rw [hkd, if_neg (by decide)] at hcell
      have hP : va_P D so_cl [(mm_v σ k, .inl (cA 1, mm_n σ k, .inl (mm_a σ k)))] H := fun z q9 hz => by
        match z, hz with
        | 0, hz => cases hz; exact hcell
      exact va_bald hx hb hKK hP 0 1 rfl rfl hin d (hK _ _ h7 H locs cells slots ls _ hW hS hA hc hs hl ⟨rfl, hv2⟩)
    | false =>
      cases hkd2 : Nat.beq (mm_kd k) 2 with
      | false => rw [hkd, hkd2] at h7; exact h7.elim
      | true =>
        rw [hkd, hkd2] at h7
        replace hkd := Nat.eq_of_beq_eq_true hkd2
        obtain ⟨rfl, hin, h7⟩ : q = mm_v σ k ∧ mm_in i (mm_n σ k) ∧ K (pc + 1, lv, .inl (mm_a σ k i.toNatClampNeg) :: st) σ := h7
        have hkd : mm_kd k = 2 := hkd
        have hkr := so_kd_lt (k := k) (by rw [hkd]; decide)
        have h1 := so_rr.arr h1 hkr
        rw [h1.2.2 k hkr.2 hin.pos rfl]
        have hcell := hW.arr hkr hin.pos
        rw [hkd, if_neg (by decide)] at hcell
        have hP : va_P D so_cl [(mm_v σ k, .inl (cA 2, mm_n σ k, .inl (mm_a σ k)))] H := fun z q9 hz => by
          match z, hz with
          | 0, hz => cases hz; exact hcell
        exact va_zald hx hb hKK hP 0 2 rfl rfl hin d (hK _ _ h7 H locs cells slots ls _ hW hS hA hc hs hl ⟨rfl, hv2⟩)

theorem so_cald {X : so_X} {cc : ByteArray} {nL pc : Nat} {own mn : String} (C : so_C X cc nL own mn) (d : decode cc pc = .ok (.caload, 1)) : so_ok X nL pc mo_cald := by
  obtain ⟨p, l, e, R, s, m, args, below, meth, c, D, cA, A, E, O, Q, QF⟩ := X
  obtain ⟨hx, hb, hml, hown, hts, hnest, hKK, hvk, hAq, hlk, hmn, hsc⟩ := C
  intro lv st σ K h hK
  match st, h with
  | .inl i :: .inr (.inr (k, q)) :: st, h =>
    intro H locs cells slots ls vs hW hS hA hc hs hl hv
    obtain ⟨r1, rfl, hv1⟩ := so_iv1 (v := .inl 0) hv
    obtain ⟨w, r, rfl, h1, hv2⟩ := so_iv3 hv1
    have h1 : so_rr H.size σ k q w := h1
    have h7 : (bif Nat.beq (mm_kd k) 3 then mm_ld σ k q i (fun x => K (pc + 1, lv, .inl x :: st) σ) else False) := h
    cases hkd : Nat.beq (mm_kd k) 3 with
    | false => rw [hkd] at h7; exact h7.elim
    | true =>
      rw [hkd] at h7
      replace hkd := Nat.eq_of_beq_eq_true hkd
      obtain ⟨rfl, hin, h7⟩ : q = mm_v σ k ∧ mm_in i (mm_n σ k) ∧ K (pc + 1, lv, .inl (mm_a σ k i.toNatClampNeg) :: st) σ := h7
      have hkd : mm_kd k = 3 := hkd
      have hkr := so_kd_lt (k := k) (by rw [hkd]; decide)
      have h1 := so_rr.arr h1 hkr
      rw [h1.2.2 k hkr.2 hin.pos rfl]
      have hcell := hW.arr hkr hin.pos
      rw [hkd, if_neg (by decide)] at hcell
      have hP : va_P D so_cl [(mm_v σ k, .inl (cA 3, mm_n σ k, .inl (mm_a σ k)))] H := fun z q9 hz => by
        match z, hz with
        | 0, hz => cases hz; exact hcell
      exact va_cald hx hb hKK hP 0 3 rfl rfl hin d (hK _ _ h7 H locs cells slots ls _ hW hS hA hc hs hl ⟨rfl, hv2⟩)

theorem so_lald {X : so_X} {cc : ByteArray} {nL pc : Nat} {own mn : String} (C : so_C X cc nL own mn) (d : decode cc pc = .ok (.laload, 1)) : so_ok X nL pc mo_aldl := by
  obtain ⟨p, l, e, R, s, m, args, below, meth, c, D, cA, A, E, O, Q, QF⟩ := X
  obtain ⟨hx, hb, hml, hown, hts, hnest, hKK, hvk, hAq, hlk, hmn, hsc⟩ := C
  intro lv st σ K h hK
  match st, h with
  | .inl i :: .inr (.inr (k, q)) :: st, h =>
    intro H locs cells slots ls vs hW hS hA hc hs hl hv
    obtain ⟨r1, rfl, hv1⟩ := so_iv1 (v := .inl 0) hv
    obtain ⟨w, r, rfl, h1, hv2⟩ := so_iv3 hv1
    have h1 : so_rr H.size σ k q w := h1
    have h7 : (bif Nat.beq (mm_kd k) 4 then mm_ldl σ k q i (fun x => K (pc + 1, lv, .inr (.inl x) :: st) σ) else False) := h
    cases hkd : Nat.beq (mm_kd k) 4 with
    | false => rw [hkd] at h7; exact h7.elim
    | true =>
      rw [hkd] at h7
      replace hkd := Nat.eq_of_beq_eq_true hkd
      obtain ⟨rfl, hin, h7⟩ : q = mm_v σ k ∧ mm_in i (mm_n σ k) ∧ K (pc + 1, lv, .inr (.inl (mm_l σ k i.toNatClampNeg)) :: st) σ := h7
      have hkr := so_kd_lt (k := k) (by rw [hkd]; decide)
      have h1 := so_rr.arr h1 hkr
      rw [h1.2.2 k hkr.2 hin.pos rfl]
      have hcell := hW.arr hkr hin.pos
      rw [hkd, if_pos rfl] at hcell
      have hP : va_P D so_cl [(mm_v σ k, .inl (cA 4, mm_n σ k, .inr (.inl (mm_l σ k))))] H := fun z q9 hz => by
        match z, hz with
        | 0, hz => cases hz; exact hcell
      exact va_lald hx hb hKK hP 0 4 rfl rfl hin d (hK _ _ h7 H locs cells slots ls _ hW hS hA hc hs hl ⟨rfl, hv2⟩)

theorem so_iast {X : so_X} {cc : ByteArray} {nL pc : Nat} {own mn : String} (C : so_C X cc nL own mn) (d : decode cc pc = .ok (.iastore, 1)) : so_ok X nL pc mo_iast := by
  obtain ⟨p, l, e, R, s, m, args, below, meth, c, D, cA, A, E, O, Q, QF⟩ := X
  obtain ⟨hx, hb, hml, hown, hts, hnest, hKK, hvk, hAq, hlk, hmn, hsc⟩ := C
  intro lv st σ K h hK
  match st, h with
  | .inl x :: .inl i :: .inr (.inr (k, q)) :: st, h =>
    intro H locs cells slots ls vs hW hS hA hc hs hl hv
    obtain ⟨r0, rfl, hv0⟩ := so_iv1 (v := .inl 0) hv
    obtain ⟨r1, rfl, hv1⟩ := so_iv1 (v := .inl 0) hv0
    obtain ⟨w, r, rfl, h1, hv2⟩ := so_iv3 hv1
    have h1 : so_rr H.size σ k q w := h1
    have h7 : (bif Nat.beq (mm_kd k) 0 then mm_st σ k q i x (fun u => K (pc + 1, lv, st) u) else False) := h
    cases hkd : Nat.beq (mm_kd k) 0 with
    | false => rw [hkd] at h7; exact h7.elim
    | true =>
      rw [hkd] at h7
      replace hkd := Nat.eq_of_beq_eq_true hkd
      obtain ⟨rfl, hin, h7⟩ : q = mm_v σ k ∧ mm_in i (mm_n σ k) ∧ K (pc + 1, lv, st) (mm_seta σ k i.toNatClampNeg x) := h7
      have hkr := so_kd_lt (k := k) (by rw [hkd]; decide)
      have h1 := so_rr.arr h1 hkr
      rw [h1.2.2 k hkr.2 hin.pos rfl]
      have hcell := hW.arr hkr hin.pos
      rw [hkd, if_neg (by decide)] at hcell
      refine W.iast hx hb hcell ((hKK.2 0 _ rfl).1 (mm_n σ k) (fun j => .int (mm_a σ k j))) (fun z => by cases z) (by show ¬ (i < 0 ∨ (arrV _ _ _).slots.size ≤ _); rw [arrV_size]; exact hin) rfl rfl d fun H1 e1 z1 o1 => ?_
      refine hK _ _ h7 H1 _ cells slots ls _ (hW.cell hkr hin.pos z1 o1 ?_ rfl rfl rfl rfl (fun j hj => ?_)) (hS.on (fun j hj => ⟨rfl, rfl, ?_⟩) (fun _ _ h9 => ⟨h9, rfl⟩)) (hA.put z1 o1 (hW.2.2.2.2.1 k hkr.2 hin.pos)) hc hs (by rw [z1]; refine so_lv.same ?_ ?_ hl <;> rfl) (by rw [z1]; refine so_st.same ?_ ?_ hv2 <;> rfl)
      · rw [hkd, if_neg (by decide), e1]
        show some ((arrV _ _ _).setSlot _ _) = _
        rw [arrV_store]
        show _ = some (arrV (cA 0) (mm_n σ k) (fun j => Value.int (mm_a (mm_seta σ k i.toNatClampNeg (x)) k j)))
        congr 2
        funext j
        show updV _ _ _ j = Value.int (mm_a (mm_seta σ k i.toNatClampNeg (x)) k j)
        by_cases hj : j = i.toNatClampNeg
        · rw [hj]; simp [updV, mm_a, mm_seta, mm_up]
        · simp [updV, mm_a, mm_seta, mm_up, hj]
      · exact ⟨by simp [mm_a, mm_seta, mm_up, hj], rfl⟩
      · have : j ≠ k := by omega
        simp [mm_a, mm_seta, mm_up, this]

theorem so_nar (ty : FieldType) (x : Int32) (h : ty = .byte ∨ ty = .boolean ∨ ty = .char) : narrow ty (.int x) = .int (vp_nar ty x) := by
  rcases h with rfl | rfl | rfl <;> rfl
theorem so_bast {X : so_X} {cc : ByteArray} {nL pc : Nat} {own mn : String} (C : so_C X cc nL own mn) (d : decode cc pc = .ok (.bastore, 1)) : so_ok X nL pc mo_bast := by
  obtain ⟨p, l, e, R, s, m, args, below, meth, c, D, cA, A, E, O, Q, QF⟩ := X
  obtain ⟨hx, hb, hml, hown, hts, hnest, hKK, hvk, hAq, hlk, hmn, hsc⟩ := C
  intro lv st σ K h hK
  match st, h with
  | .inl x :: .inl i :: .inr (.inr (k, q)) :: st, h =>
    intro H locs cells slots ls vs hW hS hA hc hs hl hv
    obtain ⟨r0, rfl, hv0⟩ := so_iv1 (v := .inl 0) hv
    obtain ⟨r1, rfl, hv1⟩ := so_iv1 (v := .inl 0) hv0
    obtain ⟨w, r, rfl, h1, hv2⟩ := so_iv3 hv1
    have h1 : so_rr H.size σ k q w := h1
    have h7 : (bif Nat.beq (mm_kd k) 1 then mm_st σ k q i (vp_nar .byte x) (fun u => K (pc + 1, lv, st) u) else bif Nat.beq (mm_kd k) 2 then mm_st σ k q i (vp_nar .boolean x) (fun u => K (pc + 1, lv, st) u) else False) := h
    cases hkd : Nat.beq (mm_kd k) 1 with
    | true =>
      rw [hkd] at h7
      replace hkd := Nat.eq_of_beq_eq_true hkd
      obtain ⟨rfl, hin, h7⟩ : q = mm_v σ k ∧ mm_in i (mm_n σ k) ∧ K (pc + 1, lv, st) (mm_seta σ k i.toNatClampNeg (vp_nar .byte x)) := h7
      have hkr := so_kd_lt (k := k) (by rw [hkd]; decide)
      have h1 := so_rr.arr h1 hkr
      rw [h1.2.2 k hkr.2 hin.pos rfl]
      have hcell := hW.arr hkr hin.pos
      rw [hkd, if_neg (by decide)] at hcell
      refine W.bast hx hb hcell ((hKK.2 1 _ rfl).1 (mm_n σ k) (fun j => .int (mm_a σ k j))) (fun z => by cases z) (by show ¬ (i < 0 ∨ (arrV _ _ _).slots.size ≤ _); rw [arrV_size]; exact hin) rfl rfl d fun H1 e1 z1 o1 => ?_
      refine hK _ _ h7 H1 _ cells slots ls _ (hW.cell hkr hin.pos z1 o1 ?_ rfl rfl rfl rfl (fun j hj => ?_)) (hS.on (fun j hj => ⟨rfl, rfl, ?_⟩) (fun _ _ h9 => ⟨h9, rfl⟩)) (hA.put z1 o1 (hW.2.2.2.2.1 k hkr.2 hin.pos)) hc hs (by rw [z1]; refine so_lv.same ?_ ?_ hl <;> rfl) (by rw [z1]; refine so_st.same ?_ ?_ hv2 <;> rfl)
      · rw [hkd, if_neg (by decide), e1]
        show some ((arrV _ _ _).setSlot _ _) = _
        rw [arrV_store]
        show _ = some (arrV (cA 1) (mm_n σ k) (fun j => Value.int (mm_a (mm_seta σ k i.toNatClampNeg (vp_nar .byte x)) k j)))
        congr 2
        funext j
        show updV _ _ _ j = Value.int (mm_a (mm_seta σ k i.toNatClampNeg (vp_nar .byte x)) k j)
        by_cases hj : j = i.toNatClampNeg
        · rw [hj]; simp [updV, mm_a, mm_seta, mm_up, so_nar]
        · simp [updV, mm_a, mm_seta, mm_up, hj]
      · exact ⟨by simp [mm_a, mm_seta, mm_up, hj], rfl⟩
      · have : j ≠ k := by omega
        simp [mm_a, mm_seta, mm_up, this]
    | false =>
      cases hkd2 : Nat.beq (mm_kd k) 2 with
      | false => rw [hkd, hkd2] at h7; exact h7.elim
      | true =>
        rw [hkd, hkd2] at h7
        replace hkd := Nat.eq_of_beq_eq_true hkd2
        obtain ⟨rfl, hin, h7⟩ : q = mm_v σ k ∧ mm_in i (mm_n σ k) ∧ K (pc + 1, lv, st) (mm_seta σ k i.toNatClampNeg (vp_nar .boolean x)) := h7
        have hkr := so_kd_lt (k := k) (by rw [hkd]; decide)
        have h1 := so_rr.arr h1 hkr
        rw [h1.2.2 k hkr.2 hin.pos rfl]
        have hcell := hW.arr hkr hin.pos
        rw [hkd, if_neg (by decide)] at hcell
        refine W.zast hx hb hcell ((hKK.2 2 _ rfl).1 (mm_n σ k) (fun j => .int (mm_a σ k j))) (fun z => by cases z) (by show ¬ (i < 0 ∨ (arrV _ _ _).slots.size ≤ _); rw [arrV_size]; exact hin) rfl rfl d fun H1 e1 z1 o1 => ?_
        refine hK _ _ h7 H1 _ cells slots ls _ (hW.cell hkr hin.pos z1 o1 ?_ rfl rfl rfl rfl (fun j hj => ?_)) (hS.on (fun j hj => ⟨rfl, rfl, ?_⟩) (fun _ _ h9 => ⟨h9, rfl⟩)) (hA.put z1 o1 (hW.2.2.2.2.1 k hkr.2 hin.pos)) hc hs (by rw [z1]; refine so_lv.same ?_ ?_ hl <;> rfl) (by rw [z1]; refine so_st.same ?_ ?_ hv2 <;> rfl)
        · rw [hkd, if_neg (by decide), e1]
          show some ((arrV _ _ _).setSlot _ _) = _
          rw [arrV_store]
          show _ = some (arrV (cA 2) (mm_n σ k) (fun j => Value.int (mm_a (mm_seta σ k i.toNatClampNeg (vp_nar .boolean x)) k j)))
          congr 2
          funext j
          show updV _ _ _ j = Value.int (mm_a (mm_seta σ k i.toNatClampNeg (vp_nar .boolean x)) k j)
          by_cases hj : j = i.toNatClampNeg
          · rw [hj]; simp [updV, mm_a, mm_seta, mm_up, so_nar]
          · simp [updV, mm_a, mm_seta, mm_up, hj]
        · exact ⟨by simp [mm_a, mm_seta, mm_up, hj], rfl⟩
        · have : j ≠ k := by omega
          simp [mm_a, mm_seta, mm_up, this]
theorem so_cast {X : so_X} {cc : ByteArray} {nL pc : Nat} {own mn : String} (C : so_C X cc nL own mn) (d : decode cc pc = .ok (.castore, 1)) : so_ok X nL pc mo_cast := by
  obtain ⟨p, l, e, R, s, m, args, below, meth, c, D, cA, A, E, O, Q, QF⟩ := X
  obtain ⟨hx, hb, hml, hown, hts, hnest, hKK, hvk, hAq, hlk, hmn, hsc⟩ := C
  intro lv st σ K h hK
  match st, h with
  | .inl x :: .inl i :: .inr (.inr (k, q)) :: st, h =>
    intro H locs cells slots ls vs hW hS hA hc hs hl hv
    obtain ⟨r0, rfl, hv0⟩ := so_iv1 (v := .inl 0) hv
    obtain ⟨r1, rfl, hv1⟩ := so_iv1 (v := .inl 0) hv0
    obtain ⟨w, r, rfl, h1, hv2⟩ := so_iv3 hv1
    have h1 : so_rr H.size σ k q w := h1
    have h7 : (bif Nat.beq (mm_kd k) 3 then mm_st σ k q i (vp_nar .char x) (fun u => K (pc + 1, lv, st) u) else False) := h
    cases hkd : Nat.beq (mm_kd k) 3 with
    | false => rw [hkd] at h7; exact h7.elim
    | true =>
      rw [hkd] at h7
      replace hkd := Nat.eq_of_beq_eq_true hkd
      obtain ⟨rfl, hin, h7⟩ : q = mm_v σ k ∧ mm_in i (mm_n σ k) ∧ K (pc + 1, lv, st) (mm_seta σ k i.toNatClampNeg (vp_nar .char x)) := h7
      have hkr := so_kd_lt (k := k) (by rw [hkd]; decide)
      have h1 := so_rr.arr h1 hkr
      rw [h1.2.2 k hkr.2 hin.pos rfl]
      have hcell := hW.arr hkr hin.pos
      rw [hkd, if_neg (by decide)] at hcell
      refine W.cast hx hb hcell ((hKK.2 3 _ rfl).1 (mm_n σ k) (fun j => .int (mm_a σ k j))) (fun z => by cases z) (by show ¬ (i < 0 ∨ (arrV _ _ _).slots.size ≤ _); rw [arrV_size]; exact hin) rfl rfl d fun H1 e1 z1 o1 => ?_
      refine hK _ _ h7 H1 _ cells slots ls _ (hW.cell hkr hin.pos z1 o1 ?_ rfl rfl rfl rfl (fun j hj => ?_)) (hS.on (fun j hj => ⟨rfl, rfl, ?_⟩) (fun _ _ h9 => ⟨h9, rfl⟩)) (hA.put z1 o1 (hW.2.2.2.2.1 k hkr.2 hin.pos)) hc hs (by rw [z1]; refine so_lv.same ?_ ?_ hl <;> rfl) (by rw [z1]; refine so_st.same ?_ ?_ hv2 <;> rfl)
      · rw [hkd, if_neg (by decide), e1]
        show some ((arrV _ _ _).setSlot _ _) = _
        rw [arrV_store]
        show _ = some (arrV (cA 3) (mm_n σ k) (fun j => Value.int (mm_a (mm_seta σ k i.toNatClampNeg (vp_nar .char x)) k j)))
        congr 2
        funext j
        show updV _ _ _ j = Value.int (mm_a (mm_seta σ k i.toNatClampNeg (vp_nar .char x)) k j)
        by_cases hj : j = i.toNatClampNeg
        · rw [hj]; simp [updV, mm_a, mm_seta, mm_up, so_nar]
        · simp [updV, mm_a, mm_seta, mm_up, hj]
      · exact ⟨by simp [mm_a, mm_seta, mm_up, hj], rfl⟩
      · have : j ≠ k := by omega
        simp [mm_a, mm_seta, mm_up, this]

theorem so_last {X : so_X} {cc : ByteArray} {nL pc : Nat} {own mn : String} (C : so_C X cc nL own mn) (d : decode cc pc = .ok (.lastore, 1)) : so_ok X nL pc mo_astl := by
  obtain ⟨p, l, e, R, s, m, args, below, meth, c, D, cA, A, E, O, Q, QF⟩ := X
  obtain ⟨hx, hb, hml, hown, hts, hnest, hKK, hvk, hAq, hlk, hmn, hsc⟩ := C
  intro lv st σ K h hK
  match st, h with
  | .inr (.inl x) :: .inl i :: .inr (.inr (k, q)) :: st, h =>
    intro H locs cells slots ls vs hW hS hA hc hs hl hv
    obtain ⟨r0, rfl, hv0⟩ := so_iv2 hv
    obtain ⟨r1, rfl, hv1⟩ := so_iv1 (v := .inl 0) hv0
    obtain ⟨w, r, rfl, h1, hv2⟩ := so_iv3 hv1
    have h1 : so_rr H.size σ k q w := h1
    have h7 : (bif Nat.beq (mm_kd k) 4 then mm_stl σ k q i x (fun u => K (pc + 1, lv, st) u) else False) := h
    cases hkd : Nat.beq (mm_kd k) 4 with
    | false => rw [hkd] at h7; exact h7.elim
    | true =>
      rw [hkd] at h7
      replace hkd := Nat.eq_of_beq_eq_true hkd
      obtain ⟨rfl, hin, h7⟩ : q = mm_v σ k ∧ mm_in i (mm_n σ k) ∧ K (pc + 1, lv, st) (mm_setl σ k i.toNatClampNeg x) := h7
      have hkr := so_kd_lt (k := k) (by rw [hkd]; decide)
      have h1 := so_rr.arr h1 hkr
      rw [h1.2.2 k hkr.2 hin.pos rfl]
      have hcell := hW.arr hkr hin.pos
      rw [hkd, if_pos rfl] at hcell
      refine W.last hx hb hcell ((hKK.2 4 _ rfl).1 (mm_n σ k) (fun j => .long (mm_l σ k j))) (fun z => by cases z) (by show ¬ (i < 0 ∨ (arrV _ _ _).slots.size ≤ _); rw [arrV_size]; exact hin) rfl rfl d fun H1 e1 z1 o1 => ?_
      refine hK _ _ h7 H1 _ cells slots ls _ (hW.cell hkr hin.pos z1 o1 ?_ rfl rfl rfl rfl (fun j hj => ?_)) (hS.on (fun j hj => ⟨rfl, rfl, rfl⟩) (fun _ _ h9 => ⟨h9, rfl⟩)) (hA.put z1 o1 (hW.2.2.2.2.1 k hkr.2 hin.pos)) hc hs (by rw [z1]; refine so_lv.same ?_ ?_ hl <;> rfl) (by rw [z1]; refine so_st.same ?_ ?_ hv2 <;> rfl)
      · rw [hkd, if_pos rfl, e1]
        show some ((arrV _ _ _).setSlot _ _) = _
        rw [arrV_store]
        show _ = some (arrV (cA 4) (mm_n σ k) (fun j => Value.long (mm_l (mm_setl σ k i.toNatClampNeg x) k j)))
        congr 2
        funext j
        show updV _ _ _ j = Value.long (mm_l (mm_setl σ k i.toNatClampNeg x) k j)
        by_cases hj : j = i.toNatClampNeg
        · rw [hj]; simp [updV, mm_l, mm_setl, mm_up]
        · simp [updV, mm_l, mm_setl, mm_up, hj]
      · exact ⟨rfl, by simp [mm_l, mm_setl, mm_up, hj]⟩

theorem so_alen {X : so_X} {cc : ByteArray} {nL pc : Nat} {own mn : String} (C : so_C X cc nL own mn) (d : decode cc pc = .ok (.arraylength, 1)) : so_ok X nL pc mo_alen := by
  obtain ⟨p, l, e, R, s, m, args, below, meth, c, D, cA, A, E, O, Q, QF⟩ := X
  obtain ⟨hx, hb, hml, hown, hts, hnest, hKK, hvk, hAq, hlk, hmn, hsc⟩ := C
  intro lv st σ K h hK
  match st, h with
  | .inr (.inr (k, q)) :: st, h =>
    intro H locs cells slots ls vs hW hS hA hc hs hl hv
    obtain ⟨w, r, rfl, h1, hv2⟩ := so_iv3 hv
    have h1 : so_rr H.size σ k q w := h1
    have h7 : (bif Nat.blt (mm_kd k) 9 then q = mm_v σ k ∧ (0 < mm_n σ k ∨ mm_kd k = 5) ∧ K (pc + 1, lv, .inl (Int32.ofNat (mm_n σ k)) :: st) σ else False) := h
    cases hkd : Nat.blt (mm_kd k) 9 with
    | false => rw [hkd] at h7; exact h7.elim
    | true =>
      rw [hkd] at h7
      obtain ⟨rfl, h0, h7⟩ : q = mm_v σ k ∧ (0 < mm_n σ k ∨ mm_kd k = 5) ∧ K (pc + 1, lv, .inl (Int32.ofNat (mm_n σ k)) :: st) σ := h7
      by_cases hk5 : mm_kd k = 5
      · have hk9 := so_kd5 hk5
        subst hk9
        unfold so_rr at h1
        rw [if_neg (by omega), if_neg (by omega), if_neg (by omega), if_pos (by omega)] at h1
        obtain ⟨-, rfl, -⟩ := h1
        obtain ⟨-, ⟨s2, s3, s4⟩, -⟩ := id hS
        obtain ⟨hscA, ⟨scr, g1, g2, g3, g4, g5⟩, -⟩ := hsc
        have hg1 : H[E.2.2.2.2.1]? = some scr := (hA.2.1 _ (Array.getElem?_eq_some_iff.mp g1).1 hscA).trans g1
        rw [s2]
        rw [s3] at h7
        exact W.alen hx hb hg1 g2 (by rw [g4]) rfl rfl d (hK _ _ h7 H locs cells slots ls _ hW hS hA hc hs hl ⟨rfl, hv2⟩)
      · have h0 : 0 < mm_n σ k := h0.resolve_right hk5
        have hkr : mm_kd k < 5 := by
          have h9 : mm_kd k < 9 := Nat.blt_eq.mp hkd
          have := so_kd_rng k
          omega
        have hkr9 := so_kd_lt hkr
        have h1 := so_rr.arr h1 hkr9
        rw [h1.2.2 k hkr9.2 h0 rfl]
        have hcell := hW.arr hkr9 h0
        have hP : va_P D so_cl [(mm_v σ k, .inl (cA (mm_kd k), mm_n σ k, if mm_kd k = 4 then .inr (.inl (mm_l σ k)) else .inl (mm_a σ k)))] H := fun z q9 hz => by
          match z, hz with
          | 0, hz => cases hz; exact hcell
        have ht : (so_tys cA)[mm_kd k]? = some (cA (mm_kd k), so_ty (mm_kd k)) := by
          match mm_kd k, hkr with
          | 0, _ => rfl
          | 1, _ => rfl
          | 2, _ => rfl
          | 3, _ => rfl
          | 4, _ => rfl
        exact va_alen hx hb hKK hP 0 (mm_kd k) rfl ht rfl d (hK _ _ h7 H locs cells slots ls _ hW hS hA hc hs hl ⟨rfl, hv2⟩)
