/-! the laws of the rest: texts, statics, the twin's own exception's fields -/
theorem so_rr.tx {N : Nat} {σ : mmS} {k a : Nat} {w : Value} (h : so_rr N σ k a w) (hk : 1000 ≤ k) : a = mm_v σ k ∧ w = .ref (mm_v σ k) ∧ so_tx k := by
  unfold so_rr at h
  rw [if_neg (by omega), if_neg (by omega), if_neg (by omega), if_pos hk] at h
  exact ⟨h.1, h.1 ▸ h.2.1, h.2.2⟩
theorem so_tx.mk {N : Nat} {σ : mmS} {k : Nat} (hk : 1000 ≤ k) (ht : so_tx k) : so_rr N σ k (mm_v σ k) (.ref (mm_v σ k)) := by
  unfold so_rr
  rw [if_neg (by omega), if_neg (by omega), if_neg (by omega), if_pos hk]
  exact ⟨rfl, rfl, ht⟩
section SOT
variable {X : so_X} {cc : ByteArray} {nL pc : Nat} {own mn : String}
theorem so_getS (C : so_C X cc nL own mn) {index : Nat} (d : decode cc pc = .ok (.getfield index, 3)) (hl : Cond.fieldLink own index "java/lang/String" "value" "[B" ∈ lw_all) : so_ok X nL pc mo_getS := by
  obtain ⟨p, l, e, R, s, m, args, below, meth, c, D, cA, A, E, O, Q, QF⟩ := X
  obtain ⟨hx, hb, hml, hown, hts, hnest, hKK, hvk, -⟩ := C
  intro lv st σ K h hK
  match st, h with
  | .inr (.inr (k, a)) :: st, h =>
    intro H locs cells slots ls vs hW hS hA hc hs hl' hv
    obtain ⟨w, r, rfl, h1, hv1⟩ := so_iv3 hv
    have h7 : (bif Nat.ble 1000 k && Nat.blt k 1113 then K (pc + 3, lv, .inr (.inr (k + 1000, mm_v σ (k + 1000))) :: st) σ else False) := h
    cases hbo : Nat.ble 1000 k && Nat.blt k 1113 with
    | false => rw [hbo] at h7; exact h7.elim
    | true =>
      rw [hbo] at h7
      obtain ⟨b1, b2⟩ := Bool.and_eq_true_iff.mp hbo
      replace b1 := Nat.le_of_ble_eq_true b1
      replace b2 := Nat.blt_eq.mp b2
      obtain ⟨r1, r2, -⟩ := so_rr.tx h1 b1
      obtain ⟨i, rfl⟩ : ∃ i, k = 1000 + i := ⟨k - 1000, by omega⟩
      have g := (hS.1 i (by omega)).1
      rw [r2, g.1]
      refine vk_getf hx hb (hvk.1 i (by omega)).2.2.1 hA hown (hts _ hl) (fun _ h => h) d ?_
      refine hK _ _ h7 H locs cells slots ls _ hW hS hA hc hs hl' ⟨?_, hv1⟩
      have e : 1000 + i + 1000 = 2000 + i := by omega
      show so_rr H.size σ (1000 + i + 1000) (mm_v σ (1000 + i + 1000)) (.ref (E.2.2.2.1 i))
      rw [e, ← g.2]
      exact so_tx.mk (by omega) (Or.inr (Or.inr (by omega)))
theorem so_getC (C : so_C X cc nL own mn) {index : Nat} (d : decode cc pc = .ok (.getfield index, 3)) (hl : Cond.fieldLink own index "java/lang/String" "coder" "B" ∈ lw_all) : so_ok X nL pc mo_getC := by
  obtain ⟨p, l, e, R, s, m, args, below, meth, c, D, cA, A, E, O, Q, QF⟩ := X
  obtain ⟨hx, hb, hml, hown, hts, hnest, hKK, hvk, -⟩ := C
  intro lv st σ K h hK
  match st, h with
  | .inr (.inr (k, a)) :: st, h =>
    intro H locs cells slots ls vs hW hS hA hc hs hl' hv
    obtain ⟨w, r, rfl, h1, hv1⟩ := so_iv3 hv
    have h7 : (bif Nat.ble 1000 k && Nat.blt k 1113 then K (pc + 3, lv, .inl 0 :: st) σ else False) := h
    cases hbo : Nat.ble 1000 k && Nat.blt k 1113 with
    | false => rw [hbo] at h7; exact h7.elim
    | true =>
      rw [hbo] at h7
      obtain ⟨b1, b2⟩ := Bool.and_eq_true_iff.mp hbo
      replace b1 := Nat.le_of_ble_eq_true b1
      replace b2 := Nat.blt_eq.mp b2
      obtain ⟨r1, r2, -⟩ := so_rr.tx h1 b1
      obtain ⟨i, rfl⟩ : ∃ i, k = 1000 + i := ⟨k - 1000, by omega⟩
      have g := (hS.1 i (by omega)).1
      rw [r2, g.1]
      refine vk_getf hx hb (hvk.1 i (by omega)).2.1 hA hown (hts _ hl) (fun _ h => h) d ?_
      exact hK _ _ h7 H locs cells slots ls _ hW hS hA hc hs hl' ⟨rfl, hv1⟩
theorem so_sald (C : so_C X cc nL own mn) (d : decode cc pc = .ok (.baload, 1)) : so_ok X nL pc mo_sald := by
  obtain ⟨p, l, e, R, s, m, args, below, meth, c, D, cA, A, E, O, Q, QF⟩ := X
  obtain ⟨hx, hb, hml, hown, hts, hnest, hKK, hvk, -⟩ := C
  intro lv st σ K h hK
  match st, h with
  | .inl x :: .inr (.inr (k, a)) :: st, h =>
    intro H locs cells slots ls vs hW hS hA hc hs hl' hv
    obtain ⟨r1, rfl, hv1⟩ := so_iv1 (v := .inl 0) hv
    obtain ⟨w, r, rfl, h1, hv2⟩ := so_iv3 hv1
    have h7 : (bif Nat.ble 2000 k && Nat.blt k 2113 then mm_in x (mm_n σ (k - 1000)) ∧ K (pc + 1, lv, .inl (mm_a σ (k - 1000) x.toNatClampNeg) :: st) σ else False) := h
    cases hbo : Nat.ble 2000 k && Nat.blt k 2113 with
    | false => rw [hbo] at h7; exact h7.elim
    | true =>
      rw [hbo] at h7
      obtain ⟨b1, b2⟩ := Bool.and_eq_true_iff.mp hbo
      replace b1 := Nat.le_of_ble_eq_true b1
      replace b2 := Nat.blt_eq.mp b2
      obtain ⟨-, r2, -⟩ := so_rr.tx h1 (by omega)
      obtain ⟨i, rfl⟩ : ∃ i, k = 2000 + i := ⟨k - 2000, by omega⟩
      obtain ⟨g1, g2, g3⟩ := hS.1 i (by omega)
      rw [show 2000 + i - 1000 = 1000 + i by omega, g2] at h7
      obtain ⟨hin, h8⟩ : mm_in x (E.1.getD i 0) ∧ K (pc + 1, lv, .inl (mm_a σ (1000 + i) x.toNatClampNeg) :: st) σ := h7
      rw [g3] at h8
      rw [r2, g1.2]
      exact va_tb hx hb (hvk.1 i (by omega)).2.2.2 hA hin rfl d (hK _ _ h8 H locs cells slots ls _ hW hS hA hc hs hl' ⟨rfl, hv2⟩)
theorem so_slen (C : so_C X cc nL own mn) (d : decode cc pc = .ok (.arraylength, 1)) : so_ok X nL pc mo_slen := by
  obtain ⟨p, l, e, R, s, m, args, below, meth, c, D, cA, A, E, O, Q, QF⟩ := X
  obtain ⟨hx, hb, hml, hown, hts, hnest, hKK, hvk, -⟩ := C
  intro lv st σ K h hK
  match st, h with
  | .inr (.inr (k, a)) :: st, h =>
    intro H locs cells slots ls vs hW hS hA hc hs hl' hv
    obtain ⟨w, r, rfl, h1, hv1⟩ := so_iv3 hv
    have h7 : (bif Nat.ble 2000 k && Nat.blt k 2113 then K (pc + 1, lv, .inl (Int32.ofNat (mm_n σ (k - 1000))) :: st) σ else False) := h
    cases hbo : Nat.ble 2000 k && Nat.blt k 2113 with
    | false => rw [hbo] at h7; exact h7.elim
    | true =>
      rw [hbo] at h7
      obtain ⟨b1, b2⟩ := Bool.and_eq_true_iff.mp hbo
      replace b1 := Nat.le_of_ble_eq_true b1
      replace b2 := Nat.blt_eq.mp b2
      obtain ⟨-, r2, -⟩ := so_rr.tx h1 (by omega)
      obtain ⟨i, rfl⟩ : ∃ i, k = 2000 + i := ⟨k - 2000, by omega⟩
      obtain ⟨g1, g2, g3⟩ := hS.1 i (by omega)
      have h8 : K (pc + 1, lv, .inl (Int32.ofNat (mm_n σ (2000 + i - 1000))) :: st) σ := h7
      rw [show 2000 + i - 1000 = 1000 + i by omega, g2] at h8
      rw [r2, g1.2]
      exact va_tlen hx hb (hvk.1 i (by omega)).2.2.2 hA rfl d (hK _ _ h8 H locs cells slots ls _ hW hS hA hc hs hl' ⟨rfl, hv1⟩)
theorem so_gets (C : so_C X cc nL own mn) {index : Nat} (d : decode cc pc = .ok (.getstatic index, 3)) (hl : Cond.fieldLink own index "java/lang/String" "COMPACT_STRINGS" "Z" ∈ lw_all) : so_ok X nL pc (mo_gets 1) := by
  obtain ⟨p, l, e, R, s, m, args, below, meth, c, D, cA, A, E, O, Q, QF⟩ := X
  obtain ⟨hx, hb, hml, hown, hts, hnest, hKK, hvk, hAq, hlk, hmn, hscA, hsc, hst, hz1, hz2, hzP⟩ := C
  intro lv st σ K h hK
  intro H locs cells slots ls vs hW hS hA hc hs hl' hv
  exact va_gets hx hb hzP.2.1 hA hown (hts _ hl) (fun _ h => h) d (hK _ _ h H locs cells slots ls _ hW hS hA hc hs hl' ⟨rfl, hv⟩)
theorem so_getq (C : so_C X cc nL own mn) {index : Nat} {Cn n dn : String} (d : decode cc pc = .ok (.getstatic index, 3)) (hl : Cond.fieldLink own index Cn n dn ∈ lw_all) (hZ : va_Zq Cn n dn X.2.2.2.2.2.2.2.2.2.2.2.2.1 X.2.2.2.2.1 X.2.2.2.2.1.heap) : so_ok X nL pc mo_getq := by
  obtain ⟨p, l, e, R, s, m, args, below, meth, c, D, cA, A, E, O, Q, QF⟩ := X
  obtain ⟨hx, hb, hml, hown, hts, -⟩ := C
  intro lv st σ K h hK
  have h : ∀ q, K (pc + 3, lv, .inr (.inr (8, q)) :: st) σ := h
  intro H locs cells slots ls vs hW hS hA hc hs hl' hv
  have h8 : ∀ (q : Nat) (w : Value), (w = .ref q ∨ w = .null) → so_rv H.size σ (.inr (.inr (8, q))) w := fun q w hw => by
    show so_rr H.size σ 8 q w
    unfold so_rr
    rw [if_neg (by decide), if_neg (by decide), if_pos (by decide)]
    rcases hw with hw | hw
    · exact Or.inl hw
    · exact Or.inr ⟨rfl, hw⟩
  rcases hZ with hZ | ⟨t, hZ⟩
  · exact va_gets hx hb hZ hA hown (hts _ hl) (fun _ h => h) d (hK _ _ (h 0) H locs cells slots ls _ hW hS hA hc hs hl' ⟨h8 0 _ (Or.inr rfl), hv⟩)
  · exact va_gets hx hb hZ hA hown (hts _ hl) (fun _ h => h) d (hK _ _ (h t) H locs cells slots ls _ hW hS hA hc hs hl' ⟨h8 t _ (Or.inl rfl), hv⟩)
theorem so_ldcS (C : so_C X cc nL own mn) {index : Nat} {tx : String} {j : Nat} (d : decode cc pc = .ok (.ldc index, 2)) (hj : j < 113) (hl : (own, index, tx, j) ∈ so_str) : so_ok X nL pc (mo_str (1000 + j) 2) := by
  obtain ⟨p, l, e, R, s, m, args, below, meth, c, D, cA, A, E, O, Q, QF⟩ := X
  obtain ⟨hx, hb, hml, hown, hts, hnest, hKK, hvk, hAq, hlk, hmn, hscA, hsc, hst, hz1, hz2, hzP⟩ := C
  intro lv st σ K h hK
  intro H locs cells slots ls vs hW hS hA hc hs hl' hv
  have g := (hS.1 j hj).1.1
  refine va_ldcS hx hb hown (hzP.1 _ hl) d (hK _ _ h H locs cells slots ls _ hW hS hA hc hs hl' ⟨?_, hv⟩)
  show so_rr H.size σ (1000 + j) (mm_v σ (1000 + j)) (.ref (E.2.2.1 j))
  rw [← g]
  exact so_tx.mk (by omega) (Or.inl (by omega))
theorem so_ldcSW (C : so_C X cc nL own mn) {index : Nat} {tx : String} {j : Nat} (d : decode cc pc = .ok (.ldc_w index, 3)) (hj : j < 113) (hl : (own, index, tx, j) ∈ so_str) : so_ok X nL pc (mo_str (1000 + j) 3) := by
  obtain ⟨p, l, e, R, s, m, args, below, meth, c, D, cA, A, E, O, Q, QF⟩ := X
  obtain ⟨hx, hb, hml, hown, hts, hnest, hKK, hvk, hAq, hlk, hmn, hscA, hsc, hst, hz1, hz2, hzP⟩ := C
  intro lv st σ K h hK
  intro H locs cells slots ls vs hW hS hA hc hs hl' hv
  have g := (hS.1 j hj).1.1
  have k := hK _ _ h H locs cells slots ls (.ref (E.2.2.1 j) :: vs) hW hS hA hc hs hl' ⟨?_, hv⟩
  · intro T hT Y
    obtain ⟨t, a1, b1⟩ := k T hT Y
    have hZ := hzP.1 _ hl
    exact ⟨t, Y.ldcStringW hx hown (text := tx) (a := E.2.2.1 j) hZ.1 hZ.2 (g := F0 m pc ls vs) rfl (by rw [hb]; exact d) t a1, b1⟩
  · show so_rr H.size σ (1000 + j) (mm_v σ (1000 + j)) (.ref (E.2.2.1 j))
    rw [← g]
    exact so_tx.mk (by omega) (Or.inl (by omega))
theorem so_putX (C : so_C X cc nL own mn) {index n : Nat} {ty : FieldType} (d : decode cc pc = .ok (.putfield index, 3)) (hn : n / 100 = 5) (hk : so_fk n = 3) (hG : so_G X.2.2.2.2.1 X.2.2.2.2.2.2.1 own mn index n ty) (hty : ∀ a, narrow ty (.ref a) = .ref a ∧ fits ty (.ref a) = true ∧ narrow ty .null = .null ∧ fits ty .null = true) : so_ok X nL pc mo_putX := by
  obtain ⟨p, l, e, R, s, m, args, below, meth, c, D, cA, A, E, O, Q, QF⟩ := X
  intro lv st σ K h hK
  match st, h with
  | .inr (.inr rr) :: .inr (.inr (o, a)) :: st, h =>
    intro H locs cells slots ls vs hW hS hA hc hs hl hv
    obtain ⟨w2, r2, rfl, h2, hv1⟩ := so_iv3 hv
    obtain ⟨w, r, rfl, h1, hv2⟩ := so_iv3 hv1
    have h7 : (bif Nat.beq o 5 then K (pc + 3, lv, st) σ else False) := h
    clear h
    cases hbo : Nat.beq o 5 with
    | false => rw [hbo] at h7; exact h7.elim
    | true =>
      rw [hbo] at h7
      have ho : o = n / 100 := (Nat.eq_of_beq_eq_true hbo).trans hn.symm
      subst ho
      obtain ⟨Cn, T, N, tys, ⟨k1, k2, k3, k4, k5, k6⟩, hj, hty9, hlink⟩ := id hG
      obtain ⟨h0, ha, rfl⟩ := h1.obj k3 k2
      have hww : narrow ty w2 = w2 ∧ fits ty w2 = true := by
        rcases h2.ref with e9 | e9 <;> rw [e9]
        · exact ⟨(hty 0).2.2.1, (hty 0).2.2.2⟩
        · exact ⟨(hty _).1, (hty _).2.1⟩
      refine so_putG C d hG hww.1 hww.2 hW hA h1 (u := σ) rfl rfl rfl rfl ?_ (fun n' w' hn' hf => hf) (fun H1 locs1 z1 W1 S1 => ?_)
      · unfold so_fv
        rw [hk]
        trivial
      · exact hK _ _ h7 H1 locs1 cells slots ls _ W1 hS S1 hc hs (by rw [z1]; exact hl) (by rw [z1]; exact hv2)
theorem so_objinit (C : so_C X cc nL own mn) {index : Nat} (hR : 1 ≤ X.2.2.2.1.frames ∧ 64 ≤ X.2.2.2.1.locals) (d : decode cc pc = .ok (.invokespecial index, 3)) (q1 : Cond.methodLink own index Lib.objectInit ∈ lw_all) (q2 : Cond.instanceMethod Lib.objectInit ∈ lw_all) (q3 : Cond.code Lib.objectInit ⟨#[0xb1]⟩ 1 none ∈ lw_all) : so_ok X nL pc mo_objinit := by
  obtain ⟨p, l, e, R, s, m, args, below, meth, c, D, cA, A, E, O, Q, QF⟩ := X
  obtain ⟨hx, hb, hml, hown, hts, -⟩ := C
  intro lv st σ K h hK
  match st, h with
  | .inr (.inr (k, a)) :: st, h =>
    intro H locs cells slots ls vs hW hS hA hc hs hl hv
    obtain ⟨w, r, rfl, h1, hv1⟩ := so_iv3 hv
    have h7 : (bif Nat.blt 0 k && Nat.blt k 6 && Nat.ble (mm_wt st) 8 then K (pc + 3, lv, st) σ else False) := h
    cases hbo : Nat.blt 0 k && Nat.blt k 6 && Nat.ble (mm_wt st) 8 with
    | false => rw [hbo] at h7; exact h7.elim
    | true =>
      rw [hbo] at h7
      obtain ⟨b1, b3⟩ := Bool.and_eq_true_iff.mp hbo
      obtain ⟨b1, b2⟩ := Bool.and_eq_true_iff.mp b1
      obtain ⟨h0, ha, rfl⟩ := h1.obj (Nat.blt_eq.mp b2) (Nat.blt_eq.mp b1)
      have hwt := hv1.wt
      have b4 := Nat.le_of_ble_eq_true b3
      exact W.objInit hx hb hown (hts _ q1) (hts _ q2) (hts _ q3) (g := F0 m pc ls (.ref a :: r)) rfl (hl.1.trans hml.symm) rfl d hR.1 (by show 2 * 0 + _ + 12 ≤ R.locals; have := (show 64 ≤ R.locals from hR.2); omega)
        (hK _ _ h7 H locs cells slots ls _ hW hS hA hc hs hl hv1)
end SOT
