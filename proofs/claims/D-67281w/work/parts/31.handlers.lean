/-! calls under handlers -/
section SOH
variable {X : so_X} {cc : ByteArray} {nL pc : Nat} {own mn : String} {y n d index maxL : Nat} {ym : MethodName} {bytes : ByteArray} {ret : Option FieldType}
theorem so_kIh {σ0 : mmS} {rt : Option FieldType} {hs9 : List (Nat × Nat)} (C : so_C X cc nL own mn) (F : so_F9 X σ0 rt) {st : Bool} (hS9 : so_Site X nL pc y n st) (hcat : so_Cat X pc hs9) : so_ok X nL pc (mo_callIh y n 3 st hs9) := by
  obtain ⟨p, l, e, R, s, m, args, below, meth, c, D, cA, A, E, O, Q, QF⟩ := X
  obtain ⟨hx, hb, hml, hown, hts, hnest, hKK, hvk, hAq, hlk, hmn, hsc⟩ := C
  obtain ⟨hQF, hRc, hRs, hr⟩ := F
  subst hQF
  intro lv st9 σ K h hK
  have h8 : (match mm_take n st9 [] with | some (as, r) => bif (st || mm_rc y as) && Nat.ble (mm_wt r) 8 then O y as σ (fun o u => match o with | .inl (some (.inl x)) => K (pc + 3, lv, .inl x :: r) u | .inr e => mm_hx (fun t => ∀ q, K (t, lv, [.inr (.inr (e, q))]) u) False e hs9 | _ => False) else False | none => False) := h
  clear h
  cases htk : mm_take n st9 [] with
  | none => rw [htk] at h8; exact h8.elim
  | some ar =>
    obtain ⟨as, r⟩ := ar
    rw [htk] at h8
    obtain ⟨xs, rfl, hxl, has⟩ := mm_take_spec htk
    rw [List.append_nil] at has
    have h9 : (bif (st || mm_rc y as) && Nat.ble (mm_wt r) 8 then O y as σ (fun o u => match o with | .inl (some (.inl x)) => K (pc + 3, lv, .inl x :: r) u | .inr e => mm_hx (fun t => ∀ q, K (t, lv, [.inr (.inr (e, q))]) u) False e hs9 | _ => False) else False) := h8
    clear h8
    cases hbb : (st || mm_rc y as) && Nat.ble (mm_wt r) 8 with
    | false => rw [hbb] at h9; exact h9.elim
    | true =>
      rw [hbb] at h9
      obtain ⟨hb1, hb2⟩ := Bool.and_eq_true_iff.mp hbb
      intro H locs cells slots ls vs hW hS hA hc hs hl hv
      obtain ⟨w1, w2, rfl, hv1, hv2⟩ := hv.split
      have hst := hv1.rev
      rw [← has] at hst
      have hC := hS9 σ as w1.reverse w2 H locs cells slots ls _ h9 hb1 (by rw [has, List.length_reverse]; exact hxl) hst (by rw [hv2.wt]; exact Nat.le_of_ble_eq_true hb2) hW hS hA hc hs hl.1
      rw [List.reverse_reverse] at hC
      refine so_go hW hS hA hAq hc hs hC (fun ov v u H1 locs1 cells1 slots1 hq hrv hAf => ?_) (fun e9 q9 ce u H1 locs1 cells1 slots1 hq g4 g8 g5 gc gv gcl hAf => ?_)
      · match ov, v, hq, hrv with
        | some (.inl x), some w, hq, hrv =>
          obtain ⟨a1, a2, a3, a4, a5, a6, a7⟩ := hAf
          exact hK _ _ hq H1 locs1 cells1 slots1 ls _ a1 a2 a4 a5 a6 (hl.on a7 a3) ⟨hrv, hv2.on a7 a3⟩
      · obtain ⟨a1, a2, a3, a4, a5, a6, a7⟩ := hAf
        refine hcat _ e9 q9 ce H1 locs1 cells1 slots1 ls w2 hq gc gv gcl (fun t ht => ?_)
        refine hK _ _ (ht q9) H1 locs1 cells1 slots1 ls _ a1 a2 a4 a5 a6 (hl.on a7 a3) ⟨?_, trivial⟩
        show so_rr H1.size u e9 q9 (.ref q9)
        unfold so_rr
        rw [if_neg (by omega)]
        by_cases h5 : e9 < 6
        · rw [if_pos h5]
          have h55 : e9 = 5 := by omega
          obtain ⟨b1, b2⟩ := g5 h55
          rw [h55]
          exact ⟨b1, b2, rfl⟩
        · rw [if_neg h5, if_pos (by omega)]
          exact Or.inl rfl

theorem so_kVh {σ0 : mmS} {rt : Option FieldType} {hs9 : List (Nat × Nat)} (C : so_C X cc nL own mn) (F : so_F9 X σ0 rt) {st : Bool} (hS9 : so_Site X nL pc y n st) (hcat : so_Cat X pc hs9) : so_ok X nL pc (mo_callVh y n 3 st hs9) := by
  obtain ⟨p, l, e, R, s, m, args, below, meth, c, D, cA, A, E, O, Q, QF⟩ := X
  obtain ⟨hx, hb, hml, hown, hts, hnest, hKK, hvk, hAq, hlk, hmn, hsc⟩ := C
  obtain ⟨hQF, hRc, hRs, hr⟩ := F
  subst hQF
  intro lv st9 σ K h hK
  have h8 : (match mm_take n st9 [] with | some (as, r) => bif (st || mm_rc y as) && Nat.ble (mm_wt r) 8 then O y as σ (fun o u => match o with | .inl none => K (pc + 3, lv, r) u | .inr e => mm_hx (fun t => ∀ q, K (t, lv, [.inr (.inr (e, q))]) u) False e hs9 | _ => False) else False | none => False) := h
  clear h
  cases htk : mm_take n st9 [] with
  | none => rw [htk] at h8; exact h8.elim
  | some ar =>
    obtain ⟨as, r⟩ := ar
    rw [htk] at h8
    obtain ⟨xs, rfl, hxl, has⟩ := mm_take_spec htk
    rw [List.append_nil] at has
    have h9 : (bif (st || mm_rc y as) && Nat.ble (mm_wt r) 8 then O y as σ (fun o u => match o with | .inl none => K (pc + 3, lv, r) u | .inr e => mm_hx (fun t => ∀ q, K (t, lv, [.inr (.inr (e, q))]) u) False e hs9 | _ => False) else False) := h8
    clear h8
    cases hbb : (st || mm_rc y as) && Nat.ble (mm_wt r) 8 with
    | false => rw [hbb] at h9; exact h9.elim
    | true =>
      rw [hbb] at h9
      obtain ⟨hb1, hb2⟩ := Bool.and_eq_true_iff.mp hbb
      intro H locs cells slots ls vs hW hS hA hc hs hl hv
      obtain ⟨w1, w2, rfl, hv1, hv2⟩ := hv.split
      have hst := hv1.rev
      rw [← has] at hst
      have hC := hS9 σ as w1.reverse w2 H locs cells slots ls _ h9 hb1 (by rw [has, List.length_reverse]; exact hxl) hst (by rw [hv2.wt]; exact Nat.le_of_ble_eq_true hb2) hW hS hA hc hs hl.1
      rw [List.reverse_reverse] at hC
      refine so_go hW hS hA hAq hc hs hC (fun ov v u H1 locs1 cells1 slots1 hq hrv hAf => ?_) (fun e9 q9 ce u H1 locs1 cells1 slots1 hq g4 g8 g5 gc gv gcl hAf => ?_)
      · match ov, v, hq, hrv with
        | none, none, hq, _ =>
          obtain ⟨a1, a2, a3, a4, a5, a6, a7⟩ := hAf
          exact hK _ _ hq H1 locs1 cells1 slots1 ls _ a1 a2 a4 a5 a6 (hl.on a7 a3) (hv2.on a7 a3)
      · obtain ⟨a1, a2, a3, a4, a5, a6, a7⟩ := hAf
        refine hcat _ e9 q9 ce H1 locs1 cells1 slots1 ls w2 hq gc gv gcl (fun t ht => ?_)
        refine hK _ _ (ht q9) H1 locs1 cells1 slots1 ls _ a1 a2 a4 a5 a6 (hl.on a7 a3) ⟨?_, trivial⟩
        show so_rr H1.size u e9 q9 (.ref q9)
        unfold so_rr
        rw [if_neg (by omega)]
        by_cases h5 : e9 < 6
        · rw [if_pos h5]
          have h55 : e9 = 5 := by omega
          obtain ⟨b1, b2⟩ := g5 h55
          rw [h55]
          exact ⟨b1, b2, rfl⟩
        · rw [if_neg h5, if_pos (by omega)]
          exact Or.inl rfl

end SOH
