/-! PHASE 3. tryAt() -/
/-- catch: the body's scope stands in that of the parameter; what is left there -/
theorem cat_run2 : ∀ (evs l4 l7 es4 es7 : hE) (L : hC), evOK 3 evs → (∀ y ∈ l4, y.1 < 3 ∧ (y.1 == 0) = false) → (∀ y ∈ l7, y.1 < 3) → Iblk l7 es7 → (∀ n, (h_find es4 n).isSome = l4.any (fun y => y.2 == n)) →
    ∃ a7 : hE, h_run evs ((7, es7) :: (4, es4) :: L) = bif s_ok m_blk (l4 ++ l7) evs then (h_run (evs.filter (fun x => x.1 == 0)) L).map (fun L2 => (7, a7) :: (4, blkE (evs.filter (fun x => x.1 == 0)) es4) :: L2) else none
  | [], l4, l7, es4, es7, L, _, _, _, _, _ => ⟨es7, rfl⟩
  | (k, n) :: t, l4, l7, es4, es7, L, ho, h4, h7, i7, i4 => by
    obtain ⟨hk, hb⟩ := ho (k, n) List.mem_cons_self
    have hk : k < 3 := hk
    have hb : n_bad n = false := hb
    obtain ⟨i1, i2⟩ := i7 n
    have hl : ∀ y ∈ l4 ++ l7, y.1 < 3 := fun y hy => by
      rcases List.mem_append.mp hy with hy | hy
      · exact (h4 y hy).1
      · exact h7 y hy
    have l4n : l4.any (fun y => y.2 == n && !(y.1 == 0)) = l4.any (fun y => y.2 == n) := any_mem fun y hy => by rw [(h4 y hy).2]; simp
    have l4v : l4.any (fun y => y.2 == n && y.1 == 0) = false := by
      rw [any_mem (q := fun _ => false) fun y hy => by rw [(h4 y hy).2, Bool.and_false]]
      induction l4 with
      | nil => rfl
      | cons y t ih => rw [List.any_cons, Bool.false_or]; exact List.any_eq_false.mpr fun _ _ => Bool.false_ne_true
    have top7 : h_top 7 = false := by decide
    have top4 : h_top 4 = false := by decide
    rw [h_run_c, h_ev3 (by omega) hb]
    cases h0 : k == 0 with
    | true =>
      have : k = 0 := eq_of_beq h0
      subst this
      have e1 : s_ok m_blk (l4 ++ l7) ((0, n) :: t) = (!((h_find es4 n).isSome || (h_find es7 n).isSome) && s_ok m_blk (l4 ++ (l7 ++ [(0, n)])) t) := by rw [s_ok, s_hit0 hl, List.any_append, l4n, ← i4, i1, List.append_assoc]
      have e2 : ((0, n) :: t).filter (fun x => x.1 == 0) = (0, n) :: t.filter (fun x => x.1 == 0) := rfl
      rw [e1, e2, h_run_c, h_dec0_0, h_var, top7, cond_false, h_ev3 (by omega) hb, h_dec0_0]
      cases hf : (h_find es7 n).isSome with
      | true => exact ⟨[], by rw [cond_true, Bool.or_true]; rfl⟩
      | false =>
        rw [cond_false, h_var, top4, cond_false, Bool.or_false]
        cases hf4 : (h_find es4 n).isSome with
        | true => exact ⟨[], rfl⟩
        | false =>
          rw [cond_false, Bool.not_false, Bool.true_and]
          cases hv : h_var n L with
          | none => exact ⟨[], by cases s_ok m_blk (l4 ++ (l7 ++ [(0, n)])) t <;> rfl⟩
          | some L2 =>
            refine cat_run2 t l4 (l7 ++ [(0, n)]) (bif h_pass es4 n then es4 else es4 ++ [(8, n)]) (bif h_pass es7 n then es7 else es7 ++ [(8, n)]) L2 ho.tl h4 (lt_app h7 (show 0 < 3 by decide)) i7.var (fun m => ?_)
            rw [← i4 m]
            cases h_pass es4 n with
            | true => rfl
            | false => rw [cond_false, find_app8]
    | false =>
      have h8 : (k == 8) = false := by rw [beq_eq_false_iff_ne]; omega
      have e1 : s_ok m_blk (l4 ++ l7) ((k, n) :: t) = (!((h_find es7 n).isSome || h_pass es7 n || (h_find es4 n).isSome) && s_ok m_blk (l4 ++ (l7 ++ [(k, n)])) t) := by
        rw [s_ok, s_hitK hl h0 hk, List.any_append, List.any_append, l4n, l4v, ← i4, i1, i2, List.append_assoc, Bool.false_or]
        cases (h_find es4 n).isSome <;> cases l7.any (fun y => y.2 == n && !(y.1 == 0)) <;> cases l7.any (fun y => y.2 == n && y.1 == 0) <;> rfl
      have e2 : ((k, n) :: t).filter (fun x => x.1 == 0) = t.filter (fun x => x.1 == 0) := by rw [List.filter_cons]; simp [h0]
      have c7 : ((7 : Int32) == 2 || (7 : Int32) == 7) = true := by decide
      rw [e1, e2, h_dec0_n h0, h_has_c, top7, Bool.and_false, Bool.false_and, cond_false, c7, Bool.true_and]
      cases hf : ((h_find es7 n).isSome || h_pass es7 n || (h_find es4 n).isSome) with
      | true => exact ⟨[], rfl⟩
      | false => exact cat_run2 t l4 (l7 ++ [(k, n)]) es4 (es7 ++ [(k, n)]) L ho.tl h4 (lt_app h7 hk) (i7.lex h0 h8) i4
/-- the body of catch, seen from within the parameter's scope -/
def s_catE {β : Type} (es : hE) (r : sR β) : sR β := match r with
  | none => none
  | some (v, j, cv, pu, nf, nc, ok, ev) => some (v, j, cv, pu, nf, nc, ok && s_ok m_blk es ev, ev.filter (fun x => x.1 == 0))
theorem blkE_I : ∀ (evs l es : hE), (∀ y ∈ evs, y.1 = 1) → Iblk l es → Iblk (l ++ evs) (blkE evs es)
  | [], l, es, _, h => by rw [List.append_nil]; exact h
  | (k, n) :: t, l, es, h1, h => by
    have hk : k = 1 := h1 (k, n) List.mem_cons_self
    subst hk
    have := blkE_I t (l ++ [(1, n)]) (es ++ [(1, n)]) (fun y hy => h1 y (List.mem_cons_of_mem _ hy)) (h.lex rfl rfl)
    rw [List.append_assoc] at this
    exact this
theorem s_ok_flt (p : Nat × Int32 → Bool) : ∀ (ev l l' : hE), (∀ y ∈ l', y ∈ l) → s_ok m_blk l ev = true → s_ok m_blk l' (ev.filter p) = true
  | [], _, _, _, _ => rfl
  | x :: t, l, l', hs, h => by
    rw [s_ok, Bool.and_eq_true, Bool.not_eq_true'] at h
    obtain ⟨h1, h2⟩ := h
    have hit : s_hit m_blk l' x = false := by
      unfold s_hit at h1 ⊢
      rw [List.any_eq_false] at h1 ⊢
      exact fun y hy => h1 y (hs y hy)
    rw [List.filter_cons]
    cases hp : p x with
    | true =>
      rw [if_pos rfl, s_ok, hit, Bool.not_false, Bool.true_and]
      exact s_ok_flt p t (l ++ [x]) (l' ++ [x]) (fun y hy => by
        rcases List.mem_append.mp hy with q | q
        · exact List.mem_append_left _ (hs y q)
        · exact List.mem_append_right _ q) h2
    | false =>
      rw [if_neg (by decide)]
      exact s_ok_flt p t (l ++ [x]) l' (fun y hy => List.mem_append_left _ (hs y hy)) h2
/-- what declarations a reading has -/
def s_evs {β : Type} (r : sR β) : hE := match r with
  | none => []
  | some (_, _, α) => α.2.2.2.2.2
theorem s_blk_cat {β γ : Type} {P : sR β} {F : β → Nat → sR γ} (hP : ev (eK 1) P) : s_blk (s_b P F) = s_blk (s_b P (fun v j => s_catE (s_evs P) (F v j))) := by
  cases hp : P with
  | none => rfl
  | some z =>
    obtain ⟨v, j, cv, pu, nf, nc, ok, e4⟩ := z
    have h1 : ∀ y ∈ e4, y.1 = 1 := fun y hy => by
      have := (hP v j _ hp y hy).1
      simpa [eK] using this
    show s_blk (match F v j with | none => none | some (w, k, δ) => some (w, k, sA_m (cv, pu, nf, nc, ok, e4) δ)) = s_blk (match s_catE e4 (F v j) with | none => none | some (w, k, δ) => some (w, k, sA_m (cv, pu, nf, nc, ok, e4) δ))
    cases hF : F v j with
    | none => rfl
    | some z2 =>
      obtain ⟨v2, j2, cv2, pu2, nf2, nc2, ok2, e7⟩ := z2
      show some (v2, j2, cv + cv2, pu ++ pu2, nf + nf2, nc + nc2, (ok && ok2) && s_ok m_blk [] (e4 ++ e7), (e4 ++ e7).filter (fun x => x.1 == 0)) = some (v2, j2, cv + cv2, pu ++ pu2, nf + nf2, nc + nc2, (ok && (ok2 && s_ok m_blk e4 e7)) && s_ok m_blk [] (e4 ++ e7.filter (fun x => x.1 == 0)), (e4 ++ e7.filter (fun x => x.1 == 0)).filter (fun x => x.1 == 0))
      have ef : (e4 ++ e7.filter (fun x => x.1 == 0)).filter (fun x => x.1 == 0) = (e4 ++ e7).filter (fun x => x.1 == 0) := by
        rw [List.filter_append, List.filter_append, List.filter_filter]
        simp
      have eo : ((ok && ok2) && s_ok m_blk [] (e4 ++ e7)) = ((ok && (ok2 && s_ok m_blk e4 e7)) && s_ok m_blk [] (e4 ++ e7.filter (fun x => x.1 == 0))) := by
        rw [s_ok_app, s_ok_app, List.nil_append]
        cases h7 : s_ok m_blk e4 e7 with
        | false => simp
        | true =>
          rw [s_ok_flt _ e7 e4 e4 (fun _ q => q) h7]
          simp
      rw [ef, eo]
/-- the body of catch: from its own scope, and as it is seen from the parameter's -/
theorem run_cat {β γ : Type} {inn : Bool} {A : cA} {P : sR β} {r : sR γ} (hP : ev (eK 1) P) (hr : ev eS r) {v : β} {j : Nat} {B : cA} (e : run inn ((4, []) :: A.1, A.2) P = some (v, j, B)) : ∃ es4, B.1 = (4, es4) :: A.1 ∧ sim (fun L L' => (∃ x a, L = (x, a) :: L') ∧ L'.map (·.1) = B.1.map (·.1)) (run inn ((7, []) :: B.1, B.2) r) (run inn B (s_catE (s_evs P) r)) := by
  cases hp : P with
  | none => rw [hp] at e; exact nomatch e
  | some z =>
    obtain ⟨v1, j1, cv, pu, nf, nc, ok, e4⟩ := z
    have h1 : ∀ y ∈ e4, y.1 = 1 := fun y hy => by
      have := (hP v1 j1 _ hp y hy).1
      simpa [eK] using this
    have h3 : evOK 3 e4 := fun x hx => ⟨by rw [h1 x hx]; decide, by
    have h := (hP v1 j1 _ hp x hx).2
    rw [h1 x hx] at h
    rcases h with h | h | h
    · exact absurd h (by decide)
    · exact absurd h (by decide)
    · exact h⟩
    have f4 : e4.filter (fun x => x.1 == 0) = [] := by
      rw [List.filter_eq_nil_iff]
      intro x hx
      rw [h1 x hx]; decide
    have hb := blk_run (c := 4) rfl rfl e4 [] [] A.1 h3 (fun _ q => nomatch q) Iblk.nil
    rw [f4] at hb
    have i4 := blkE_I e4 [] [] h1 Iblk.nil
    rw [List.nil_append] at i4
    rw [hp, run_eq, A_st_eq] at e
    have e : ((bif ok && (inn || pu.isEmpty) then (h_run e4 ((4, []) :: A.1)).map _ else none).map _) = some (v, j, B) := e
    rw [hb] at e
    cases hc : (ok && (inn || pu.isEmpty)) with
    | false => rw [hc] at e; exact nomatch e
    | true =>
      cases hs : s_ok m_blk [] e4 with
      | false => rw [hc, hs] at e; exact nomatch e
      | true =>
        rw [hc, hs] at e
        have e : some (v1, j1, accA ((4, []) :: A.1, A.2) (cv, pu, nf, nc, ok, e4) ((4, blkE e4 []) :: A.1)) = some (v, j, B) := e
        simp only [Option.some.injEq, Prod.mk.injEq] at e
        obtain ⟨-, -, eB⟩ := e
        have hB1 : B.1 = (4, blkE e4 []) :: A.1 := by rw [← eB]; rfl
        refine ⟨_, hB1, sim_and ?_ (fun _ _ _ q => run_map q)⟩
        show sim _ (run inn ((7, []) :: B.1, B.2) r) (run inn B (s_catE e4 r))
        cases hr' : r with
        | none => trivial
        | some z2 =>
          obtain ⟨v2, j2, cv2, pu2, nf2, nc2, ok2, e7⟩ := z2
          have h7 := ev_lt hr hr'
          have h7' : evOK 3 (e7.filter (fun x => x.1 == 0)) := fun x hx => h7 x ((List.mem_filter.mp hx).1)
          obtain ⟨a7, c1⟩ := cat_run2 e7 e4 [] (blkE e4 []) [] A.1 h7 (fun y hy => by rw [h1 y hy]; decide) (fun _ q => nomatch q) Iblk.nil (fun n => (i4 n).1.trans (any_mem fun y hy => by rw [h1 y hy]; simp))
          have c2 := blk_run (c := 4) rfl rfl (e7.filter (fun x => x.1 == 0)) e4 (blkE e4 []) A.1 h7' (fun y hy => by rw [h1 y hy]; decide) i4
          rw [List.append_nil] at c1
          rw [List.filter_filter] at c2
          show sim _ (run inn ((7, []) :: B.1, B.2) (some (v2, j2, cv2, pu2, nf2, nc2, ok2, e7))) (run inn B (some (v2, j2, cv2, pu2, nf2, nc2, ok2 && s_ok m_blk e4 e7, e7.filter (fun x => x.1 == 0))))
          rw [run_eq, run_eq, A_st_eq, A_st_eq]
          show sim _ ((bif ok2 && (inn || pu2.isEmpty) then (h_run e7 ((7, []) :: B.1)).map _ else none).map _) ((bif (ok2 && s_ok m_blk e4 e7) && (inn || pu2.isEmpty) then (h_run (e7.filter (fun x => x.1 == 0)) B.1).map _ else none).map _)
          rw [hB1, c1, c2]
          have fe : (fun a : Nat × Int32 => a.1 == 0 && a.1 == 0) = (fun x => x.1 == 0) := funext fun a => Bool.and_self _
          rw [fe]
          cases ok2 with
          | false => trivial
          | true =>
            cases h7o : s_ok m_blk e4 e7 with
            | false => cases (inn || pu2.isEmpty) <;> trivial
            | true =>
              rw [s_ok_flt _ e7 e4 e4 (fun _ q => q) h7o]
              cases (inn || pu2.isEmpty) with
              | false => trivial
              | true =>
                cases h_run (e7.filter (fun x => x.1 == 0)) A.1 with
                | none => trivial
                | some L2 => exact ⟨rfl, rfl, rfl, 7, a7, rfl⟩
