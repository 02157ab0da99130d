/-! PHASE 4. exportAt(): names in brackets; names of declarations -/
theorem s_newL_nm : ∀ {a a' l l' : List sO}, a.map (·.1) = a'.map (·.1) → l.map (·.1) = l'.map (·.1) → s_newL l a = s_newL l' a' := by
  have s1 : ∀ {l l' : List sO} {x x' : sO}, x.1 = x'.1 → l.map (·.1) = l'.map (·.1) → s_new1 l x = s_new1 l' x' := fun {l l' x x'} hx hl => by
    unfold s_new1
    have e : ∀ (l : List sO) (z : Int32), l.any (fun y => y.1 == z) = (l.map (·.1)).any (fun y => y == z) := fun l z => by rw [List.any_map]; rfl
    rw [hx, e, e, hl]
  intro a
  induction a with
  | nil =>
    intro a' l l' ha hl
    cases a' with
    | nil => rfl
    | cons y t => exact nomatch ha
  | cons x t ih =>
    intro a' l l' ha hl
    cases a' with
    | nil => exact nomatch ha
    | cons y t' =>
      simp only [List.map_cons, List.cons.injEq] at ha
      rw [s_newL, s_newL, s1 ha.1 hl, ih (l := l ++ [x]) (l' := l' ++ [y]) ha.2 (by rw [List.map_append, List.map_append, hl, List.map_cons, List.map_cons, ha.1])]
theorem s_b_no {β γ : Type} {r : sR γ} {f : γ → Nat → sR β} (h : ∀ v j α, r = some (v, j, α) → f v j = none) : s_b r f = none := by
  unfold s_b
  cases hr : r with
  | none => rfl
  | some z =>
    obtain ⟨v, j, α⟩ := z
    simp only [h v j α hr]
theorem s_b_some {β γ : Type} {r : sR γ} {f : γ → Nat → sR β} {w : β} {k : Nat} {δ : sA} (h : s_b r f = some (w, k, δ)) : ∃ v j α δ', r = some (v, j, α) ∧ f v j = some (w, k, δ') := by
  unfold s_b at h
  cases hr : r with
  | none => rw [hr] at h; exact nomatch h
  | some z =>
    obtain ⟨v, j, α⟩ := z
    rw [hr] at h
    simp only at h
    cases hf : f v j with
    | none => rw [hf] at h; exact nomatch h
    | some y =>
      obtain ⟨v2, j2, α2⟩ := y
      rw [hf] at h
      simp only [Option.some.injEq, Prod.mk.injEq] at h
      exact ⟨v, j, α, α2, rfl, by rw [hf, h.1, h.2.1]⟩
/-- names that were read stay in front -/
theorem exL_pre {T : sT} : ∀ (f : Nat) (res : Bool) (l : List (Int32 × Int32)) (j : Nat) (v : Bool × List (Int32 × Int32)) (k : Nat) (α : sA), s_expL T f res l j = some (v, k, α) → ∃ l', v.2 = l ++ l'
  | 0, _, _, _, _, _, _, h => nomatch h
  | f + 1, res, l, j, v, k, α, h => by
    rw [s_expL] at h
    cases h1 : t_sg T j 1 with
    | true =>
      rw [h1] at h
      have : (res, l) = v := by
        unfold s_r at h
        simp only [cond_true, Option.some.injEq, Prod.mk.injEq] at h
        exact h.1
      exact ⟨[], by rw [← this, List.append_nil]⟩
    | false =>
      rw [h1, cond_false] at h
      obtain ⟨x, k1, α1, δ1, -, h⟩ := s_b_some h
      obtain ⟨y, k2, α2, δ2, -, h⟩ := s_b_some h
      cases h2 : t_sg T k2 1 with
      | true =>
        rw [h2, cond_true] at h
        obtain ⟨l', e⟩ := exL_pre f _ _ _ _ _ _ h
        exact ⟨(y, x) :: l', by rw [e, List.append_assoc]; rfl⟩
      | false =>
        rw [h2, cond_false] at h
        obtain ⟨z, k3, α3, δ3, -, h⟩ := s_b_some h
        obtain ⟨l', e⟩ := exL_pre f _ _ _ _ _ _ h
        exact ⟨(y, x) :: l', by rw [e, List.append_assoc]; rfl⟩
theorem run_sm {β : Type} {inn : Bool} {A B : cA} {r : sR β} {v : β} {j : Nat} (h : run inn A r = some (v, j, B)) : ∃ α, r = some (v, j, α) := by
  unfold run at h
  cases hr : r with
  | none => rw [hr] at h; exact nomatch h
  | some z =>
    obtain ⟨v1, j1, α⟩ := z
    rw [hr] at h
    simp only at h
    cases hA : A_st inn A α with
    | none => rw [hA] at h; exact nomatch h
    | some B1 =>
      rw [hA] at h
      simp only [Option.some.injEq, Prod.mk.injEq] at h
      exact ⟨α, by rw [h.1, h.2.1]⟩
def ow1 (y : Int32 × Int32) : sO := (y.1, true, y.2)
def ow0 (y : Int32 × Int32) : sO := (y.1, false, y.2)
/-- what is behind the names in brackets -/
def s_expB {β : Type} (T : sT) (f : sM → Nat → sR β) (v : Bool × List (Int32 × Int32)) (k : Nat) : sR β := s_b (s_nd T 1 k) (fun _ q =>
    bif t_wd T q 48 then s_b (s_from T q) (fun r p => f ([r], v.2.map ow0) p) else
    bif v.1 then none else s_b (s_semi T q) (fun _ p => f ([], v.2.map ow1) p))
section EXP
variable {β : Type} {T : sT} {g : Nat} {A0 : cA} {r0 : sR β} {NG : Prop × mmS} {b : Bool} {h : Nat} {A : cA} {m e : Nat} {r r' : sR β} {σ u : mmS} {i c n : Nat} {RQ : List Int32} {LO : List sO} {θ : cTh}
variable {d a : Nat} {Q : mmQ} {Ak Bk : mmS → Prop}
theorem expB_no {f : sM → Nat → sR β} (hf : ∀ v j, s_newL LO v.2 = false → f v j = none) {v : Bool × List (Int32 × Int32)} {k : Nat} (hn : s_newL LO (v.2.map ow1) = false) : s_expB T f v k = none := by
  have hn0 : s_newL LO (v.2.map ow0) = false := by
    rw [← hn]
    exact s_newL_nm (by rw [List.map_map, List.map_map]; rfl) rfl
  refine s_b_no fun _ q _ _ => ?_
  cases t_wd T q 48 with
  | true => exact s_b_no fun _ _ _ _ => hf _ _ hn0
  | false =>
    cases v.1 with
    | true => rfl
    | false => exact s_b_no fun _ _ _ _ => hf _ _ hn
/-- rows told are given their request -/
theorem exp_173 {v1 v2 v3 : Int32} {L1 : List sO} {l : List (Int32 × Int32)} (hv : GD σ → ¬ v3 < 0) {b0 : Nat} (hlen : L1.length = b0 ∨ ¬ GD σ) (kk : ∀ u, SM T g A0 r0 NG b h A m e r u i → PM c n RQ (L1 ++ l.map ow0) u → (GD u → GD σ) → Q (.inl (some (.inl 0))) u) : ∀ (f q : Nat) (τ : mmS), 1310 ≤ f + q → b0 ≤ q ∨ ¬ GD σ → q < 2 ^ 30 → SM T g A0 r0 NG b h A m e r τ i → PM c n RQ (L1 ++ ((l.take (q - b0)).map ow0 ++ (l.drop (q - b0)).map ow1)) τ → (GD τ ↔ GD σ) → mm_W mt3039 (MC d) Q (173, [some (.inr (.inr (3, a))), some (.inl v1), some (.inl v2), some (.inl v3), some (.inl (nI q))], []) τ := by
  intro f
  have fin : ∀ (q : Nat) (τ : mmS), b0 ≤ q ∨ ¬ GD σ → SM T g A0 r0 NG b h A m e r τ i → PM c n RQ (L1 ++ ((l.take (q - b0)).map ow0 ++ (l.drop (q - b0)).map ow1)) τ → (GD τ ↔ GD σ) → (∀ rq ni o, prR rq ni o τ → o.length ≤ q) → Q (.inl (some (.inl 0))) τ := fun q τ hq s0 p hg ho => by
    refine kk τ s0 ?_ hg.1
    by_cases gd : GD τ
    · obtain ⟨rq, ni, o, z1, z2, z3⟩ := id p
      have h3 := z3 gd
      have hl := ho rq ni o z1
      have e := congrArg List.length h3.2.2.2.2
      rw [List.length_map, List.length_append, List.length_append, List.length_map, List.length_map, List.length_take, List.length_drop] at e
      have hL1 := hlen.resolve_right (fun z => z (hg.1 gd))
      have : l.length ≤ q - b0 := by
        rcases hq with hq | hq
        · omega
        · exact absurd (hg.1 gd) hq
      refine p.rw fun _ => ⟨rfl, ?_, Nat.le_refl _⟩
      rw [List.take_of_length_le this, List.drop_of_length_le this, List.map_nil, List.append_nil]
    · obtain ⟨rq, ni, o, z1, z2, z3⟩ := p
      exact ⟨rq, ni, o, z1, z2, fun z => absurd z gd⟩
  induction f with
  | zero =>
    intro q τ hf hb hq s0 p hg
    obtain ⟨rq, ni, o, z1, z2, z3⟩ := id p
    refine b3039_173 _ _ _ _ _ _ _ _ ⟨s0.hr, br_n (fun z => ?_) (fin q τ hb s0 p hg (fun rq' ni' o' y => ?_))⟩
    · rw [z1.2.2.1] at z
      have := (nI_lt_iff (by omega) (by omega)).mp z
      omega
    · have h1 := y.2.2.1
      rw [z1.2.2.1] at h1
      have hy := y.2.2.2.1
      have n9 : mm_n τ 219 ≤ 10600 := s0.ci.2.2.2.2.2.2.1.2.2.2.2.2.2.2.2.2
      have := nI_inj (by omega) (by omega) h1
      omega
  | succ f ih =>
    intro q τ hf hb hq s0 p hg
    obtain ⟨rq, ni, o, z1, z2, z3⟩ := id p
    have n9 : mm_n τ 219 ≤ 10600 := s0.ci.2.2.2.2.2.2.1.2.2.2.2.2.2.2.2.2
    refine b3039_173 _ _ _ _ _ _ _ _ ⟨s0.hr, br_p (fun z => ⟨s0.hr, ?_⟩) (fun z => fin q τ hb s0 p hg (fun rq' ni' o' y => ?_))⟩
    · rw [z1.2.2.1] at z
      have hlt := (nI_lt_iff (by omega) (by omega)).mp z
      have hl := z1.2.2.2.1
      rw [nI_4, show nI (4 * q) + 1 = nI (4 * q + 1) from nI_add _ 1]
      refine wr (σ := τ) (n := mm_n τ 219) rfl (by omega) (by omega) ?_
      rw [nI_1]
      have pg : pgR τ (mm_seta τ 219 (4 * q + 1) v3) := pgR.seta (s := 219) rfl
      refine ih (q + 1) _ (by omega) (hb.imp (fun h => by omega) id) (by omega) (s0.pg pg (s0.ci.seta rfl)) ?_ hg
      have el : (o.set q ((o[q]).1, v3, (o[q]).2.2)).length = o.length := List.length_set
      refine ⟨rq, ni, o.set q ((o[q]).1, v3, (o[q]).2.2), ⟨⟨z1.1.1, z1.1.2.1, fun j hj => by rw [a_seta_n (by decide)]; exact z1.1.2.2 j hj⟩, z1.2.1, by rw [el]; exact z1.2.2.1, by rw [el]; exact hl, fun j hj => ?_⟩, ⟨z2.1, z2.2.1, by rw [el]; exact z2.2.2⟩, fun gd => ?_⟩
      · rw [el] at hj
        have e0 := z1.2.2.2.2 j hj
        by_cases cj : j = q
        · subst cj
          rw [List.getElem_set_self]
          exact ⟨by rw [a_seta_i (by omega)]; exact e0.1, a_seta_s, by rw [a_seta_i (by omega)]; exact e0.2.2⟩
        · rw [List.getElem_set_ne (by omega)]
          exact ⟨by rw [a_seta_i (by omega)]; exact e0.1, by rw [a_seta_i (by omega)]; exact e0.2.1, by rw [a_seta_i (by omega)]; exact e0.2.2⟩
      · have h3 := z3 gd
        have hb2 : b0 ≤ q := hb.resolve_right (fun z => z (hg.1 gd))
        refine ⟨h3.1, h3.2.1, h3.2.2.1, by rw [el]; exact h3.2.2.2.1, ?_⟩
        have hL1 := hlen.resolve_right (fun z => z (hg.1 gd))
        have e := h3.2.2.2.2
        have eL := congrArg List.length e
        rw [List.length_map, List.length_append, List.length_append, List.length_map, List.length_map, List.length_take, List.length_drop] at eL
        have hk : q - b0 < l.length := by omega
        have e1 : q + 1 - b0 = (q - b0) + 1 := by omega
        rw [List.map_set, e, e1, List.take_add_one, List.getElem?_eq_getElem hk, List.map_append, List.drop_eq_getElem_cons hk]
        have hL : (L1 ++ ((l.take (q - b0)).map ow0)).length = q := by
          rw [List.length_append, List.length_map, List.length_take]; omega
        have hq1 : o[q] = o[q] := rfl
        have e2 : tdm (o[q]) = ow1 l[q - b0] := by
          have : (o.map tdm)[q]? = some (tdm (o[q])) := by rw [List.getElem?_map, List.getElem?_eq_getElem hlt]; rfl
          rw [e, ← List.append_assoc, List.getElem?_append_right (by rw [hL]; exact Nat.le_refl _), hL, Nat.sub_self, List.drop_eq_getElem_cons hk] at this
          simp only [List.map_cons, List.getElem?_cons_zero, Option.some.injEq] at this
          exact this.symm
        have e3 : tdm ((o[q]).1, v3, (o[q]).2.2) = ow0 l[q - b0] := by
          have h1 : (o[q]).1 = (l[q - b0]).1 := congrArg (·.1) e2
          have h2 : (o[q]).2.2 = (l[q - b0]).2 := congrArg (·.2.2) e2
          show ((o[q]).1, decide (v3 < 0), (o[q]).2.2) = _
          rw [h1, h2, decide_eq_false (hv (hg.1 gd))]; rfl
        rw [e3, ← List.append_assoc, List.set_append_right _ _ (by rw [hL]; exact Nat.le_refl _), hL, Nat.sub_self]
        simp only [List.map_cons, List.set_cons_zero, Option.toList, List.map_nil, List.append_assoc, List.cons_append, List.nil_append]
    · rw [z1.2.2.1] at z
      have h1 := y.2.2.1
      rw [z1.2.2.1] at h1
      have hy := y.2.2.2.1
      have hl := z1.2.2.2.1
      have e9 := nI_inj (by omega) (by omega) h1
      rcases Nat.lt_or_ge q o.length with c1 | c1
      · exact absurd ((nI_lt_iff (by omega) (by omega)).mpr c1) z
      · omega
end EXP
