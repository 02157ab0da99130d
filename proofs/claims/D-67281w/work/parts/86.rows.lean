/-! PHASE 3. Rows of a pattern's elements: what tellAll finds in them -/
theorem elN_tl {D : Nat} {u : mmS} {lo : Nat} {y : Nat × List Int32} (h : elN D u lo y) (hb : fN u 315 ≤ 85000) : ∃ f, tlR u lo (fN u 315) (D + 1) f false y.1 = some y.2 := by
  obtain ⟨h1, h2, h3⟩ := h
  rcases h3 with ⟨w, e⟩ | ⟨w, j, f, j1, j2⟩
  · refine ⟨1, ?_⟩
    rw [tlR, if_pos ⟨h1, h2⟩, w, e, if_neg (by decide), if_neg (by decide), if_neg (by decide)]
  · have hj : j < y.1 := by
      cases f with
      | zero => exact nomatch j2
      | succ f =>
        rw [tlR] at j2
        by_cases c : lo ≤ j ∧ j < y.1
        · exact c.2
        · rw [if_neg c] at j2; exact nomatch j2
    have := tlR_same (lo' := lo) (hi' := fN u 315) (v := u) (Nat.le_refl _) (Nat.le_of_lt h2) (fun _ _ _ _ _ _ => rfl) D D f f _ _ _ (Nat.le_refl _) (Nat.le_refl _) j2
    refine ⟨f + 1, ?_⟩
    have n4 : ¬ mm_a u 316 y.1 = 4 := fun z => by rcases w with w | w <;> rw [w] at z <;> exact absurd z (by decide)
    rw [tlR, if_pos ⟨h1, h2⟩, if_neg n4, if_pos w, if_neg (by omega), j1, tN_nI (by omega), Nat.add_sub_cancel]
    exact this
theorem rwN_tl {D : Nat} {u : mmS} {lo : Nat} (h1 : 1 ≤ lo) (hb : fN u 315 ≤ 85000) : ∀ {l : List (Nat × List Int32)} {x : Int32}, rwN u l x → (∀ y ∈ l, elN D u lo y) → ∃ f, tlR u lo (fN u 315) (D + 1) f true (tN x) = some (l.flatMap (·.2))
  | [], x, h, _ => ⟨1, by rw [tlR, if_pos (by rw [show x = 0 from h]; rfl)]; rfl⟩
  | y :: t, x, h, he => by
    have hy := he y List.mem_cons_self
    obtain ⟨f1, e1⟩ := elN_tl hy hb
    obtain ⟨f2, e2⟩ := rwN_tl h1 hb h.2 (fun z hz => he z (List.mem_cons_of_mem _ hz))
    have hx : tN x = y.1 := by rw [h.1, tN_nI (by have := hy.2.1; omega)]
    refine ⟨f1 + f2 + 1, ?_⟩
    rw [tlR, hx, if_neg (by have := hy.1; omega), tlR_same (Nat.le_refl _) (Nat.le_refl _) (fun _ _ _ _ _ _ => rfl) _ _ f1 _ _ _ _ (Nat.le_refl _) (by omega) e1, tlR_same (Nat.le_refl _) (Nat.le_refl _) (fun _ _ _ _ _ _ => rfl) _ _ f2 _ _ _ _ (Nat.le_refl _) (by omega) e2]
    rfl
/-- one more at the end -/
theorem rwN_app {u v : mmS} {y : Nat × List Int32} : ∀ {l : List (Nat × List Int32)} {x : Int32}, l ≠ [] → (∀ z, l.getLast? = some z → mm_a v 322 z.1 = nI y.1) → (∀ z ∈ l, l.getLast? ≠ some z → mm_a v 322 z.1 = mm_a u 322 z.1) → (l.map (·.1)).Nodup → mm_a v 322 y.1 = 0 → rwN u l x → rwN v (l ++ [y]) x
  | [], _, hl, _, _, _, _, _ => absurd rfl hl
  | [z], x, _, h1, _, _, h0, h => ⟨h.1, h1 z rfl, h0⟩
  | z :: z2 :: t, x, _, h1, h2, hn, h0, h => by
    have hn2 := hn
    simp only [List.map_cons, List.nodup_cons] at hn
    refine ⟨h.1, ?_⟩
    have hz : mm_a v 322 z.1 = mm_a u 322 z.1 := by
      refine h2 z List.mem_cons_self (fun e => ?_)
      have : z ∈ z2 :: t := by
        rw [List.getLast?_cons_cons] at e
        exact List.mem_of_getLast? e
      exact hn.1 (by have := List.mem_map_of_mem (f := (·.1)) this; simpa using this)
    rw [hz]
    refine rwN_app (l := z2 :: t) (by simp) (fun w hw => h1 w (by rw [List.getLast?_cons_cons]; exact hw)) (fun w hw hne => h2 w (List.mem_cons_of_mem _ hw) (by rw [List.getLast?_cons_cons]; exact hne)) ?_ h0 h.2
    simp only [List.map_cons, List.nodup_cons]
    exact hn.2
