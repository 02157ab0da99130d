/-! PHASE 3. A pattern while it is read -/
/-- the pattern's node n has the elements l so far, the last one is tl -/
def patG (D lo : Nat) (n tl : Int32) (nm : List Int32) (u : mmS) : Prop := ∃ k l, n = nI k ∧ lo ≤ k ∧ k < fN u 315 ∧ (mm_a u 316 k = 50 ∨ mm_a u 316 k = 51) ∧ mm_a u 322 k = 0 ∧ rwN u l (mm_a u 317 k) ∧ (∀ y ∈ l, elN D u (k + 1) y) ∧ (l.map (·.1)).Pairwise (· < ·) ∧ ((l = [] ∧ tl = 0) ∨ ∃ l0 z, l = l0 ++ [z] ∧ tl = nI z.1 ∧ mm_a u 322 z.1 = 0) ∧ nm = l.flatMap (·.2)
theorem rwN_snoc {u v : mmS} {z y : Nat × List Int32} (h1 : mm_a v 322 z.1 = nI y.1) (h0 : mm_a v 322 y.1 = 0) : ∀ {l : List (Nat × List Int32)} {x : Int32}, (∀ w ∈ l, mm_a v 322 w.1 = mm_a u 322 w.1) → rwN u (l ++ [z]) x → rwN v (l ++ [z] ++ [y]) x
  | [], x, _, h => ⟨h.1, h1, h0⟩
  | w :: t, x, hs, h => ⟨h.1, by rw [hs w List.mem_cons_self]; exact rwN_snoc h1 h0 (fun q hq => hs q (List.mem_cons_of_mem _ hq)) h.2⟩
theorem elN_keep {D : Nat} {u v : mmS} {lo : Nat} {y : Nat × List Int32} (h : elN D u lo y) (hn : fN u 315 ≤ fN v 315) (hr : ∀ s, s = 316 ∨ s = 317 → ∀ j, lo ≤ j → j ≤ y.1 → mm_a v s j = mm_a u s j) (h2 : ∀ s, 316 ≤ s → s ≤ 323 → ∀ j, lo ≤ j → j < y.1 → mm_a v s j = mm_a u s j) : elN D v lo y := by
  obtain ⟨h1, h3, h4⟩ := h
  refine ⟨h1, by omega, ?_⟩
  rw [hr 316 (Or.inl rfl) y.1 h1 (Nat.le_refl _), hr 317 (Or.inr rfl) y.1 h1 (Nat.le_refl _)]
  rcases h4 with h4 | ⟨w, j, f, j1, j2⟩
  · exact Or.inl h4
  · exact Or.inr ⟨w, j, f, j1, tlR_same (Nat.le_refl _) (Nat.le_refl _) h2 _ _ f _ _ _ _ (Nat.le_refl _) (Nat.le_refl _) j2⟩
theorem patG.mono {D lo : Nat} {n tl : Int32} {nm : List Int32} {u v : mmS} (h : patG D lo n tl nm u) (h1 : 1 ≤ lo) (f : Fr (th u) u v) (gd : GD v) : patG D lo n tl nm v := by
  obtain ⟨k, l, k1, k2, k3, k4, k5, k6, k7, k8, k9, k11⟩ := h
  have fn := f.nn
  have fg := (f.2.2.2.2.2.2.2 gd).2.1
  have e (s : Nat) (s1 : 316 ≤ s) (s2 : s ≤ 323) (j : Nat) (j1 : 1 ≤ j) (j2 : j < fN u 315) : mm_a v s j = mm_a u s j := fg s s1 s2 j j1 j2
  refine ⟨k, l, k1, k2, by omega, by rw [e 316 (by decide) (by decide) k (by omega) k3]; exact k4, by rw [e 322 (by decide) (by decide) k (by omega) k3]; exact k5, ?_, fun y hy => ?_, k8, ?_, k11⟩
  · rw [e 317 (by decide) (by decide) k (by omega) k3]
    exact rwN_same (fun y hy => e 322 (by decide) (by decide) y.1 (by have := (k7 y hy).1; omega) (k7 y hy).2.1) k6
  · have hy1 := k7 y hy
    exact elN_keep hy1 fn (fun s hs j j1 j2 => e s (by omega) (by omega) j (by omega) (by have := hy1.2.1; omega)) (fun s s1 s2 j j1 j2 => e s s1 s2 j (by omega) (by have := hy1.2.1; omega))
  · rcases k9 with k9 | ⟨l0, z, z1, z2, z3⟩
    · exact Or.inl k9
    · have hz := k7 z (by rw [z1]; simp)
      exact Or.inr ⟨l0, z, z1, z2, by rw [e 322 (by decide) (by decide) z.1 (by have := hz.1; omega) hz.2.1]; exact z3⟩
theorem elN_lo {D : Nat} {u : mmS} {lo lo' : Nat} {y : Nat × List Int32} (h : elN D u lo y) (l : lo' ≤ lo) : elN D u lo' y := by
  obtain ⟨h1, h3, h4⟩ := h
  refine ⟨by omega, h3, ?_⟩
  rcases h4 with h4 | ⟨w, j, f, j1, j2⟩
  · exact Or.inl h4
  · exact Or.inr ⟨w, j, f, j1, tlR_same l (Nat.le_refl _) (fun _ _ _ _ _ _ => rfl) _ _ f _ _ _ _ (Nat.le_refl _) (Nat.le_refl _) j2⟩
/-- the first element -/
theorem patG.add0 {D lo k : Nat} {n : Int32} {nm : List Int32} {u : mmS} {y : Nat × List Int32} (h : patG D lo n 0 nm u) (hb : fN u 315 ≤ 85000) (hk : n = nI k) (hkb : k < fN u 315) (hy : elN D u (k + 1) y) (h0 : mm_a u 322 y.1 = 0) : patG D lo n (nI y.1) (nm ++ y.2) (mm_seta u 317 k (nI y.1)) := by
  obtain ⟨k', l, k1, k2, k3, k4, k5, k6, k7, k8, k9, k11⟩ := h
  have : k' = k := nI_inj (by omega) (by omega) (k1.symm.trans hk)
  subst this
  have hl : l = [] := by
    rcases k9 with k9 | ⟨l0, z, z1, z2, z3⟩
    · exact k9.1
    · have hm := k7 z (by rw [z1]; simp)
      exact absurd z2.symm (nI_ne0 (by have := hm.1; omega) (by have := hm.2.1; omega))
  subst hl
  have a (s j : Nat) (h : s ≠ 317 ∨ j ≠ k') : mm_a (mm_seta u 317 k' (nI y.1)) s j = mm_a u s j := by
    rcases h with h | h
    · rw [a_seta_n h]
    · rw [a_seta_i h]
  have y0 : mm_a (mm_seta u 317 k' (nI y.1)) 322 y.1 = 0 := by rw [a 322 y.1 (Or.inl (by decide))]; exact h0
  refine ⟨k', [y], k1, k2, k3, by rw [a 316 k' (Or.inl (by decide))]; exact k4, by rw [a 322 k' (Or.inl (by decide))]; exact k5, ⟨a_seta_s, y0⟩, fun z hz => ?_, by simp, Or.inr ⟨[], y, rfl, rfl, y0⟩, by rw [k11]; simp⟩
  rw [List.mem_singleton.mp hz]
  exact elN_keep hy (Nat.le_refl _) (fun s hs j j1 j2 => a s j (Or.inr (by omega))) (fun s s1 s2 j j1 j2 => a s j (Or.inr (by omega)))
/-- a further one -/
theorem patG.add1 {D lo k t ly : Nat} {n tl : Int32} {nm : List Int32} {u : mmS} {y : Nat × List Int32} (h : patG D lo n tl nm u) (hb : fN u 315 ≤ 85000) (hk : n = nI k) (hkb : k < fN u 315) (ht : tl = nI t) (htb : t < fN u 315) (ht0 : ¬ tl = 0) (hy : elN D u ly y) (hly : t < ly) (h0 : mm_a u 322 y.1 = 0) : patG D lo n (nI y.1) (nm ++ y.2) (mm_seta u 322 t (nI y.1)) := by
  obtain ⟨k', l, k1, k2, k3, k4, k5, k6, k7, k8, k9, k11⟩ := h
  have : k' = k := nI_inj (by omega) (by omega) (k1.symm.trans hk)
  subst this
  rcases k9 with k9 | ⟨l0, z, z1, z2, z3⟩
  · exact absurd k9.2 ht0
  subst z1
  have hzm := k7 z (by simp)
  have hzt : z.1 = t := nI_inj (by have := hzm.2.1; omega) (by omega) (z2.symm.trans ht)
  subst hzt
  have a (s j : Nat) (h : s ≠ 322 ∨ j ≠ z.1) : mm_a (mm_seta u 322 z.1 (nI y.1)) s j = mm_a u s j := by
    rcases h with h | h
    · rw [a_seta_n h]
    · rw [a_seta_i h]
  have hyl := hy.1
  have lt : ∀ x ∈ l0, x.1 < z.1 := fun x hx => by
    rw [List.map_append, List.pairwise_append] at k8
    exact k8.2.2 x.1 (List.mem_map_of_mem hx) z.1 (by simp)
  have hzk := hzm.1
  have y0 : mm_a (mm_seta u 322 z.1 (nI y.1)) 322 y.1 = 0 := by rw [a 322 y.1 (Or.inr (by omega))]; exact h0
  refine ⟨k', l0 ++ [z] ++ [y], k1, k2, k3, by rw [a 316 k' (Or.inl (by decide))]; exact k4, by rw [a 322 k' (Or.inr (by omega))]; exact k5, ?_, fun x hx => ?_, ?_, Or.inr ⟨l0 ++ [z], y, rfl, rfl, y0⟩, by rw [k11]; simp⟩
  · rw [a 317 k' (Or.inl (by decide))]
    exact rwN_snoc a_seta_s y0 (fun w hw => a 322 w.1 (Or.inr (by have := lt w hw; omega))) k6
  · rw [List.mem_append] at hx
    rcases hx with hx | hx
    · have hx1 := k7 x hx
      have : x.1 ≤ z.1 := by
        rw [List.mem_append] at hx
        rcases hx with hx | hx
        · exact Nat.le_of_lt (lt x hx)
        · rw [List.mem_singleton.mp hx]; exact Nat.le_refl _
      exact elN_keep hx1 (Nat.le_refl _) (fun s hs j j1 j2 => a s j (Or.inl (by omega))) (fun s s1 s2 j j1 j2 => a s j (Or.inr (by omega)))
    · rw [List.mem_singleton.mp hx]
      exact elN_lo (elN_keep hy (Nat.le_refl _) (fun s hs j j1 j2 => a s j (Or.inl (by omega))) (fun s s1 s2 j j1 j2 => a s j (Or.inr (by omega)))) (by omega)
  · rw [List.map_append, List.pairwise_append]
    refine ⟨k8, by simp, fun x hx q hq => ?_⟩
    rw [List.mem_map] at hx
    obtain ⟨x', hx', rfl⟩ := hx
    have hq : q = y.1 := by simpa using hq
    rw [hq]
    rw [List.mem_append] at hx'
    rcases hx' with hx' | hx'
    · have := lt x' hx'; omega
    · rw [List.mem_singleton.mp hx']; omega
