/-! PHASE 3. What becomes of an array, of an object -/
theorem lit_fin {T : sT} {g : Nat} {w : cW} {A : cA} {m e i k0 b hi : Nat} {c : Option Int} {τ : mmS} {K : Int32 → mmS → Prop} (hb : b ≤ hi)
    (k1 : ∀ v z, c = some z → cG T w (A.1, A.2.1 - z, A.2.2) m e v i → Fr (k0, (th τ).2) τ v → (∀ s, 316 ≤ s → s ≤ 323 → ∀ j, hi ≤ j → j < fN τ 315 → mm_a v s j = mm_a τ s j) → mm_a v 322 k0 = mm_a τ 322 k0 → K (nI k0) v)
    (k2 : ∀ n v, c = none → cB T g v → Fr (th τ) τ v → nid n v → K n v) (gd : GD τ) (n : Int32) (v : mmS) (rs : Rs T (ShA k0 b τ) nid g w m e (k0, (th τ).2) i A (s_aimc c i (fun _ j => s_r () j)) τ n v) : K n v := by
  obtain ⟨f, hr⟩ := rs
  rcases hr with ⟨x, j, B, q, e1, e2, e3, e4⟩ | ⟨e1, e2, e3⟩
  · cases c with
    | none => exact nomatch e1
    | some z =>
      unfold s_aimc at e1
      rw [run_b, run_cv] at e1
      have e5 : some ((), i, (A.1, A.2.1 - z, A.2.2)) = some (x, j, B) := by
        rw [← e1]
        simp [run, s_r, sA0, A_st, h_run]
      obtain ⟨rfl, rfl, rfl⟩ : () = x ∧ i = j ∧ (A.1, A.2.1 - z, A.2.2) = B := by
        have := Option.some.inj e5
        exact ⟨rfl, congrArg (fun y => y.2.1) this, congrArg (fun y => y.2.2) this⟩
      obtain ⟨p1, p2, p3⟩ := e3
      subst p1
      exact k1 v z rfl (e2.mono (by omega) (Nat.le_refl _)) f (fun s s1 s2 j j1 j2 => p2 s s1 s2 j (by omega) j2) p3
  · cases c with
    | none =>
      obtain ⟨f1, f2, f3, f4, f5, f6, f7, f8⟩ := f
      exact k2 n v rfl e2 ⟨f1, f2, f3, f4, f5, f6, f7, fun gd => absurd gd e2.no⟩ e3
    | some z =>
      rcases e1 with e1 | e1
      · unfold s_aimc at e1
        rw [run_b, run_cv] at e1
        exact absurd e1 (by simp [run, s_r, sA0, A_st, h_run])
      · exact absurd gd e1
theorem cv_arr {T : sT} {ν D k0 b : Nat} {tl : Int32} {l : List LE} {tr : Bool} {u : mmS} (hD : D + 6 ≤ 6 * ν + 10) (h : lsG (aE T D) 9 k0 tl l b tr u) : cvT T ν k0 k0 (cs l tr) (cq l) u := by
  intro d a g w A m e i τ K X hd hg hG hm hn hR k1 k2
  obtain ⟨h1, h2, h3, h4, h5, h6, h7, h8, h9⟩ := h
  have hk := h1.le
  obtain ⟨d, rfl, hd'⟩ := mc_pos (c := 6 * ν + 9) (by omega)
  have hcN := hG.1.2.1
  have hcap := hG.caps
  have hk0 : k0 < fN τ 315 := by omega
  have row (s : Nat) (s1 : 316 ≤ s) (s2 : s ≤ 323) (ne : s ≠ 322) : mm_a τ s k0 = mm_a u s k0 := hR s s1 s2 k0 (Nat.le_refl _) (by omega) (by omega)
  have r16 : mm_a τ 316 k0 = 9 := (row 316 (by decide) (by decide) (by decide)).trans h6
  refine mc_ci (P := mt3103) (L := 6) rfl rfl ⟨by decide, Nat.le_of_ble_eq_true rfl⟩ fun Q hK hX => b3103_0 _ _ _ _ _ _ _ _ _ (br_y hG.2.1 (c_isSimple (by omega) hcN hk0 ?_))
  rw [show r_si (mm_a τ 316 k0) (mm_a τ 317 k0) = false by rw [r16]; rfl]
  refine br_y rfl (cN_rd hcN (by decide) (by decide) hk0 (br_y ((row 323 (by decide) (by decide) (by decide)).trans h8) (cN_rd hcN (by decide) (by decide) hk0 (br_y r16 ?_))))
  have st : St T (ShA k0 b τ) nid g w m e (k0, (th τ).2) i (fun n u => Q (.inl (some (.inl n))) u) false (D + 66) w A (m + cq l) e (s_aimc (cs l tr) i (fun _ j => s_r () j)) τ i := Or.inl ⟨hG, ⟨by show k0 ≤ fN τ 315; omega, Nat.le_refl _, Nat.le_refl _, Nat.le_refl _⟩, by omega, fun n v rs => hK _ _ (lit_fin h2 k1 k2 hG.2.1 n v rs)⟩
  refine st.setn (by decide) (Or.inl (by decide)) rfl hk0 (fun _ => Nat.le_refl _) (Or.inr (Or.inr ⟨rfl, h5, by decide⟩)) (fun st2 => st2.rdn (by decide) rfl hk0 ?_)
  refine arr_loop (D := D) (τ0 := τ) (k0 := k0) (hi0 := b) (by omega) (by omega) (by omega) hm h5 (by omega) (by omega) l (k0 + 1) _ _ A _ 0 _ _ _ tr (fun _ => ⟨by omega, ?_, ?_, ⟨fun s s1 s2 j j1 j2 => a_seta_i (by omega), by rw [a_seta_n (by decide)], by rw [a_seta_n (by decide)]; exact (row 320 (by decide) (by decide) (by decide)).trans h9, Or.inl rfl⟩, Nat.le_refl _⟩) (nid_0 st2.ci) hk0 st2
  · exact h1.imp (a0 := k0 + 1) (fun k lo hi c q sp a1 a2 a3 a4 p => aE.congr _ _ _ _ _ _ _ _ p a2 a3 (fun s s1 s2 j j1 j2 _ => hR s s1 s2 j (by omega) (by omega) (by omega))) (Nat.le_refl _)
  · rw [a_seta_n (by decide), row 317 (by decide) (by decide) (by decide)]
    exact h3.congr (fun y hy => hR 322 (by decide) (by decide) _ (by have := h1.mem y hy; omega) (by have := h1.mem y hy; omega) (by have := h1.mem y hy; omega))
theorem cv_obj {T : sT} {ν D k0 b : Nat} {tl : Int32} {l : List LE} {tr : Bool} {u : mmS} (hD : D + 6 ≤ 6 * ν + 10) (h : lsG (oE T D) 10 k0 tl l b tr u) : cvT T ν k0 k0 (cs l tr) (cq l) u := by
  intro d a g w A m e i τ K X hd hg hG hm hn hR k1 k2
  obtain ⟨h1, h2, h3, h4, h5, h6, h7, h8, h9⟩ := h
  have hk := h1.le
  obtain ⟨d, rfl, hd'⟩ := mc_pos (c := 6 * ν + 9) (by omega)
  have hcN := hG.1.2.1
  have hcap := hG.caps
  have hk0 : k0 < fN τ 315 := by omega
  have row (s : Nat) (s1 : 316 ≤ s) (s2 : s ≤ 323) (ne : s ≠ 322) : mm_a τ s k0 = mm_a u s k0 := hR s s1 s2 k0 (Nat.le_refl _) (by omega) (by omega)
  have r16 : mm_a τ 316 k0 = 10 := (row 316 (by decide) (by decide) (by decide)).trans h6
  refine mc_ci (P := mt3103) (L := 6) rfl rfl ⟨by decide, Nat.le_of_ble_eq_true rfl⟩ fun Q hK hX => b3103_0 _ _ _ _ _ _ _ _ _ (br_y hG.2.1 (c_isSimple (by omega) hcN hk0 ?_))
  rw [show r_si (mm_a τ 316 k0) (mm_a τ 317 k0) = false by rw [r16]; rfl]
  refine br_y rfl (cN_rd hcN (by decide) (by decide) hk0 (br_y ((row 323 (by decide) (by decide) (by decide)).trans h8) (cN_rd hcN (by decide) (by decide) hk0 (br_n (by rw [r16]; decide) (cN_rd hcN (by decide) (by decide) hk0 (br_y r16 ?_))))))
  have st : St T (ShA k0 b τ) nid g w m e (k0, (th τ).2) i (fun n u => Q (.inl (some (.inl n))) u) false (D + 66) w A (m + cq l) e (s_aimc (cs l tr) i (fun _ j => s_r () j)) τ i := Or.inl ⟨hG, ⟨by show k0 ≤ fN τ 315; omega, Nat.le_refl _, Nat.le_refl _, Nat.le_refl _⟩, by omega, fun n v rs => hK _ _ (lit_fin h2 k1 k2 hG.2.1 n v rs)⟩
  refine st.setn (by decide) (Or.inl (by decide)) rfl hk0 (fun _ => Nat.le_refl _) (Or.inr (Or.inr ⟨rfl, h5, by decide⟩)) (fun st2 => st2.rdn (by decide) rfl hk0 ?_)
  refine obj_loop (D := D) (τ0 := τ) (k0 := k0) (hi0 := b) (by omega) (by omega) (by omega) hm h5 (by omega) (by omega) l (k0 + 1) _ _ A _ _ _ _ _ tr (fun _ => ⟨by omega, ?_, ?_, ⟨fun s s1 s2 j j1 j2 => a_seta_i (by omega), by rw [a_seta_n (by decide)], by rw [a_seta_n (by decide)]; exact (row 320 (by decide) (by decide) (by decide)).trans h9⟩, Nat.le_refl _⟩) hk0 st2
  · exact h1.imp (a0 := k0 + 1) (fun k lo hi c q sp a1 a2 a3 a4 p => oE.congr _ _ _ _ _ _ _ _ p a2 a3 (fun s s1 s2 j j1 j2 _ => hR s s1 s2 j (by omega) (by omega) (by omega))) (Nat.le_refl _)
  · rw [a_seta_n (by decide), row 317 (by decide) (by decide) (by decide)]
    exact h3.congr (fun y hy => hR 322 (by decide) (by decide) _ (by have := h1.mem y hy; omega) (by have := h1.mem y hy; omega) (by have := h1.mem y hy; omega))
