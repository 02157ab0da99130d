/-! PHASE 3. declare() -/
theorem c_declare {T : sT} {d a : Nat} {n r : Int32} {L : hC} {b : Nat} {σ : mmS} {R : Nat → List Nat} {V : mmS → Prop} {X : Nat → mmS → Prop} (hd : 4 ≤ d) (tk : Tk T σ) (hst : stru σ R) (hr : rsN σ) (hp : path σ R L (mm_f σ 346) b) (ho : h_ok L = true) (hlen : fN σ 325 + L.length ≤ 130000)
    (hup : ∀ x t, L = x :: t → x.1 = 2 ∨ x.1 = 7 → t ≠ [])
    (hg : ∀ u R2 L2, DV T σ R b (hl L) u R2 → (mm_f u 303 = mm_f σ 303 ∧ mm_f u 311 = mm_f σ 311) → h_dec (cls r) n L = some L2 → path u R2 L2 (mm_f σ 346) b → V u)
    (hb : ∀ u R2 L2, DV T σ R b (hl L) u R2 → (mm_f u 303 = 1 ∧ mm_f u 311 = nI (t_e T)) → h_dec (cls r) n L = none → path u R2 L2 (mm_f σ 346) b → V u) :
    mm_cv (MC d) 3029 [.inr (.inr (3, a)), .inl n, .inl r] σ V X := by
  obtain ⟨d, rfl, hd⟩ := mc_pos hd
  refine mc_cv (P := mt3029) (L := 5) rfl rfl ⟨by decide, Nat.le_of_ble_eq_true rfl⟩ fun Q hK hX => b3029_0 _ _ _ _ _ _ _ _ ?_
  have bad : n_bad n = true → mm_W mt3029 (MC d) Q (17, [some (.inr (.inr (3, a))), some (.inl n), some (.inl r), none, none], []) (fl T σ) := fun z => by
    have e : h_dec (cls r) n L = none := by rw [h_dec, z]; rfl
    have e46 : mm_f (fl T σ) 346 = mm_f σ 346 := fl_f (by decide) (by decide)
    have go : ∀ u R2 L2, DV T (fl T σ) R b (hl L) u R2 → ((mm_f u 303 = mm_f (fl T σ) 303 ∧ mm_f u 311 = mm_f (fl T σ) 311) ∨ (mm_f u 303 = 1 ∧ mm_f u 311 = nI (t_e T))) → path u R2 L2 (mm_f σ 346) b → Q (.inl none) u := fun u R2 L2 h1 h2 h3 => by
      refine hK _ (hb u R2 L2 (((DV_fl (c := 0) hst hr).trans h1 (Nat.le_refl _)).cast' (by omega)) ?_ e h3)
      rcases h2 with h2 | h2
      · exact ⟨by rw [h2.1]; exact fl_flags.1, by rw [h2.2]; exact fl_flags.2⟩
      · exact h2
    exact dec_17 (by omega) (Tk_fl tk) (stru_fl hst) hr (by rw [e46]; exact path_fl hp) ho (by rw [fl_fN (by decide) (by decide)]; exact hlen) hup (fun u R2 L2 h1 h2 _ h4 => go u R2 L2 h1 (Or.inl h2) (by rw [e46] at h4; exact h4)) (fun u R2 L2 h1 h2 _ h4 => go u R2 L2 h1 (Or.inr h2) (by rw [e46] at h4; exact h4))
  refine br_p (fun c => c_fail (by omega) tk ⟨rfl, bad (by simp [n_bad, c])⟩) (fun c => br_p (fun c2 => c_fail (by omega) tk ⟨rfl, bad (by simp [n_bad, c2])⟩) (fun c2 => ?_))
  have z : n_bad n = false := by simp [n_bad, c, c2]
  exact dec_17 (by omega) tk hst hr hp ho hlen hup (fun u R2 L2 h1 h2 h3 h4 => hK _ (hg u R2 L2 h1 h2 (by rw [h_dec, z]; exact h3) h4)) (fun u R2 L2 h1 h2 h3 h4 => hK _ (hb u R2 L2 h1 h2 (by rw [h_dec, z]; exact h3) h4))
