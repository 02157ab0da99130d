/-! PHASE 3. A declaration: the scope above asked, for a body or a catch's block -/
theorem dec_260 {T : sT} {d a : Nat} {n r w : Int32} {w4 : Option mmV} {x3 : Int32} {es : List (Nat × Int32)} {t : hC} {k b : Nat} {σ : mmS} {R : Nat → List Nat} {Q : mmQ} (hd : 3 ≤ d) (tk : Tk T σ) (hst : stru σ R) (hr : rsN σ) (hlen : fN σ 325 + (t.length + 1) ≤ 130000) (hk : mm_f σ 346 = nI k) (kb : k < b) (ks : k < fN σ 324) (pw : mm_a σ 327 k = w) (pe : ens σ (R k) = es) (pt : path σ R t (mm_a σ 326 k) k)
    (hup : w = 2 ∨ w = 7 → t ≠ [])
    (hy : ((w == 2 || w == 7) && h_has t n) = false → ∀ u R2, DV T σ R b (hl ((w, es) :: t)) u R2 → (mm_f u 303 = mm_f σ 303 ∧ mm_f u 311 = mm_f σ 311) → path u R2 ((w, es ++ [(cls r, n)]) :: t) (nI k) b → Q (.inl none) u)
    (hn : ((w == 2 || w == 7) && h_has t n) = true → ∀ u R2, DV T σ R b (hl ((w, es) :: t)) u R2 → (mm_f u 303 = 1 ∧ mm_f u 311 = nI (t_e T)) → path u R2 ((w, es ++ [(cls r, n)]) :: t) (nI k) b → Q (.inl none) u) :
    mm_W mt3029 (MC d) Q (260, [some (.inr (.inr (3, a))), some (.inl n), some (.inl r), some (.inl x3), w4], []) σ := by
  have s1 := hst.1.2.1
  have s4 := hst.1.2.2.2.1
  refine b3029_260 _ _ _ _ _ _ _ _ ?_
  rw [hk]
  refine rd (hst.1.2.2.2.2 327 (by decide) (by decide)) (by omega) (by omega) ?_
  rw [pw]
  refine br_p (fun c => ?_) (fun c => ?_)
  · have c7 : (w == 7) = false := by rw [c]; decide
    refine rd rfl (by omega) (by omega) ?_
    match t, hup (Or.inl c), pt, hy, hn, hlen with
    | y :: t', _, pt, hy, hn, hlen =>
      obtain ⟨j, pj, jk, js, q1, q2, q3⟩ := id pt
      rw [pj]
      have eh : ((w == 2 || w == 7) && h_has (y :: t') n) = (h_find y.2 n).isSome := by rw [c]; rfl
      refine c_find (by omega) hst js (fun q => br_y (by decide) ?_) (fun z hz q => br_n (nI_pos (by have := (hst.2.2.1 j js).2.2.1 z hz; have := hst.2.1.2.1; have := hst.2.1.2.2.2.1; omega)) (c_fail (by omega) tk ⟨rfl, ?_⟩))
      · rw [q2] at q
        exact dec_295 (w3 := none) hd tk hst hr hlen hk kb ks pw pe pt (fun z => List.cons_ne_nil _ _) (fun _ u R2 h1 h2 h3 => hy (by rw [eh, q]; rfl) u R2 h1 h2 h3) (fun z => by rw [c7, Bool.false_and] at z; cases z)
      · rw [q2] at q
        refine dec_295 (σ := fl T σ) (w3 := none) (w := w) (es := es) (t := y :: t') (b := b) hd (Tk_fl tk) (stru_fl hst) hr (by rw [fl_fN (by decide) (by decide)]; exact hlen) (by rw [fl_f (by decide) (by decide)]; exact hk) kb (by rw [fl_fN (by decide) (by decide)]; exact ks) pw pe (path_fl pt) (fun z => List.cons_ne_nil _ _)
          (fun _ u R2 h1 h2 h3 => hn (by rw [eh, q]; rfl) u R2 (((DV_fl (c := 0) hst hr).trans h1 (Nat.le_refl _)).cast' (by omega)) ⟨by rw [h2.1]; exact fl_flags.1, by rw [h2.2]; exact fl_flags.2⟩ h3) (fun z => by rw [c7, Bool.false_and] at z; cases z)
  · have c2 : (w == 2) = false := beq_eq_false_iff_ne.mpr c
    exact dec_295 (w3 := none) hd tk hst hr hlen hk kb ks pw pe pt (fun z => hup (Or.inr z)) (fun z u R2 h1 h2 h3 => hy (by rw [c2, Bool.false_or]; exact z) u R2 h1 h2 h3) (fun z u R2 h1 h2 h3 => hn (by rw [c2, Bool.false_or]; exact z) u R2 h1 h2 h3)
theorem dec_239 {T : sT} {d a : Nat} {n r w : Int32} {w4 : Option mmV} {x3 : Int32} {es : List (Nat × Int32)} {t : hC} {k b : Nat} {σ : mmS} {R : Nat → List Nat} {Q : mmQ} (hd : 3 ≤ d) (tk : Tk T σ) (hst : stru σ R) (hr : rsN σ) (hlen : fN σ 325 + (t.length + 1) ≤ 130000) (hk : mm_f σ 346 = nI k) (kb : k < b) (ks : k < fN σ 324) (pw : mm_a σ 327 k = w) (pe : ens σ (R k) = es) (pt : path σ R t (mm_a σ 326 k) k)
    (hup : w = 2 ∨ w = 7 → t ≠ []) (hx : (x3 < 0 ∧ h_find es n = none) ∨ (¬ x3 < 0 ∧ (h_find es n).isSome = true))
    (hy : ((h_find es n).isSome || h_pass es n || ((w == 2 || w == 7) && h_has t n)) = false → ∀ u R2, DV T σ R b (hl ((w, es) :: t)) u R2 → (mm_f u 303 = mm_f σ 303 ∧ mm_f u 311 = mm_f σ 311) → path u R2 ((w, es ++ [(cls r, n)]) :: t) (nI k) b → Q (.inl none) u)
    (hn : ((h_find es n).isSome || h_pass es n || ((w == 2 || w == 7) && h_has t n)) = true → ∀ u R2, DV T σ R b (hl ((w, es) :: t)) u R2 → (mm_f u 303 = 1 ∧ mm_f u 311 = nI (t_e T)) → path u R2 ((w, es ++ [(cls r, n)]) :: t) (nI k) b → Q (.inl none) u) :
    mm_W mt3029 (MC d) Q (239, [some (.inr (.inr (3, a))), some (.inl n), some (.inl r), some (.inl x3), w4], []) σ := by
  have bad : ((h_find es n).isSome || h_pass es n) = true → mm_W mt3029 (MC d) Q (260, [some (.inr (.inr (3, a))), some (.inl n), some (.inl r), some (.inl x3), w4], []) (fl T σ) := fun z => by
    have hz : ∀ x, ((h_find es n).isSome || h_pass es n || x) = true := fun x => by rw [z]; rfl
    have go : ∀ u R2, DV T (fl T σ) R b (hl ((w, es) :: t)) u R2 → ((mm_f u 303 = mm_f (fl T σ) 303 ∧ mm_f u 311 = mm_f (fl T σ) 311) ∨ (mm_f u 303 = 1 ∧ mm_f u 311 = nI (t_e T))) → path u R2 ((w, es ++ [(cls r, n)]) :: t) (nI k) b → Q (.inl none) u := fun u R2 h1 h2 h3 => by
      refine hn (hz _) u R2 (((DV_fl (c := 0) hst hr).trans h1 (Nat.le_refl _)).cast' (by omega)) ?_ h3
      rcases h2 with h2 | h2
      · exact ⟨by rw [h2.1]; exact fl_flags.1, by rw [h2.2]; exact fl_flags.2⟩
      · exact h2
    exact dec_260 (σ := fl T σ) hd (Tk_fl tk) (stru_fl hst) hr (by rw [fl_fN (by decide) (by decide)]; exact hlen) (by rw [fl_f (by decide) (by decide)]; exact hk) kb (by rw [fl_fN (by decide) (by decide)]; exact ks) pw pe (path_fl pt) hup
      (fun _ u R2 h1 h2 h3 => go u R2 h1 (Or.inl h2) h3) (fun _ u R2 h1 h2 h3 => go u R2 h1 (Or.inr h2) h3)
  refine b3029_239 _ _ _ _ _ _ _ _ ?_
  rcases hx with ⟨hx, hf⟩ | ⟨hx, hf⟩
  · refine br_y hx ?_
    rw [hk]
    refine c_passes (by omega) hst ks ?_
    rw [pe]
    refine br_0 (fun hp => ?_) (fun hp => c_fail (by omega) tk ⟨rfl, bad (by rw [hp, Bool.or_true])⟩)
    exact dec_260 hd tk hst hr hlen hk kb ks pw pe pt hup (fun z u R2 h1 h2 h3 => hy (by rw [hf, hp, z]; rfl) u R2 h1 h2 h3) (fun z u R2 h1 h2 h3 => hn (by rw [hf, hp, z]; rfl) u R2 h1 h2 h3)
  · exact br_n hx (c_fail (by omega) tk ⟨rfl, bad (by rw [hf]; rfl)⟩)
