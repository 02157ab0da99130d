/-! PHASE 3. A declaration -/
theorem fl_flags {T : sT} {σ : mmS} : mm_f (fl T σ) 303 = 1 ∧ mm_f (fl T σ) 311 = nI (t_e T) := by
  constructor
  · show mm_f (mm_setf (mm_setf σ 303 1) 311 (nI (t_e T))) 303 = _
    rw [f_other (by decide), f_same]
  · show mm_f (mm_setf (mm_setf σ 303 1) 311 (nI (t_e T))) 311 = _
    rw [f_same]
theorem fl_f {T : sT} {σ : mmS} {k : Nat} (h1 : k ≠ 303) (h2 : k ≠ 311) : mm_f (fl T σ) k = mm_f σ k := by
  show mm_f (mm_setf (mm_setf σ 303 1) 311 (nI (t_e T))) k = _
  rw [f_other h2, f_other h1]
theorem fl_fN {T : sT} {σ : mmS} {k : Nat} (h1 : k ≠ 303) (h2 : k ≠ 311) : fN (fl T σ) k = fN σ k := by
  unfold fN; rw [fl_f h1 h2]
/-- the end: the name is added to the scope that is here -/
theorem dec_add {T : sT} {d a : Nat} {n r w : Int32} {es : List (Nat × Int32)} {t : hC} {k b : Nat} {σ : mmS} {R : Nat → List Nat} {K : Int32 → mmS → Prop} {X : Nat → mmS → Prop} (hd : 3 ≤ d) (hst : stru σ R) (hr : rsN σ) (hlen : fN σ 325 + (t.length + 1) ≤ 130000) (kb : k < b) (ks : k < fN σ 324) (pw : mm_a σ 327 k = w) (pe : ens σ (R k) = es) (pt : path σ R t (mm_a σ 326 k) k)
    (hV : ∀ u R2, DV T σ R b (hl ((w, es) :: t)) u R2 → (mm_f u 303 = mm_f σ 303 ∧ mm_f u 311 = mm_f σ 311) → path u R2 ((w, es ++ [(cls r, n)]) :: t) (nI k) b → ∀ x, K x u) :
    mm_ci (MC d) 3033 [.inr (.inr (3, a)), .inl (nI k), .inl n, .inl r] σ K X := by
  refine c_add hd hst ks (by omega) (hr.use hst.2.1).1 (hr.use hst.2.1).2 (fun u au => ?_)
  have dv := DV.add (T := T) hr kb au
  exact hV u _ (dv.mono hl_pos) ⟨au.2.2.1 303 (by decide), au.2.2.1 311 (by decide)⟩ (path_top au kb ks pw pe pt) _
theorem dec_295 {T : sT} {d a : Nat} {n r w : Int32} {w3 w4 : Option mmV} {x3 : Int32} {es : List (Nat × Int32)} {t : hC} {k b : Nat} {σ : mmS} {R : Nat → List Nat} {Q : mmQ} (hd : 3 ≤ d) (tk : Tk T σ) (hst : stru σ R) (hr : rsN σ) (hlen : fN σ 325 + (t.length + 1) ≤ 130000) (hk : mm_f σ 346 = nI k) (kb : k < b) (ks : k < fN σ 324) (pw : mm_a σ 327 k = w) (pe : ens σ (R k) = es) (pt : path σ R t (mm_a σ 326 k) k)
    (hup : w = 7 → t ≠ [])
    (hy : (w == 7 && h_has t n) = false → ∀ u R2, DV T σ R b (hl ((w, es) :: t)) u R2 → (mm_f u 303 = mm_f σ 303 ∧ mm_f u 311 = mm_f σ 311) → path u R2 ((w, es ++ [(cls r, n)]) :: t) (nI k) b → Q (.inl none) u)
    (hn : (w == 7 && h_has t n) = true → ∀ u R2, DV T σ R b (hl ((w, es) :: t)) u R2 → (mm_f u 303 = 1 ∧ mm_f u 311 = nI (t_e T)) → path u R2 ((w, es ++ [(cls r, n)]) :: t) (nI k) b → Q (.inl none) u) :
    mm_W mt3029 (MC d) Q (295, [some (.inr (.inr (3, a))), some (.inl n), some (.inl r), some (.inl x3), w4], []) σ := by
  have s1 := hst.1.2.1
  have s4 := hst.1.2.2.2.1
  refine b3029_295 _ _ _ _ _ _ _ _ ?_
  rw [hk]
  refine rd (hst.1.2.2.2.2 327 (by decide) (by decide)) (by omega) (by omega) ?_
  rw [pw]
  refine br_p (fun c => ?_) (fun c => ?_)
  · refine rd rfl (by omega) (by omega) ?_
    match t, hup c, pt, hy, hn, hlen with
    | y :: t', _, pt, hy, hn, hlen =>
      obtain ⟨j, pj, jk, js, q1, q2, q3⟩ := id pt
      rw [pj]
      have eh : (w == 7 && h_has (y :: t') n) = (h_find y.2 n).isSome := by rw [c]; rfl
      refine c_find (by omega) hst js (fun q => br_y (by decide) ?_) (fun z hz q => br_n (nI_pos (by have := (hst.2.2.1 j js).2.2.1 z hz; have := hst.2.1.2.1; have := hst.2.1.2.2.2.1; omega)) (c_fail (by omega) tk ⟨rfl, ?_⟩))
      · rw [hk]
        rw [q2] at q
        exact dec_add (w := w) (es := es) (t := y :: t') hd hst hr hlen kb ks pw pe pt (fun u R2 h1 h2 h3 x => ⟨rfl, hy (by rw [eh, q]; rfl) u R2 h1 h2 h3⟩)
      · rw [q2] at q
        have e46 : mm_f (fl T σ) 346 = nI k := by rw [fl_f (by decide) (by decide)]; exact hk
        show mm_I (MC d) Q 3033 [.inr (.inr (3, a)), .inl (mm_f (fl T σ) 346), .inl n, .inl r] (fl T σ) _
        rw [e46]
        refine dec_add (w := w) (es := es) (t := y :: t') (b := b) hd (stru_fl hst) hr (by rw [fl_fN (by decide) (by decide)]; exact hlen) kb (by rw [fl_fN (by decide) (by decide)]; exact ks) pw pe (path_fl pt) (fun u R2 h1 h2 h3 x => ⟨rfl, hn (by rw [eh, q]; rfl) u R2 (((DV_fl (c := 0) hst hr).trans h1 (Nat.le_refl _)).cast' (by omega)) ⟨by rw [h2.1]; exact fl_flags.1, by rw [h2.2]; exact fl_flags.2⟩ h3⟩)
  · exact dec_add (w := w) (es := es) (t := t) hd hst hr hlen kb ks pw pe pt (fun u R2 h1 h2 h3 x => ⟨rfl, hy (by rw [show (w == 7) = false from beq_eq_false_iff_ne.mpr c]; rfl) u R2 h1 h2 h3⟩)
