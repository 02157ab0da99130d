/-! PHASE 3. A scope that is opened and left again -/
section SCOPE
variable {T : sT} {w : cW} {A A' : cA} {m e m' e' B sc : Nat} {σ u : mmS} {i j : Nat}
theorem cI.s346 {θ : cTh} (h : cI T σ) (g : cI T u) (f : Fr θ σ u) : cI T (mm_setf u 346 (mm_f σ 346)) := by
  obtain ⟨⟨sc, z1, z2⟩, -⟩ := h.2.2.2.2.2.1
  obtain ⟨-, f2, f3, f4, ⟨f5a, f5b, f5c, f5d⟩, -⟩ := f
  rw [z1]
  exact g.scope (by omega)
theorem cB.s346 {g : Nat} {x : Int32} (h : cB T g u) (I : cI T (mm_setf u 346 x)) : cB T g (mm_setf u 346 x) := by
  obtain ⟨h1, h2, ⟨q, q1, q2, q3, q4, h4, h5, h6⟩, nn, u1, u2⟩ := h
  have fo (k : Nat) (h : k ≠ 346) : mm_f (mm_setf u 346 x) k = mm_f u k := f_other h
  exact ⟨I, (fo 303 (by decide)).trans h2, ⟨q, (fo 311 (by decide)).trans q1, q2, q3, by rw [fN_eq (fo 315 (by decide))]; exact q4, by rw [fN_eq (fo 324 (by decide))]; exact h4, by rw [fN_eq (fo 336 (by decide))]; exact h5, by rw [fN_eq (fo 325 (by decide))]; exact h6⟩, nn, (fo 360 (by decide)).trans u1, u2⟩
theorem cG.pop {θ : cTh} {x : Int32} {a : List (Nat × Int32)} {L' : hC} (h : cG T w A m e σ i) (g : cG T (psW w B (fN σ 324)) A' m' e' u j) (hA : A'.1 = (x, a) :: L') (hm : L'.map (·.1) = A.1.map (·.1)) (f : Fr θ σ u) (h326 : mm_a u 326 (fN σ 324) = mm_f σ 346) : cG T w (L', A'.2) m' e' (mm_setf u 346 (mm_f σ 346)) j := by
  have I := h.1.s346 g.1 f
  have cp := g.caps
  have hcap := h.caps
  obtain ⟨h1, h2, h3, ⟨n1, n2, n3⟩, h5, ⟨s1, s2⟩, ⟨R0, b0, q1, q2, q3, q4, q5⟩, -⟩ := h
  obtain ⟨g1, g2, g3, ⟨p1, p2, p3⟩, g5, ⟨t1, t2⟩, ⟨R, b, y1, y2, y3, y4, y5⟩, g8, ⟨u1, u2, u3⟩, g10, g11, g12, hc⟩ := g
  have fo (k : Nat) (h : k ≠ 346) : mm_f (mm_setf u 346 (mm_f σ 346)) k = mm_f u k := f_other h
  have fe (k : Nat) (h : k ≠ 346) := fN_eq (fo k h)
  obtain ⟨m1, m2⟩ := hl_map hm
  rw [hA, t1] at y2
  have y2 : path u R ((x, a) :: L') (nI (fN σ 324)) b := y2
  obtain ⟨-, z2⟩ := path_pop y2 (by omega) (by omega)
  rw [h326] at z2
  refine ⟨I, (fo 303 (by decide)).trans g2, by rw [fo 311 (by decide)]; exact g3, by rw [fo 312 (by decide)]; exact ⟨p1, p2, n3⟩, g5.of (fun k k1 k2 => fo k (by omega)) rfl rfl rfl, ⟨f_same.trans s1, (fo 347 (by decide)).trans t2⟩, ⟨R, fN σ 324, y1.of (fo 324 (by decide)) (fo 325 (by decide)) (fun _ _ _ => ⟨rfl, rfl⟩), ?_, m2.trans q3, by rw [m1]; exact q4, fun y t q z => ?_⟩, by rw [fo 313 (by decide)]; exact g8, by rw [fo 360 (by decide)]; exact ⟨u1, u2, u3⟩, ?_, by rw [fo 359 (by decide)]; exact g11, by rw [fo 358 (by decide)]; exact g12, ?_⟩
  · rw [f_same]
    exact z2.of (fo 324 (by decide)) (fun _ _ _ => ⟨rfl, rfl⟩)
  · have q : L' = y :: t := q
    rw [q] at hm
    cases hA1 : A.1 with
    | nil => rw [hA1] at hm; exact nomatch hm
    | cons x0 t0 =>
      rw [hA1] at hm
      simp only [List.map_cons, List.cons.injEq] at hm
      have := q5 x0 t0 hA1 (by rw [← hm.1]; exact z)
      intro e
      rw [e] at hm
      cases t0 with
      | nil => exact this rfl
      | cons a b => exact nomatch hm.2
  · rw [fe 336 (by decide), cntF_of (σ := u) (u := mm_setf u 346 (mm_f σ 346)) (fun _ _ => rfl)]
    exact g10
  · unfold cC at hc ⊢
    rw [fe 315 (by decide), fe 324 (by decide), fe 336 (by decide), fe 325 (by decide), fo 371 (by decide)]
    exact hc
theorem Fr_346 {θ : cTh} {x : Int32} : Fr θ u (mm_setf u 346 x) := Fr.setf rfl (by decide) (by decide) (by decide) (by decide) (by decide) (by decide)
/-- within a scope: what is read there, as if from outside -/
theorem St.scope {β : Type} {Sh : β → Nat → Int32 → mmS → Prop} {N : Int32 → mmS → Prop} {g : Nat} {w0 : cW} {m0 e0 : Nat} {θ : cTh} {l0 : Nat} {Z : Int32 → mmS → Prop} {b : Bool} {h h' : Nat} {r r0 : sR β} {x y : Int32} {es : List (Nat × Int32)} (st : St T Sh N g w0 m0 e0 θ l0 Z b h w A m e r0 σ i) (hw : GD σ → w = w0) (hy : ∃ sc, y = nI sc ∧ sc < fN σ 324) (hy2 : GD σ → y = mm_f σ 346)
    (hs : GD σ → sim (fun L L' => (∃ a, L = (x, a) :: L') ∧ L'.map (·.1) = A.1.map (·.1)) (run (w_in w0) ((x, es) :: A.1, A.2) r) (run (w_in w0) A r0)) (hf : Fr (th σ) σ u) (h26 : GD σ → mm_a u 326 (fN σ 324) = mm_f σ 346) (h24 : fN σ 324 < fN u 324)
    (hg : cG T w A m e σ i → cG T (psW w B (fN σ 324)) ((x, es) :: A.1, A.2) m' e' u i) (hb : cB T (g + h) σ → cB T (g + h') u) (hh : GD σ → g + h' ≤ 69500) :
    St T (fun v q n u => Sh v q n (mm_setf u 346 y)) (fun n u => N n (mm_setf u 346 y)) g (psW w B (fN σ 324)) m0 e0 θ l0 (fun n v => Z n (mm_setf v 346 y)) b h' (psW w B (fN σ 324)) ((x, es) :: A.1, A.2) m' e' r u i := by
  have I2 : ∀ {v : mmS} {θ' : cTh}, Fr θ' σ v → cI T v → cI T (mm_setf v 346 y) := fun f I => by
    obtain ⟨sc, z1, z2⟩ := hy
    rw [z1]
    exact I.scope (by have := f.2.2.2.2.1.2.1; omega)
  rcases st with ⟨q1, q2, q3, q4⟩ | ⟨q1, q2, q3⟩
  · have gd := q1.2.1
    have gu := hg q1
    have hw := hw gd
    subst hw
    have hy2 := hy2 gd
    subst hy2
    have tl : tle (th σ) (th u) := th_le2 q1 gu hf (Nat.le_refl _)
    refine Or.inl ⟨gu, ⟨Nat.le_trans q2.1 tl.1, Nat.le_trans q2.2.1 tl.2.1, Nat.le_trans q2.2.2.1 tl.2.2.1, Nat.le_trans q2.2.2.2 tl.2.2.2⟩, hh gd, fun n v rs => q4 n _ ?_⟩
    obtain ⟨f2, rs⟩ := rs
    have f1 : Fr θ σ v := (hf.mono fun _ => q2).trans f2
    refine ⟨f1.trans Fr_346, ?_⟩
    rcases rs with ⟨v1, j, B1, q, x1, x2, x3, x4⟩ | ⟨x1, x2, x3⟩
    · obtain ⟨B2, s1, s2, ⟨a, s3⟩, s4⟩ := (hs gd).some x1
      refine Or.inl ⟨v1, j, B2, q, s1, ?_, x3, x4⟩
      have := q1.pop (u := v) x2 s3 s4 f1 (by rw [up_326 f2 h24, h26 gd])
      rw [show B2 = (B2.1, B1.2) from Prod.ext rfl s2.symm]
      exact this
    · refine Or.inr ⟨?_, cB.s346 x2 (I2 f1 x2.1), x3⟩
      rcases x1 with x1 | x1
      · exact Or.inl ((hs gd).none x1)
      · exact absurd gu.2.1 x1
  · exact Or.inr ⟨q1, hb q2, fun n v f c hn => q3 n _ (((hf.mono fun z => absurd z q2.no).trans f).trans Fr_346) (cB.s346 c (I2 ((hf.mono fun z => absurd z q2.no).trans f) c.1)) hn⟩
end SCOPE
