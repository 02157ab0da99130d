/-! PHASE 3. finish(): back to where one was -/
theorem path_pop {σ : mmS} {R : Nat → List Nat} {x : Int32 × List (Nat × Int32)} {L : hC} {s b : Nat} (h : path σ R (x :: L) (nI s) b) (hs : s < 2 ^ 31) (hb : fN σ 324 < 2 ^ 31) : s < fN σ 324 ∧ path σ R L (mm_a σ 326 s) s := by
  obtain ⟨k, p1, p2, p3, p4, p5, p6⟩ := h
  have : s = k := nI_inj hs (by omega) p1
  subst this
  exact ⟨p3, p6⟩
theorem f_346 {u : mmS} {a b : Int32} {v : Int64} : kpS (mm_setf (mm_setf (mm_setf u 346 a) 346 b) 347 a) v = kpS (mm_setf (mm_setf (mm_setf u 346 a) 346 b) 347 a) v := rfl
section FIN
variable {T : sT} {w w' : cW} {A A' : cA} {m e m' e' : Nat} {σ u : mmS} {i j : Nat}
theorem kpt_good (h : cG T w A m e σ i) : kpt σ = kvG (w_x w).1 (nI (w_lk w).1) (nI (w_lk w).2) (nI (w_lb w + (w_x w).2.2.2.2.length)) (nI (w_lb w)) := by
  obtain ⟨h1, h2, h3, h4, ⟨⟨x1, x2, x3, x4, x5, x6⟩, xr, ⟨l1, l2, l3⟩, ⟨k1, k2, k3⟩, y1, y2, y3, y4⟩, -⟩ := h
  unfold kpt
  rw [x1, x2, x3, x4, x5, x6, l1, k1, y1, y2, nz_bI, nz_bI, nz_bI, nz_bI, nz_bI, nz_bI]
theorem kpS_r {v : Int64} : mm_a (kpS u v) = mm_a u ∧ mm_n (kpS u v) = mm_n u ∧ mm_v (kpS u v) = mm_v u ∧ mm_l (kpS u v) = mm_l u ∧ mm_r (kpS u v) = mm_r u ∧ mm_bc (kpS u v) = mm_bc u ∧ mm_bs (kpS u v) = mm_bs u := ⟨rfl, rfl, rfl, rfl, rfl, rfl, rfl⟩
theorem cI.kp {v : Int64} (h : cI T u) : cI T (kpS u v) := (((((((((h.setf rfl).setf rfl).setf rfl).setf rfl).setf rfl).setf rfl).setf rfl).setf rfl).setf rfl).setf rfl
theorem cI.fin {s f : Nat} {v : Int64} (h : cI T u) (hs : s < fN u 324) (hf : f < fN u 336) : cI T (kpS (mm_setf (mm_setf u 346 (nI s)) 347 (nI f)) v) := by
  have h1 := h.scope hs
  have e : fN (mm_setf u 346 (nI s)) 336 = fN u 336 := fN_eq (f_other (by decide))
  exact (h1.here (by rw [e]; exact hf)).kp
theorem Fr.kp {θ : cTh} {v : Int64} : Fr θ u (kpS u v) := by
  have s : ∀ (σ : mmS) (k : Nat) (x : Int32), 348 ≤ k ∧ k ≤ 357 → Fr θ σ (mm_setf σ k x) := fun σ k x h => by
    refine Fr.setf ?_ (by omega) (by omega) (by omega) (by omega) (by omega) (by omega)
    simp [cmf, Nat.ble_eq_true_of_le (show 346 ≤ k by omega), Nat.ble_eq_true_of_le (show k ≤ 360 by omega)]
  unfold kpS
  exact (((((((((s _ 357 _ (by decide)).trans (s _ 348 _ (by decide))).trans (s _ 349 _ (by decide))).trans (s _ 350 _ (by decide))).trans (s _ 351 _ (by decide))).trans (s _ 352 _ (by decide))).trans (s _ 353 _ (by decide))).trans (s _ 354 _ (by decide))).trans (s _ 355 _ (by decide))).trans (s _ 356 _ (by decide))
theorem Fr.fin {θ : cTh} {a b : Int32} {v : Int64} : Fr θ u (kpS (mm_setf (mm_setf u 346 a) 347 b) v) :=
  ((Fr.setf rfl (by decide) (by decide) (by decide) (by decide) (by decide) (by decide)).trans (Fr.setf rfl (by decide) (by decide) (by decide) (by decide) (by decide) (by decide))).trans Fr.kp
theorem fin_f {a b : Int32} {v : Int64} {k : Nat} (h : ¬ (346 ≤ k ∧ k ≤ 357)) : mm_f (kpS (mm_setf (mm_setf u 346 a) 347 b) v) k = mm_f u k := by
  rw [kpS_n (by omega), f_other (by omega), f_other (by omega)]
/-- all is as it was, but for what was gathered -/
theorem cG.fin (h : cG T w A m e σ i) (g : cG T w' A' m' e' u j) (hw : w_nu w' = w_nu w ∧ w_in w' = w_in w ∧ w_cl w' = w_cl w) (f : Fr (th σ) σ u) (hp : ∃ R b, stru u R ∧ path u R A.1 (nI (w_sc w)) b) : cG T w (A.1, A'.2) m' e' (kpS (mm_setf (mm_setf u 346 (nI (w_sc w))) 347 (nI (w_hr w))) (kpt σ)) j := by
  have gd := g.2.1
  have cp := h.caps
  obtain ⟨hw1, hw2, hw3⟩ := hw
  have I := h.1
  have hk := kpt_good h
  obtain ⟨h1, h2, h3, ⟨n1, n2, n3⟩, ⟨⟨x1, x2, x3, x4, x5, x6⟩, xr, ⟨l1, l2, l3⟩, ⟨k1, k2, k3⟩, y1, y2, y3, y4⟩, ⟨s1, s2⟩, ⟨R0, b0, q1, q2, q3, q4, q5⟩, h8, h9, h10, h11, h12, hc⟩ := h
  obtain ⟨g1, g2, g3, ⟨p1, p2, p3⟩, g5, g6, g7, g8, g9, g10, g11, ⟨r1, r2, r3⟩, c1, c2, c3, c4, c5⟩ := g
  have hl : (w_lk w).1 < 49 := by omega
  have hk2 : (w_lk w).2 < 49 := by omega
  have ht : w_lb w + (w_x w).2.2.2.2.length < 49 := by omega
  have hb : w_lb w < 49 := by omega
  obtain ⟨⟨sc, z1, z2⟩, ⟨hr, z3, z4⟩⟩ := I.2.2.2.2.2.1
  obtain ⟨-, f2, f3, f4, ⟨f5a, f5b, f5c, f5d⟩, f6, f7, f8⟩ := f
  have hsc : nI (w_sc w) = nI sc := s1.symm.trans z1
  have hhr : nI (w_hr w) = nI hr := s2.symm.trans z3
  have hsc2 : sc < fN u 324 := by omega
  have hhr2 : hr < fN u 336 := by omega
  have Iv : cI T (kpS (mm_setf (mm_setf u 346 (nI (w_sc w))) 347 (nI (w_hr w))) (kpt σ)) := by
    rw [hsc, hhr]
    exact g1.fin hsc2 hhr2
  have fv := fun k => kpS_f (σ := mm_setf (mm_setf u 346 (nI (w_sc w))) 347 (nI (w_hr w))) (c := (w_x w).1) (j := k) hl hk2 ht hb
  rw [← hk] at fv
  have fo (k : Nat) (h : ¬ (346 ≤ k ∧ k ≤ 357)) : mm_f (kpS (mm_setf (mm_setf u 346 (nI (w_sc w))) 347 (nI (w_hr w))) (kpt σ)) k = mm_f u k := fin_f h
  have v346 : mm_f (kpS (mm_setf (mm_setf u 346 (nI (w_sc w))) 347 (nI (w_hr w))) (kpt σ)) 346 = nI (w_sc w) := by rw [kpS_n (by decide), f_other (by decide), f_same]
  have v347 : mm_f (kpS (mm_setf (mm_setf u 346 (nI (w_sc w))) 347 (nI (w_hr w))) (kpt σ)) 347 = nI (w_hr w) := by rw [kpS_n (by decide), f_same]
  have e347 : fN (kpS (mm_setf (mm_setf u 346 (nI (w_sc w))) 347 (nI (w_hr w))) (kpt σ)) 347 = hr := by
    unfold fN
    rw [v347, hhr, nI_clamp (by omega)]
  have e347' : fN σ 347 = hr := by
    unfold fN
    rw [z3, nI_clamp (by omega)]
  refine ⟨Iv, (fo 303 (by decide)).trans g2, by rw [fo 311 (by decide)]; exact g3, by rw [fo 312 (by decide), p1, hw1]; exact ⟨rfl, n2, n3⟩, ⟨⟨(fv 348).trans rfl, (fv 349).trans rfl, (fv 350).trans rfl, (fv 351).trans rfl, (fv 352).trans rfl, (fv 353).trans rfl⟩, ?_, ⟨(fv 354).trans rfl, l2, l3⟩, ⟨(fv 355).trans rfl, k2, k3⟩, (fv 357).trans rfl, (fv 356).trans rfl, y3, fun k hk => ?_⟩, ⟨v346, v347⟩, ?_, by rw [fo 313 (by decide)]; exact g8, by rw [fo 360 (by decide)]; exact g9, ?_, by rw [fo 359 (by decide)]; exact g11, by rw [fo 358 (by decide)]; exact ⟨r1.trans (by rw [hw3]), by omega, by rw [← hw2, ← hw3]; exact r3⟩, ?_⟩
  · rw [e347]
    show _ = (!(mm_a u 337 hr == 9) && !(mm_a u 337 hr == 8))
    rw [(f7 hr z4).1, xr, e347']
  · have f56 : fN σ 356 = w_lb w + (w_x w).2.2.2.2.length := by unfold fN; rw [y2, nI_clamp (by omega)]
    have := (f8 gd).2.2.2.2 (w_lb w + k) (by show w_lb w + k < fN σ 356; omega)
    exact ⟨this.1.trans (y4 k hk).1, this.2.trans (y4 k hk).2.1, (y4 k hk).2.2⟩
  · obtain ⟨R, b, t1, t2⟩ := hp
    have e4 : ∀ k, k = 324 ∨ k = 325 → mm_f (kpS (mm_setf (mm_setf u 346 (nI (w_sc w))) 347 (nI (w_hr w))) (kpt σ)) k = mm_f u k := fun k hk => fo k (by omega)
    refine ⟨R, b, t1.of (e4 324 (Or.inl rfl)) (e4 325 (Or.inr rfl)) (fun _ _ _ => ⟨rfl, rfl⟩), ?_, q3, q4, q5⟩
    rw [v346]
    exact t2.of (e4 324 (Or.inl rfl)) (fun _ _ _ => ⟨rfl, rfl⟩)
  · have e := fN_eq (fo 336 (by decide))
    rw [e]
    exact (cntF_of (σ := u) (u := kpS (mm_setf (mm_setf u 346 (nI (w_sc w))) 347 (nI (w_hr w))) (kpt σ)) (fun _ _ => rfl)).trans g10
  · unfold cC
    rw [fN_eq (fo 315 (by decide)), fN_eq (fo 324 (by decide)), fN_eq (fo 336 (by decide)), fN_eq (fo 325 (by decide)), fo 371 (by decide)]
    exact ⟨c1, c2, c3, c4, c5⟩
theorem cB.fin {g : Nat} {a b : Int32} {v : Int64} (h : cB T g u) (I : cI T (kpS (mm_setf (mm_setf u 346 a) 347 b) v)) : cB T g (kpS (mm_setf (mm_setf u 346 a) 347 b) v) := by
  obtain ⟨h1, h2, ⟨q, q1, q2, q3, q4, h4, h5, h6⟩, nn, u1, u2⟩ := h
  have fo (k : Nat) (h : ¬ (346 ≤ k ∧ k ≤ 357)) : mm_f (kpS (mm_setf (mm_setf u 346 a) 347 b) v) k = mm_f u k := fin_f h
  exact ⟨I, (fo 303 (by decide)).trans h2, ⟨q, (fo 311 (by decide)).trans q1, q2, q3, by rw [fN_eq (fo 315 (by decide))]; exact q4, by rw [fN_eq (fo 324 (by decide))]; exact h4, by rw [fN_eq (fo 336 (by decide))]; exact h5, by rw [fN_eq (fo 325 (by decide))]; exact h6⟩, nn, (fo 360 (by decide)).trans u1, u2⟩
/-- the scope and the function of another state are there still -/
theorem cI.back (h : cI T σ) (g : cI T u) (f : Fr (th σ) σ u) {v : Int64} : cI T (kpS (mm_setf (mm_setf u 346 (mm_f σ 346)) 347 (mm_f σ 347)) v) := by
  obtain ⟨⟨sc, z1, z2⟩, ⟨hr, z3, z4⟩⟩ := h.2.2.2.2.2.1
  obtain ⟨-, f2, f3, f4, ⟨f5a, f5b, f5c, f5d⟩, -⟩ := f
  rw [z1, z3]
  exact g.fin (by omega) (by omega)
end FIN
