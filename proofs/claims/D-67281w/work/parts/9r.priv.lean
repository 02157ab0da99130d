/-! PHASE 3. Private names of a class: what is known of them while it is read -/
/-- what the half of a name says, by the kinds it was told with -/
def hvD : List (Int32 × Nat) → Int32
  | [g] => nI g.2
  | _ => 0
def clP (h0 sc : Nat) (D : List (Int32 × Nat)) (u : mmS) : Prop := ∃ R, stru u R ∧ (∀ r ∈ R sc, D.any (fun y => y.1 == mm_a u 332 r) = true ∧ ∃ k, h0 ≤ k ∧ k < fN u 371 ∧ mm_a u 369 k = nI r ∧ mm_a u 370 k = hvD (D.filter (fun y => y.1 == mm_a u 332 r))) ∧ ∀ r ∈ R sc, ∀ r' ∈ R sc, mm_a u 332 r = mm_a u 332 r' → r = r'
def clN (es : hE) (D : List (Int32 × Nat)) : Prop := (∀ x, (h_find es x).isSome = D.any (fun y => y.1 == x)) ∧ ∀ y ∈ D, y.2 = 0 ∨ (2 ≤ y.2 ∧ y.2 ≤ 5)
section PRIV
variable {T : sT} {w : cW} {A : cA} {m e : Nat} {σ u : mmS} {i : Nat}
theorem cG.top {x : Int32} {es : hE} {L : hC} {A2 : Int × List Int32 × Nat × Nat} (h : cG T w ((x, es) :: L, A2) m e u i) (hsc : w_sc w < 2 ^ 31) : ∃ R, stru u R ∧ w_sc w < fN u 324 ∧ ens u (R (w_sc w)) = es ∧ mm_a u 327 (w_sc w) = x ∧ path u R L (mm_a u 326 (w_sc w)) (w_sc w) := by
  have cp := h.caps
  obtain ⟨R, b, y1, y2, -⟩ := h.2.2.2.2.2.2.1
  obtain ⟨k, p1, p2, p3, p4, p5, p6⟩ := y2
  have : k = w_sc w := nI_inj (by omega) hsc (p1.symm.trans h.2.2.2.2.2.1.1)
  subst this
  exact ⟨R, y1, p3, p5, p4, p6⟩
theorem clP.mono {h0 m' e' i' : Nat} {x x' : Int32} {es : hE} {L L' : hC} {A2 A2' : Int × List Int32 × Nat × Nat} {D : List (Int32 × Nat)} (c : clP h0 (w_sc w) D σ) (hsc : w_sc w < 2 ^ 31) (h : cG T w ((x, es) :: L, A2) m e σ i) (h' : cG T w ((x', es) :: L', A2') m' e' u i') (f : Fr (th σ) σ u) : clP h0 (w_sc w) D u := by
  obtain ⟨R, r1, r2, r3, -⟩ := h.top hsc
  obtain ⟨R', q1, q2, q3, -⟩ := h'.top hsc
  obtain ⟨R0, s1, s2, s3⟩ := c
  have cp := h.caps
  have cp' := h'.caps
  have gr := f.2.2.1.2
  have fg := f.2.2.2.2.2.2.2 h'.2.1
  have e0 : R0 (w_sc w) = R (w_sc w) := R_uni r1 s1 r2 (by omega)
  have e1 : R' (w_sc w) = R (w_sc w) := R_eq r1 q1 gr r2 q2 (by omega) (by omega) (by rw [r3, q3])
  have e332 : ∀ r ∈ R0 (w_sc w), mm_a u 332 r = mm_a σ 332 r := fun r hr => (gr.2 r ((s1.2.2.1 _ r2).2.2.1 r hr)).1
  refine ⟨R', q1, fun r hr => ?_, fun r hr r' hr' e => ?_⟩
  · rw [e1, ← e0] at hr
    obtain ⟨t1, k, t2, t3, t4, t5⟩ := s2 r hr
    exact ⟨by rw [e332 r hr]; exact t1, k, t2, Nat.lt_of_lt_of_le t3 fg.1, by rw [(fg.2.2.2.1 k t3).1]; exact t4, by rw [(fg.2.2.2.1 k t3).2, e332 r hr]; exact t5⟩
  · rw [e1, ← e0] at hr hr'
    rw [e332 r hr, e332 r' hr'] at e
    exact s3 r hr r' hr' e
theorem clP.of {h0 sc : Nat} {D : List (Int32 × Nat)} (c : clP h0 sc D σ) (f4 : mm_f u 324 = mm_f σ 324) (f5 : mm_f u 325 = mm_f σ 325) (f7 : mm_f u 371 = mm_f σ 371) (a : ∀ k, 326 ≤ k → k ≤ 335 → mm_a u k = mm_a σ k ∧ mm_n u k = mm_n σ k) (a9 : mm_a u 369 = mm_a σ 369) (a0 : mm_a u 370 = mm_a σ 370) : clP h0 sc D u := by
  obtain ⟨R, s1, s2, s3⟩ := c
  have e := (a 332 (by decide) (by decide)).1
  refine ⟨R, s1.of f4 f5 a, ?_, ?_⟩
  · rw [e, a9, a0, fN_eq f7]; exact s2
  · rw [e]; exact s3
theorem clP.setn {h0 sc s k : Nat} {x : Int32} {D : List (Int32 × Nat)} (c : clP h0 sc D σ) (hs : s < 326 ∨ (335 < s ∧ s ≠ 369 ∧ s ≠ 370)) : clP h0 sc D (mm_seta σ s k x) :=
  c.of rfl rfl rfl (fun j j1 j2 => ⟨a_seta_n (by omega), rfl⟩) (a_seta_n (by omega)) (a_seta_n (by omega))
theorem hfS_a {n k : Nat} {r kd st : Int32} (h1 : k ≠ 369) (h2 : k ≠ 370) : mm_a (hfS σ n r kd st) k = mm_a σ k := by
  show mm_a (mm_seta (mm_seta σ 369 n r) 370 n _) k = _
  rw [a_seta_n h2, a_seta_n h1]
theorem hfS_f {n k : Nat} {r kd st : Int32} (h1 : k ≠ 371) : mm_f (hfS σ n r kd st) k = mm_f σ k := by
  unfold hfS
  exact f_other h1
theorem fN_hfS {n : Nat} {r kd st : Int32} (hb : n < 3000) : fN (hfS σ n r kd st) 371 = n + 1 := by
  have : mm_f (hfS σ n r kd st) 371 = nI (n + 1) := f_same
  show (mm_f (hfS σ n r kd st) 371).toNatClampNeg = n + 1
  rw [this, nI_clamp (by omega)]
theorem cI.hf {n : Nat} {r kd st : Int32} (h : cI T σ) (hv : hvN (hfS σ n r kd st)) : cI T (hfS σ n r kd st) := by
  obtain ⟨t, c, ⟨R, g⟩, ⟨⟨p1, -⟩, p3⟩, k, ⟨⟨sc, x1, x2⟩, ⟨hr, y1, y2⟩⟩, l⟩ := h
  have a (k : Nat) (h1 : k ≠ 369) (h2 : k ≠ 370) : mm_a (hfS σ n r kd st) k = mm_a σ k := hfS_a h1 h2
  have f (k : Nat) (h1 : k ≠ 371) : mm_f (hfS σ n r kd st) k = mm_f σ k := hfS_f h1
  have l' : lnB T (hfS σ n r kd st) := by
    unfold lnB at l ⊢
    exact l
  exact ⟨Tk_sam t (fun k hk => by rcases tkS_c hk with rfl | rfl | rfl | rfl | rfl | rfl | rfl <;> exact ⟨a _ (by decide) (by decide), rfl, rfl, rfl⟩) rfl (f 310 (by decide)), c.of (f 315 (by decide)) (fun _ _ _ => rfl) (fun i _ q => by rw [a 323 (by decide) (by decide)]; exact q), ⟨R, g.of (f 324 (by decide)) (f 325 (by decide)) (fun k k1 k2 => ⟨a k (by omega) (by omega), rfl⟩)⟩,
    ⟨⟨p1.of (f 324 (by decide)) (a 326 (by decide) (by decide)) (a 327 (by decide) (by decide)), hv⟩, p3.of (f 315 (by decide)) (a 316 (by decide) (by decide)) (a 317 (by decide) (by decide))⟩, k.of (f 336 (by decide)) (fun _ _ _ => rfl) (a 337 (by decide) (by decide)) (a 339 (by decide) (by decide)) (a 342 (by decide) (by decide)) (Nat.le_of_eq (fN_eq (f 315 (by decide))).symm), ⟨⟨sc, (f 346 (by decide)).trans x1, by rw [fN_eq (f 324 (by decide))]; exact x2⟩, ⟨hr, (f 347 (by decide)).trans y1, by rw [fN_eq (f 336 (by decide))]; exact y2⟩⟩, l'⟩
theorem cG.hf {n : Nat} {r kd st : Int32} (h : cG T w A m e σ i) (hv : hvN (hfS σ n r kd st)) (hh : n + 1 + e ≤ i + 1) : cG T w A m e (hfS σ n r kd st) i := by
  obtain ⟨h1, h2, h3, h4, h5, h6, h7, h8, ⟨u1, u2, u3⟩, h10, h11, h12, c1, c2, c3, c4, c5⟩ := h
  have a (k : Nat) (h1 : k ≠ 369) (h2 : k ≠ 370) : mm_a (hfS σ n r kd st) k = mm_a σ k := hfS_a h1 h2
  have f (k : Nat) (h1 : k ≠ 371) : mm_f (hfS σ n r kd st) k = mm_f σ k := hfS_f h1
  have fe (k : Nat) (h1 : k ≠ 371) := fN_eq (f k h1)
  refine ⟨h1.hf hv, (f 303 (by decide)).trans h2, by rw [f 311 (by decide)]; exact h3, by rw [f 312 (by decide)]; exact h4, h5.of (fun k k1 k2 => f k (by omega)) (by rw [a 337 (by decide) (by decide)]) (a 361 (by decide) (by decide)) (a 362 (by decide) (by decide)), by rw [f 346 (by decide), f 347 (by decide)]; exact h6, h7.of (f 324 (by decide)) (f 325 (by decide)) (f 346 (by decide)) (fun k k1 k2 => ⟨a k (by omega) (by omega), rfl⟩), by rw [f 313 (by decide)]; exact h8, by rw [f 360 (by decide), a 363 (by decide) (by decide)]; exact ⟨u1, u2, u3⟩,
    by rw [fe 336 (by decide), cntF_of (σ := σ) (fun k _ => by rw [a 337 (by decide) (by decide)])]; exact h10, by rw [f 359 (by decide)]; exact h11, by rw [f 358 (by decide)]; exact h12, ?_⟩
  unfold cC
  rw [fe 315 (by decide), fe 324 (by decide), fe 336 (by decide), fe 325 (by decide)]
  exact ⟨c1, c2, c3, c4, n + 1, f_same, hh⟩
theorem Fr.hf {θ : cTh} {n : Nat} {r kd st : Int32} (hn : mm_f σ 371 = nI n) (hb : n < 3000) (ht : GD σ → θ.2.2.1 ≤ n) : Fr θ σ (hfS σ n r kd st) := by
  have a (k : Nat) (h1 : k ≠ 369) (h2 : k ≠ 370) : mm_a (hfS σ n r kd st) k = mm_a σ k := hfS_a h1 h2
  have f (k : Nat) (h1 : k ≠ 371) : mm_f (hfS σ n r kd st) k = mm_f σ k := hfS_f h1
  have fe (k : Nat) (h1 : k ≠ 371) := fN_eq (f k h1)
  have hg : GD (hfS σ n r kd st) → GD σ := fun q => (f 303 (by decide)).symm.trans q
  refine ⟨hg, fun j hj => f j (fun e => by rw [e] at hj; exact absurd hj (by decide)), ⟨rfl, gro.of (a 328 (by decide) (by decide)) (a 332 (by decide) (by decide)) (a 334 (by decide) (by decide))⟩, fun k _ k2 => ⟨a k (fun e => by rw [e] at k2; exact absurd k2 (by decide)) (fun e => by rw [e] at k2; exact absurd k2 (by decide)), rfl, rfl, rfl⟩, ⟨by rw [fe 315 (by decide)]; exact Nat.le_refl _, by rw [fe 324 (by decide)]; exact Nat.le_refl _, by rw [fe 325 (by decide)]; exact Nat.le_refl _, by rw [fe 336 (by decide)]; exact Nat.le_refl _⟩,
    fun t _ => ⟨by rw [a 326 (by decide) (by decide)], by rw [a 327 (by decide) (by decide)]⟩, fun t _ => ⟨by rw [a 337 (by decide) (by decide)], by rw [a 339 (by decide) (by decide)]⟩, fun gd => ⟨?_, fun k k1 k2 i _ _ => by rw [a k (by omega) (by omega)], fun j _ => ⟨by rw [a 338 (by decide) (by decide)], by rw [a 342 (by decide) (by decide)]⟩, fun k hk => ?_, fun k _ => ⟨by rw [a 361 (by decide) (by decide)], by rw [a 362 (by decide) (by decide)]⟩⟩⟩
  · have e1 : fN σ 371 = n := by unfold fN; rw [hn, nI_clamp (by omega)]
    have e2 : fN (hfS σ n r kd st) 371 = n + 1 := by
      have : mm_f (hfS σ n r kd st) 371 = nI (n + 1) := f_same
      unfold fN; rw [this, nI_clamp (by omega)]
    omega
  · have := ht (hg gd)
    have ne : k ≠ n := by omega
    refine ⟨?_, ?_⟩
    · show mm_a (mm_seta (mm_seta σ 369 n r) 370 n _) 369 k = _
      rw [a_seta_n (by decide), a_seta_i ne]
    · show mm_a (mm_seta (mm_seta σ 369 n r) 370 n _) 370 k = _
      rw [a_seta_i ne, a_seta_n (by decide)]
theorem Fr.h0 {θ : cTh} {k0 : Nat} {x : Int32} (ht : GD σ → θ.2.2.1 ≤ k0) : Fr θ σ (mm_seta σ 370 k0 x) := by
  have a (k : Nat) (h2 : k ≠ 370) : mm_a (mm_seta σ 370 k0 x) k = mm_a σ k := a_seta_n h2
  exact ⟨id, fun _ _ => rfl, ⟨rfl, gro.of (a 328 (by decide)) (a 332 (by decide)) (a 334 (by decide))⟩, fun k _ k2 => ⟨a k (fun e => by rw [e] at k2; exact absurd k2 (by decide)), rfl, rfl, rfl⟩, ⟨Nat.le_refl _, Nat.le_refl _, Nat.le_refl _, Nat.le_refl _⟩,
    fun t _ => ⟨by rw [a 326 (by decide)], by rw [a 327 (by decide)]⟩, fun t _ => ⟨by rw [a 337 (by decide)], by rw [a 339 (by decide)]⟩, fun gd => ⟨Nat.le_refl _, fun k k1 k2 i _ _ => by rw [a k (by omega)], fun j _ => ⟨by rw [a 338 (by decide)], by rw [a 342 (by decide)]⟩, fun k hk => ⟨by rw [a 369 (by decide)], a_seta_i (by have := ht gd; omega)⟩, fun k _ => ⟨by rw [a 361 (by decide)], by rw [a 362 (by decide)]⟩⟩⟩
theorem cG.h0 {k0 : Nat} {x : Int32} (h : cG T w A m e σ i) : cG T w A m e (mm_seta σ 370 k0 x) i := by
  have hI : cI T (mm_seta σ 370 k0 x) := h.1.seta rfl
  have n (k : Nat) (hk : k ≠ 370) : mm_a (mm_seta σ 370 k0 x) k = mm_a σ k := a_seta_n hk
  obtain ⟨h1, h2, h3, h4, h5, h6, h7, h8, ⟨u1, u2, u3⟩, h10, h11, h12, hc⟩ := h
  exact ⟨hI, h2, h3, h4, h5.of (fun _ _ _ => rfl) (by rw [n 337 (by decide)]) (n 361 (by decide)) (n 362 (by decide)), h6, h7.of rfl rfl rfl (fun k k1 k2 => ⟨n k (by omega), rfl⟩), h8, ⟨u1, u2, by rw [n 363 (by decide)]; exact u3⟩, (cntF_of (fun k _ => by rw [n 337 (by decide)])).trans h10, h11, h12, hc⟩
theorem run_okk {β : Type} {inn p : Bool} {v : β} {j : Nat} : run inn A (s_w (sA_ok p) v j) = bif p then some (v, j, A) else none := by
  obtain ⟨L, cv, us, f, kk⟩ := A
  cases p <;> simp [run, s_w, sA_ok, A_st, h_run]
theorem run_prvs {inn p : Bool} {es : hE} {L : hC} {A2 : Int × List Int32 × Nat × Nat} {x : Int32} {D : List (Int32 × Nat)} {j : Nat} : run inn ((8, es) :: L, A2) (s_b (s_w (sA_ok p) () j) (fun _ k => s_w (sA_ev 7 x) D k)) = bif p then some (D, j, ((8, bif (h_find es x).isSome then es else es ++ [(1, x)]) :: L, A2)) else none := by
  rw [run_b, run_okk]
  cases p with
  | false => rfl
  | true =>
    show run inn ((8, es) :: L, A2) (s_w (sA_ev 7 x) D j) = _
    rw [run_evv]
    rfl
theorem prv_ar {kd st : Int32} {hh v : Nat} (hk : (kd = 1 ∧ st = 0 ∧ hh = 2) ∨ (kd = 1 ∧ st = 1 ∧ hh = 3) ∨ (kd = 2 ∧ st = 0 ∧ hh = 4) ∨ (kd = 2 ∧ st = 1 ∧ hh = 5) ∨ ((kd = 0 ∨ kd = 3) ∧ (st = 0 ∨ st = 1) ∧ hh = 0)) (hv : v = 2 ∨ v = 3 ∨ v = 4 ∨ v = 5) :
    (decide (kd = 3 - mf_idiv (nI v) 2) && decide (st = mf_irem (nI v) 2)) = ((v == 2 && hh == 4) || (v == 4 && hh == 2) || (v == 3 && hh == 5) || (v == 5 && hh == 3)) := by
  rcases hk with ⟨rfl, rfl, rfl⟩ | ⟨rfl, rfl, rfl⟩ | ⟨rfl, rfl, rfl⟩ | ⟨rfl, rfl, rfl⟩ | ⟨rfl | rfl, rfl | rfl, rfl⟩ <;> rcases hv with rfl | rfl | rfl | rfl <;> decide
theorem prv_hv {kd st : Int32} {hh : Nat} (hk : (kd = 1 ∧ st = 0 ∧ hh = 2) ∨ (kd = 1 ∧ st = 1 ∧ hh = 3) ∨ (kd = 2 ∧ st = 0 ∧ hh = 4) ∨ (kd = 2 ∧ st = 1 ∧ hh = 5) ∨ ((kd = 0 ∨ kd = 3) ∧ (st = 0 ∨ st = 1) ∧ hh = 0)) :
    (if kd = 1 ∨ kd = 2 then 2 * kd + st else 0) = nI hh ∧ (hh = 0 ∨ (2 ≤ hh ∧ hh ≤ 5)) := by
  rcases hk with ⟨rfl, rfl, rfl⟩ | ⟨rfl, rfl, rfl⟩ | ⟨rfl, rfl, rfl⟩ | ⟨rfl, rfl, rfl⟩ | ⟨rfl | rfl, rfl | rfl, rfl⟩ <;> decide
theorem fil_app {D : List (Int32 × Nat)} {x y : Int32} {hh : Nat} : (D ++ [(x, hh)]).filter (fun z => z.1 == y) = D.filter (fun z => z.1 == y) ++ (bif x == y then [(x, hh)] else []) := by
  rw [List.filter_append]
  cases h : x == y <;> simp [List.filter, h]
theorem any_fil {D : List (Int32 × Nat)} {x : Int32} : (D.any (fun y => y.1 == x) = false → D.filter (fun y => y.1 == x) = []) ∧ (D.any (fun y => y.1 == x) = true → D.filter (fun y => y.1 == x) ≠ []) := by
  refine ⟨fun h => ?_, fun h q => ?_⟩
  · rw [List.filter_eq_nil_iff]
    intro a ha
    rw [List.any_eq_false] at h
    exact h a ha
  · rw [List.filter_eq_nil_iff] at q
    rw [List.any_eq_true] at h
    obtain ⟨a, h1, h2⟩ := h
    exact q a h1 h2
theorem clN.add {es : hE} {D : List (Int32 × Nat)} {x : Int32} {hh : Nat} (h : clN es D) (hb : hh = 0 ∨ (2 ≤ hh ∧ hh ≤ 5)) : clN (bif (h_find es x).isSome then es else es ++ [(1, x)]) (D ++ [(x, hh)]) := by
  refine ⟨fun y => ?_, fun y hy => ?_⟩
  · rw [List.any_append]
    have h1 := h.1 y
    cases hf : (h_find es x).isSome with
    | true =>
      rw [cond_true, h1]
      cases c : x == y with
      | false => simp [c]
      | true =>
        have hx := h.1 x
        rw [hf, eq_of_beq c] at hx
        rw [← hx]; simp
    | false =>
      rw [cond_false, find_app (by decide)]
      cases hy : h_find es y with
      | some r => rw [hy] at h1; rw [← h1]; rfl
      | none =>
        rw [hy] at h1
        rw [← h1]
        cases c : x == y <;> simp [c]
  · rcases List.mem_append.mp hy with hy | hy
    · exact h.2 y hy
    · rw [List.mem_singleton.mp hy]; exact hb
end PRIV
section PRV2
variable {β : Type} {T : sT} {Sh : β → Nat → Int32 → mmS → Prop} {N : Int32 → mmS → Prop} {g : Nat} {w0 : cW} {m0 e0 : Nat} {θ : cTh} {l0 : Nat} {h : Nat} {w : cW} {m e : Nat} {σ : mmS} {j : Nat}
variable {a d : Nat} {Q : mmQ}
/-- a private name of the class: new, or the other half of one that is there -/
theorem St.prv {F : List (Int32 × Nat) → Nat → sR β} {es : hE} {L : hC} {A2 : Int × List Int32 × Nat × Nat} {D : List (Int32 × Nat)} {hh : Nat} {x kd sf : Int32} {C1 C2 K : Int32 → mmS → Prop} (hw : w_in w = w_in w0) (hN : ∀ u, cI T u → N 0 u) (st : St T Sh N g w0 m0 e0 θ l0 (fun n u => Q (.inl (some (.inl n))) u) false h w ((8, es) :: L, A2) m (e + 1) (s_b (s_b (s_w (sA_ok (s_prv D x hh)) () j) (fun _ k => s_w (sA_ev 7 x) (D ++ [(x, hh)]) k)) F) σ j) (hd : 3 ≤ d) (hsc : w_sc w < 2 ^ 31)
    (cp : clP θ.2.2.1 (w_sc w) D σ) (cn : clN es D) (hk : (kd = 1 ∧ sf = 0 ∧ hh = 2) ∨ (kd = 1 ∧ sf = 1 ∧ hh = 3) ∨ (kd = 2 ∧ sf = 0 ∧ hh = 4) ∨ (kd = 2 ∧ sf = 1 ∧ hh = 5) ∨ ((kd = 0 ∨ kd = 3) ∧ (sf = 0 ∨ sf = 1) ∧ hh = 0))
    (h1 : ∀ x4 u, mm_V (MC d) Q 3089 [.inr (.inr (3, a)), .inl x4, .inl kd, .inl sf] u (K x4) → C1 x4 u) (h2 : ∀ x2 u, mm_I (MC d) Q 3090 [.inr (.inr (3, a)), .inl x2, .inl kd, .inl sf] u (fun x8 v => mm_br (x8 = 0) (mm_I (MC d) Q 3025 [.inr (.inr (3, a))] v (fun x10 z => Q (.inl (some (.inl x10))) z)) (K x2 v)) → C2 x2 u)
    (kk : ∀ x2 u, St T Sh N g w0 m0 e0 θ l0 (fun n u => Q (.inl (some (.inl n))) u) false h w ((8, bif (h_find es x).isSome then es else es ++ [(1, x)]) :: L, A2) m e (F (D ++ [(x, hh)]) j) u j → Fr θ σ u → mm_f u 311 = mm_f σ 311 → (∀ k, 316 ≤ k → k ≤ 323 → mm_a u k = mm_a σ k) → fN u 315 = fN σ 315 → clP θ.2.2.1 (w_sc w) (D ++ [(x, hh)]) u → clN (bif (h_find es x).isSome then es else es ++ [(1, x)]) (D ++ [(x, hh)]) → K x2 u) :
    mm_I (MC d) Q 3031 [.inr (.inr (3, a)), .inl (mm_f σ 346), .inl x] σ (fun x2 σ1 => mm_br (x2 < 0) (mm_I (MC d) Q 3033 [.inr (.inr (3, a)), .inl (mm_f σ1 346), .inl x, .inl 7] σ1 C1) (C2 x2 σ1)) := by
  have hG := st.good
  have gd := hG.2.1
  have cps := hG.caps
  have lb := lnB.use hG.1
  obtain ⟨R, r1, r2, r3, -, -⟩ := hG.top hsc
  obtain ⟨R0, s1, s2, s3⟩ := id cp
  have eR : R0 (w_sc w) = R (w_sc w) := R_uni r1 s1 r2 (by omega)
  have e46 := hG.2.2.2.2.2.1.1
  obtain ⟨hv1, hv2⟩ := prv_hv hk
  obtain ⟨n, n1, n2⟩ := hG.2.2.2.2.2.2.2.2.2.2.2.2.2.2.2.2
  have he := hG.1.1.2.2.2.2.2.2.2.1
  have hj := hG.2.2.1.2
  have nb : n < 3000 := by omega
  have fn : fN σ 371 = n := by unfold fN; rw [n1, nI_clamp (by omega)]
  have tl : θ.2.2.1 ≤ n := by
    have : θ.2.2.1 ≤ fN σ 371 := (st.tl.1 gd).2.2.1
    omega
  obtain ⟨hva, hvb⟩ := hG.1.2.2.2.1.1.2
  have cn2 := cn.add (x := x) hv2
  rw [e46]
  refine c_findN (by omega) r1 r2 (fun hf => br_y (by decide) ?_) (fun r hr hx hf => br_n (nI_pos (by have := (r1.2.2.1 _ r2).2.2.1 r hr; omega)) (h2 _ _ ?_))
  · rw [r3] at hf
    have hf2 : (h_find es x).isSome = false := by rw [hf]; rfl
    have hD : D.any (fun y => y.1 == x) = false := (cn.1 x).symm.trans hf2
    rw [e46]
    refine c_add hd r1 r2 (by omega) (by omega) (by omega) (fun u o => h1 _ _ ?_)
    have dv := DV.add (T := T) (b := fN σ 324) lb.2.2 r2 o
    have dv2 := dv.up (c' := hl ((8, es) :: L)) hl_pos
    have fr := Fr.DV dv
    have f (k : Nat) (h4 : k ≠ 325) : mm_f u k = mm_f σ k := o.2.2.1 k h4
    have g5 : cG T w ((8, es ++ [(1, x)]) :: L, A2) m e u j := by
      obtain ⟨Rz, b, y1, y2, y3, y4, y5⟩ := hG.2.2.2.2.2.2.1
      have hs2 : ∃ k, nI (w_sc w) = nI k ∧ k < b ∧ k < fN σ 324 ∧ mm_a σ 327 k = 8 ∧ ens σ (Rz k) = es ∧ path σ Rz L (mm_a σ 326 k) k := by
        rw [e46] at y2
        exact y2
      obtain ⟨k, p1, p2, p3, p4, p5, p6⟩ := hs2
      have : w_sc w = k := nI_inj hsc (by omega) p1
      subst this
      have hRz : Rz (w_sc w) = R (w_sc w) := R_uni r1 y1 r2 (by omega)
      have sm : ∀ q, lsS q → sam σ u q := o.2.2.2.2.2.1
      have g26 : mm_a u 326 = mm_a σ 326 := (sm 326 ⟨Or.inr (by omega), by omega, by omega, by omega, by omega⟩).1
      have g27 : mm_a u 327 = mm_a σ 327 := (sm 327 ⟨Or.inr (by omega), by omega, by omega, by omega, by omega⟩).1
      have o5 := o.2.2.2.2.1
      have f324 : fN u 324 = fN σ 324 := fN_eq (f 324 (by decide))
      have pt : path u (Rad R (w_sc w) (fN σ 325)) ((8, es ++ [(cls 7, x)]) :: L) (mm_f σ 346) (fN σ 324) := by
        rw [e46]
        refine ⟨w_sc w, rfl, r2, by rw [f324]; exact r2, by rw [g27]; exact p4, ?_, ?_⟩
        · rw [o5 _ r2, if_pos rfl, r3]
        · rw [g26]
          refine path_same (σ := σ) (R := Rz) (c := w_sc w) f324 ⟨g26, g27⟩ (fun t t1 t2 => ?_) p6 (Nat.le_refl _)
          rw [o5 t t2, if_neg (by omega), R_uni r1 y1 t2 (by omega)]
      exact hG.DV (L2 := (8, es ++ [(cls 7, x)]) :: L) dv2 ⟨f 303 (by decide), f 311 (by decide)⟩ rfl pt
    have fu : fN u 371 = n := by rw [fN_eq (f 371 (by decide))]; exact fn
    have un : mm_f u 371 = nI n := (f 371 (by decide)).trans n1
    have fu5 : fN u 325 = fN σ 325 + 1 := o.2.1
    have su : ∀ q, 336 ≤ q → sam σ u q := fun q hq => o.2.2.2.2.2.1 q ⟨Or.inr (by omega), by omega, by omega, by omega, by omega⟩
    have a9 : mm_a u 369 = mm_a σ 369 := (su 369 (by decide)).1
    have a0 : mm_a u 370 = mm_a σ 370 := (su 370 (by decide)).1
    have hvN2 : hvN (hfS u n (nI (fN σ 325)) kd sf) := by
      have e5 : fN (hfS u n (nI (fN σ 325)) kd sf) 325 = fN σ 325 + 1 := (fN_eq (hfS_f (by decide))).trans fu5
      have e7 : fN (hfS u n (nI (fN σ 325)) kd sf) 371 = n + 1 := fN_hfS nb
      have w9 : ∀ k, mm_a (hfS u n (nI (fN σ 325)) kd sf) 369 k = if k = n then nI (fN σ 325) else mm_a σ 369 k := fun k => by
        show mm_a (mm_seta (mm_seta u 369 n (nI (fN σ 325))) 370 n _) 369 k = _
        rw [a_seta_n (by decide)]
        by_cases c : k = n
        · rw [c, a_seta_s, if_pos rfl]
        · rw [a_seta_i c, if_neg c, a9]
      refine ⟨fun k hk => ?_, fun k k' hk hk' q => ?_⟩
      · rw [e7] at hk
        rw [w9, e5]
        by_cases c : k = n
        · exact ⟨fN σ 325, by rw [if_pos c], by omega⟩
        · obtain ⟨r, q1, q2⟩ := hva k (by omega)
          exact ⟨r, by rw [if_neg c]; exact q1, by omega⟩
      · rw [e7] at hk hk'
        rw [w9, w9] at q
        by_cases c : k = n
        · by_cases c' : k' = n
          · rw [c, c']
          · rw [if_pos c, if_neg c'] at q
            obtain ⟨r, q1, q2⟩ := hva k' (by omega)
            rw [q1] at q
            have := nI_inj (by omega) (by omega) q
            omega
        · by_cases c' : k' = n
          · rw [if_neg c, if_pos c'] at q
            obtain ⟨r, q1, q2⟩ := hva k (by omega)
            rw [q1] at q
            have := nI_inj (by omega) (by omega) q
            omega
          · rw [if_neg c, if_neg c'] at q
            exact hvb k k' (by omega) (by omega) q
    have g6 : cG T w ((8, es ++ [(1, x)]) :: L, A2) m e (hfS u n (nI (fN σ 325)) kd sf) j := g5.hf hvN2 (by omega)
    have f6 : Fr θ σ (hfS u n (nI (fN σ 325)) kd sf) := (fr.mono st.tl.1).trans (Fr.hf un nb (fun _ => tl))
    have tle6 : tle (th σ) (th (hfS u n (nI (fN σ 325)) kd sf)) := by
      refine ⟨f6.nn, f6.2.2.2.2.1.2.2.2, (f6.2.2.2.2.2.2.2 g6.2.1).1, ?_⟩
      show fN σ 356 ≤ fN (hfS u n (nI (fN σ 325)) kd sf) 356
      rw [fN_eq (hfS_f (by decide)), fN_eq (f 356 (by decide))]
      exact Nat.le_refl _
    have hp : s_prv D x hh = true := by
      unfold s_prv
      rw [any_fil.1 hD]
    refine c_half (by omega) g5.1 un nb ?_
    have st6 := st.acc (v := D ++ [(x, hh)]) (i' := j) (B := ((8, es ++ [(1, x)]) :: L, A2)) (h' := h) (m' := m) (e' := e) (u := hfS u n (nI (fN σ 325)) kd sf) (by rw [run_prvs, hp, cond_true, hf2, cond_false]) f6 tle6 (Nat.le_refl _) g6
    rw [hf2, cond_false] at kk cn2
    have o5 := o.2.2.2.2.1 _ r2
    rw [if_pos rfl] at o5
    have oR : Rad R (w_sc w) (fN σ 325) (w_sc w) = R (w_sc w) ++ [fN σ 325] := by unfold Rad; rw [if_pos rfl]
    have gr := o.2.2.2.1.2
    have nm : mm_a u 332 (fN σ 325) = x := by
      rw [oR] at o5
      unfold ens at o5
      rw [List.map_append] at o5
      have := (List.append_inj' o5 rfl).2
      simp only [List.map_cons, List.map_nil, List.cons.injEq, Prod.mk.injEq, and_true] at this
      exact this.2
    have e332 : ∀ r ∈ R (w_sc w), mm_a u 332 r = mm_a σ 332 r := fun r hr => (gr.2 r ((r1.2.2.1 _ r2).2.2.1 r hr)).1
    have vr : ∀ k, k ≠ 369 → k ≠ 370 → mm_a (hfS u n (nI (fN σ 325)) kd sf) k = mm_a u k := fun k q1 q2 => hfS_a q1 q2
    have nex : ∀ r ∈ R (w_sc w), ¬ mm_a σ 332 r = x := fun r hr q => by
      have := (s2 r (by rw [eR]; exact hr)).1
      rw [q, hD] at this
      exact nomatch this
    refine kk _ _ st6 f6 ((hfS_f (by decide)).trans (f 311 (by decide))) (fun k k1 k2 => ?_) ?_ ?_ cn2
    · rw [vr k (by omega) (by omega)]
      exact (o.2.2.2.2.2.1 k ⟨Or.inr (by omega), by omega, by omega, by omega, by omega⟩).1
    · rw [fN_eq (hfS_f (by decide)), fN_eq (f 315 (by decide))]
    · refine ⟨Rad R (w_sc w) (fN σ 325), o.1.of (hfS_f (by decide)) (hfS_f (by decide)) (fun k k1 k2 => ⟨vr k (by omega) (by omega), rfl⟩), fun r hr => ?_, fun r hr r' hr' q => ?_⟩
      · rw [oR] at hr
        rw [vr 332 (by decide) (by decide)]
        have e7 : fN (hfS u n (nI (fN σ 325)) kd sf) 371 = n + 1 := fN_hfS nb
        have v9 : ∀ k, k ≠ n → mm_a (hfS u n (nI (fN σ 325)) kd sf) 369 k = mm_a σ 369 k ∧ mm_a (hfS u n (nI (fN σ 325)) kd sf) 370 k = mm_a σ 370 k := fun k ne => by
          refine ⟨?_, ?_⟩
          · show mm_a (mm_seta (mm_seta u 369 n (nI (fN σ 325))) 370 n _) 369 k = _
            rw [a_seta_n (by decide), a_seta_i ne, a9]
          · show mm_a (mm_seta (mm_seta u 369 n (nI (fN σ 325))) 370 n _) 370 k = _
            rw [a_seta_i ne, a_seta_n (by decide), a0]
        rcases List.mem_append.mp hr with hr | hr
        · obtain ⟨t1, k, t2, t3, t4, t5⟩ := s2 r (by rw [eR]; exact hr)
          rw [e332 r hr]
          have ne : (x == mm_a σ 332 r) = false := beq_eq_false_iff_ne.mpr fun q => nex r hr q.symm
          have kn : k ≠ n := by omega
          refine ⟨by rw [List.any_append, t1]; rfl, k, t2, by omega, (v9 k kn).1.trans t4, ?_⟩
          rw [(v9 k kn).2, t5, fil_app, ne, cond_false, List.append_nil]
        · have hr := List.mem_singleton.mp hr
          subst hr
          rw [nm]
          refine ⟨by rw [List.any_append]; simp, n, tl, by omega, ?_, ?_⟩
          · show mm_a (mm_seta (mm_seta u 369 n (nI (fN σ 325))) 370 n _) 369 n = _
            rw [a_seta_n (by decide), a_seta_s]
          · show mm_a (mm_seta (mm_seta u 369 n (nI (fN σ 325))) 370 n _) 370 n = _
            rw [a_seta_s, hv1, fil_app, any_fil.1 hD, beq_self_eq_true, cond_true]
            rfl
      · rw [oR] at hr hr'
        rw [vr 332 (by decide) (by decide)] at q
        rcases List.mem_append.mp hr with hr | hr
        · rcases List.mem_append.mp hr' with hr' | hr'
          · rw [e332 r hr, e332 r' hr'] at q
            exact s3 r (by rw [eR]; exact hr) r' (by rw [eR]; exact hr') q
          · have hr' := List.mem_singleton.mp hr'
            subst hr'
            rw [e332 r hr, nm] at q
            exact absurd q (nex r hr)
        · have hr := List.mem_singleton.mp hr
          subst hr
          rcases List.mem_append.mp hr' with hr' | hr'
          · rw [e332 r' hr', nm] at q
            exact absurd q.symm (nex r' hr')
          · exact (List.mem_singleton.mp hr').symm
  · rw [r3] at hf
    obtain ⟨t1, k0, t2, t3, t4, t5⟩ := s2 r (by rw [eR]; exact hr)
    rw [hx] at t1 t5
    have no : ∀ v, cI T v → St T Sh N g w0 m0 e0 θ l0 (fun n u => Q (.inl (some (.inl n))) u) false h w ((8, es) :: L, A2) m (e + 1) (s_b (s_b (s_w (sA_ok (s_prv D x hh)) () j) (fun _ k => s_w (sA_ev 7 x) (D ++ [(x, hh)]) k)) F) v j → s_prv D x hh = false → mm_I (MC d) Q 3025 [.inr (.inr (3, a))] v (fun x10 z => Q (.inl (some (.inl x10))) z) := fun v hI st hp => by
      refine c_fail (by omega) hI.1 ?_
      have st2 := St_flN st (fun _ => by rw [run_b, run_prvs, hp]; rfl) (none : sR β) w ((8, es) :: L, A2) m e j
      exact st2.bad GD_fl (hN _ st2.ci)
    have Fr0 : Fr θ σ (mm_seta σ 370 k0 0) := Fr.h0 (fun _ => t2)
    refine c_pairs (k0 := k0) (by omega) hG.1 n1 (by omega) (by omega) t4 (fun k hk2 ne q => ne (hvb k k0 (by omega) (by omega) (q.trans t4.symm))) (fun z => br_y rfl (no σ hG.1 st ?_)) (fun z => ?_)
    · rw [t5] at z
      unfold s_prv
      cases hD : D.filter (fun y => y.1 == x) with
      | nil => exact absurd hD (any_fil.2 t1)
      | cons g0 t =>
        cases t with
        | cons g1 t => rfl
        | nil =>
          rw [hD] at z
          have z : nI g0.2 = 0 := z
          have hg : g0 ∈ D := by
            have : g0 ∈ D.filter (fun y => y.1 == x) := by rw [hD]; exact List.mem_cons_self
            exact (List.mem_filter.mp this).1
          rcases cn.2 g0 hg with q | q
          · show ((g0.2 == 2 && hh == 4) || (g0.2 == 4 && hh == 2) || (g0.2 == 3 && hh == 5) || (g0.2 == 5 && hh == 3)) = false
            rw [q]; rfl
          · exact absurd z (nI_ne0 (by omega) (by omega))
    · rw [t5] at z ⊢
      cases hD : D.filter (fun y => y.1 == x) with
      | nil => rw [hD] at z; exact absurd rfl z
      | cons g0 t =>
        cases t with
        | cons g1 t => rw [hD] at z; exact absurd rfl z
        | nil =>
          rw [hD] at z
          have z : ¬ nI g0.2 = 0 := z
          have hg : g0 ∈ D := by
            have : g0 ∈ D.filter (fun y => y.1 == x) := by rw [hD]; exact List.mem_cons_self
            exact (List.mem_filter.mp this).1
          have hv : g0.2 = 2 ∨ g0.2 = 3 ∨ g0.2 = 4 ∨ g0.2 = 5 := by
            rcases cn.2 g0 hg with q | q
            · rw [q] at z; exact absurd nI_0 z
            · omega
          have hp : s_prv D x hh = ((g0.2 == 2 && hh == 4) || (g0.2 == 4 && hh == 2) || (g0.2 == 3 && hh == 5) || (g0.2 == 5 && hh == 3)) := by
            unfold s_prv
            rw [hD]
          show (fun x8 v => mm_br (x8 = 0) (mm_I (MC d) Q 3025 [.inr (.inr (3, a))] v (fun x10 z => Q (.inl (some (.inl x10))) z)) (K (nI r) v)) (bI (decide (kd = 3 - mf_idiv (nI g0.2) 2) && decide (sf = mf_irem (nI g0.2) 2))) (mm_seta σ 370 k0 0)
          rw [prv_ar hk hv, ← hp]
          have g6 := hG.h0 (k0 := k0) (x := 0)
          refine br_0 (fun hz => no _ g6.1 (st.same Fr0 (fun _ => tle.rfl') (fun gd => st.tl.2 gd) (fun _ => g6) (fun c => absurd gd c.no)) hz) (fun hz => ?_)
          have st6 := st.acc (v := D ++ [(x, hh)]) (i' := j) (B := ((8, es) :: L, A2)) (h' := h) (m' := m) (e' := e) (u := mm_seta σ 370 k0 0) (by rw [run_prvs, hz, cond_true, hf, cond_true]) Fr0 tle.rfl' (Nat.le_refl _) (g6.mono (Nat.le_refl _) (Nat.le_succ _))
          rw [hf, cond_true] at kk cn2
          have n0 : ∀ k, k ≠ 370 → mm_a (mm_seta σ 370 k0 0) k = mm_a σ k := fun k q => a_seta_n q
          refine kk _ _ st6 Fr0 rfl (fun k k1 k2 => n0 k (by omega)) rfl ?_ cn2
          refine ⟨R0, s1.of rfl rfl (fun k k1 k2 => ⟨n0 k (by omega), rfl⟩), fun r' hr' => ?_, ?_⟩
          · obtain ⟨q1, k, q2, q3, q4, q5⟩ := s2 r' hr'
            rw [n0 332 (by decide)]
            refine ⟨by rw [List.any_append, q1]; rfl, k, q2, q3, by rw [n0 369 (by decide)]; exact q4, ?_⟩
            by_cases c : r' = r
            · subst c
              have : k = k0 := hvb k k0 (by omega) (by omega) (q4.trans t4.symm)
              subst this
              rw [a_seta_s, hx, fil_app, hD, beq_self_eq_true, cond_true]
              rfl
            · have kn : k ≠ k0 := fun e => by
                rw [e, t4] at q4
                have l1 := (s1.2.2.1 _ r2).2.2.1 r' hr'
                have l2 := (r1.2.2.1 _ r2).2.2.1 r hr
                exact c (nI_inj (by omega) (by omega) q4).symm
              have ne : (x == mm_a σ 332 r') = false := beq_eq_false_iff_ne.mpr fun e => c (s3 r' hr' r (by rw [eR]; exact hr) (by rw [hx, e]))
              rw [a_seta_i kn, q5, fil_app, ne, cond_false, List.append_nil]
          · rw [n0 332 (by decide)]
            exact s3
end PRV2
