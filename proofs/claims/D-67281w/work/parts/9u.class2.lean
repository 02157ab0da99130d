/-! PHASE 3. classAt() -/
/-- a class's reading, from within and from outside -/
theorem run_cl {A : cA} {L : hC} {r : sR (List (Int32 × Nat))} (h : ev (eK 7) r) : match run true ((8, []) :: L, A.2.1, A.2.2.1, A.2.2.2.1, A.2.2.2.2 + 1) r with
    | none => ∀ inn, run inn A (s_cl r) = none
    | some (_, j, B) => ∃ (a : hE) (pu : List Int32), B.1 = (8, a) :: L ∧ B.2.2.1 = A.2.2.1 ++ pu ∧ ∀ inn, run inn A (s_cl r) = bif inn || (pu.filter (fun x => !(h_find a x).isSome)).isEmpty then some (n_k 12, j, (A.1, B.2.1, A.2.2.1 ++ pu.filter (fun x => !(h_find a x).isSome), B.2.2.2.1, B.2.2.2.2)) else none := by
  cases hr : r with
  | none => exact fun _ => rfl
  | some z =>
    obtain ⟨D, j, cv, pu, nf, nc, ok, evs⟩ := z
    have h7 : ∀ x ∈ evs, x.1 = 7 := fun x hx => by
      have := (h D j _ hr x hx).1
      simpa [eK] using this
    obtain ⟨a, a1, a2⟩ := prv_run (c := 8) (L := L) evs [] h7
    have ef : evs.filter (fun x => !(x.1 == 7)) = [] := by
      rw [List.filter_eq_nil_iff]
      intro x hx
      rw [h7 x hx]; decide
    have ep : pu.filter (fun x => !evs.any (fun y => y.1 == 7 && y.2 == x)) = pu.filter (fun x => !(h_find a x).isSome) := List.filter_congr fun x _ => by rw [a2 x]; rfl
    have e1 : ∀ inn, run inn A (s_cl (some (D, j, cv, pu, nf, nc, ok, evs))) = bif ok && (inn || (pu.filter (fun x => !(h_find a x).isSome)).isEmpty) then some (n_k 12, j, (A.1, A.2.1 + cv, A.2.2.1 ++ pu.filter (fun x => !(h_find a x).isSome), A.2.2.2.1 + nf, A.2.2.2.2 + (nc + 1))) else none := fun inn => by
      show run inn A (some (n_k 12, j, cv, pu.filter (fun x => !evs.any (fun y => y.1 == 7 && y.2 == x)), nf, nc + 1, ok, evs.filter (fun x => !(x.1 == 7)))) = _
      rw [run_eq, A_st_eq, ef, ep]
      show ((bif ok && (inn || (pu.filter (fun x => !(h_find a x).isSome)).isEmpty) then _ else none).map _) = _
      cases ok && (inn || (pu.filter (fun x => !(h_find a x).isSome)).isEmpty) <;> rfl
    have e0 : run true ((8, []) :: L, A.2.1, A.2.2.1, A.2.2.2.1, A.2.2.2.2 + 1) (some (D, j, cv, pu, nf, nc, ok, evs)) = bif ok then some (D, j, ((8, a) :: L, A.2.1 + cv, A.2.2.1 ++ pu, A.2.2.2.1 + nf, A.2.2.2.2 + 1 + nc)) else none := by
      rw [run_eq, A_st_eq]
      show ((bif ok && (true || pu.isEmpty) then (h_run evs ((8, []) :: L)).map _ else none).map _) = _
      rw [a1]
      cases ok <;> rfl
    rw [e0]
    cases ok with
    | false => exact fun inn => e1 inn
    | true =>
      refine ⟨a, pu, rfl, rfl, fun inn => ?_⟩
      rw [e1 inn]
      show _ = bif _ then some (n_k 12, j, (A.1, A.2.1 + cv, _, A.2.2.2.1 + nf, A.2.2.2.2 + 1 + nc)) else none
      rw [show A.2.2.2.2 + 1 + nc = A.2.2.2.2 + (nc + 1) by omega]
      rfl
section CLS
variable {T : sT} {g : Nat} {w : cW} {A : cA} {m e : Nat} {σ u : mmS} {i : Nat}
variable {ν a d : Nat} {Q : mmQ}
theorem fill_a {s k : Nat} {f : Nat → Int32} (h : k ≠ s) : mm_a (mm_fill u s f) k = mm_a u k := by
  show mm_up u.2.1 s f k = u.2.1 k
  unfold mm_up
  rw [if_neg h]
theorem fill_s {s : Nat} {f : Nat → Int32} : mm_a (mm_fill u s f) s = f := by
  show mm_up u.2.1 s f s = f
  unfold mm_up
  rw [if_pos rfl]
theorem fill_seta {s q : Nat} {f : Nat → Int32} {x : Int32} : mm_seta (mm_fill u s f) s q x = mm_fill u s (mm_up f q x) := by
  unfold mm_seta mm_fill
  refine Prod.ext rfl (Prod.ext (funext fun k => ?_) rfl)
  show (if k = s then mm_up (mm_up u.2.1 s f s) q x else mm_up u.2.1 s f k) = (if k = s then mm_up f q x else u.2.1 k)
  have e : mm_up u.2.1 s f s = f := if_pos rfl
  rw [e]
  by_cases c : k = s
  · rw [if_pos c, if_pos c]
  · rw [if_neg c, if_neg c]
    exact if_neg c
theorem fill_id {s : Nat} : mm_fill u s (mm_a u s) = u := by
  unfold mm_fill
  refine Prod.ext rfl (Prod.ext (funext fun k => ?_) rfl)
  show mm_up u.2.1 s (u.2.1 s) k = u.2.1 k
  unfold mm_up
  by_cases c : k = s
  · rw [if_pos c, c]
  · rw [if_neg c]
theorem cI.f363 {f : Nat → Int32} (h : cI T u) : cI T (mm_fill u 363 f) :=
  h.of (fun _ _ => rfl) rfl (fun k hk _ => fill_a (fun e => by rw [e] at hk; exact absurd hk (by decide))) (fun i _ q => by rw [fill_a (by decide)]; exact q) rfl rfl
theorem Fr.f363 {θ : cTh} {f : Nat → Int32} : Fr θ u (mm_fill u 363 f) :=
  have n (k : Nat) (hk : k ≠ 363) : mm_a (mm_fill u 363 f) k = mm_a u k := fill_a hk
  ⟨id, fun _ _ => rfl, ⟨rfl, gro.of (n 328 (by decide)) (n 332 (by decide)) (n 334 (by decide))⟩, fun k _ k2 => ⟨n k (fun e => by rw [e] at k2; exact absurd k2 (by decide)), rfl, rfl, rfl⟩, ⟨Nat.le_refl _, Nat.le_refl _, Nat.le_refl _, Nat.le_refl _⟩, fun t _ => ⟨by rw [n 326 (by decide)], by rw [n 327 (by decide)]⟩, fun t _ => ⟨by rw [n 337 (by decide)], by rw [n 339 (by decide)]⟩, fun _ => ⟨Nat.le_refl _, fun k k1 k2 i _ _ => by rw [n k (by omega)], fun j _ => ⟨by rw [n 338 (by decide)], by rw [n 342 (by decide)]⟩, fun k _ => ⟨by rw [n 369 (by decide)], by rw [n 370 (by decide)]⟩, fun k _ => ⟨by rw [n 361 (by decide)], by rw [n 362 (by decide)]⟩⟩⟩
/-- what is behind the loop over the private names asked for -/
def clsX (d a : Nat) (Q : mmQ) (v2 v6 : Int32) (v3 : Int64) (τ : mmS) : Prop := mm_br (mm_f τ 358 = 0) (mm_br ((0 : Int32) < mm_f τ 360) (mm_I (MC d) Q 3025 [.inr (.inr (3, a))] τ (fun x7 σ6 => mm_long (.inl x7) = false ∧ mm_V (MC d) Q 3088 [.inr (.inr (3, a)), .inr (.inl v3)] (mm_setf σ6 346 v2) (fun σ8 => Q (.inl (some (.inl v6))) σ8))) (mm_V (MC d) Q 3088 [.inr (.inr (3, a)), .inr (.inl v3)] (mm_setf τ 346 v2) (fun σ9 => Q (.inl (some (.inl v6))) σ9))) (mm_V (MC d) Q 3088 [.inr (.inr (3, a)), .inr (.inl v3)] (mm_setf τ 346 v2) (fun σ10 => Q (.inl (some (.inl v6))) σ10))
theorem flt_loop {R : Nat → List Nat} {s n : Nat} {v1 v2 v5 v6 v8 v9 : Int32} {v3 : Int64} {wv4 : Option mmV} (hI : cI T u) (r1 : stru u R) (hs : s < fN u 324) (hn : mm_f u 360 = nI n) (hb : n ≤ 1262) (hd : 1 ≤ d) : ∀ (suf acc : List Int32) (p : Nat) (f : Nat → Int32), p + suf.length = n → acc.length ≤ p → (∀ k, (h : k < acc.length) → f k = acc[k]) → (∀ k, (h : k < suf.length) → f (p + k) = suf[k]) →
    (∀ (f : Nat → Int32) (l2 : List Int32), l2 = acc ++ suf.filter (fun x => !(h_find (ens u (R s)) x).isSome) → l2.length ≤ n → (∀ k, (h : k < l2.length) → f k = l2[k]) → clsX d a Q v2 v6 v3 (mm_setf (mm_fill u 363 f) 360 (nI l2.length))) →
    mm_W mt3068 (MC d) Q (247, [some (.inr (.inr (3, a))), some (.inl v1), some (.inl v2), some (.inr (.inl v3)), wv4, some (.inl v5), some (.inl v6), some (.inl (nI s)), some (.inl v8), some (.inl v9), some (.inl (nI acc.length)), some (.inl (nI p))], []) (mm_fill u 363 f) := by
  have e363 : mm_n u 363 = 3002 := hI.2.2.2.2.2.2.1.2.2.1
  intro suf
  induction suf with
  | nil =>
    intro acc p f hp ha h1 h2 k
    refine b3068_247 _ _ _ _ _ _ _ _ _ _ _ _ _ _ _ (br_n (fun c => ?_) ?_)
    · have c : nI p < mm_f u 360 := c
      rw [hn] at c
      have := (nI_lt_iff (by simp at hp; omega) (by omega)).mp c
      simp at hp
      omega
    · exact k f acc (by simp) (by simp at hp; omega) h1
  | cons x t ih =>
    intro acc p f hp ha h1 h2 k
    have hp : p + (t.length + 1) = n := hp
    have fx : f p = x := h2 0 (by simp)
    have fm : mm_a (mm_fill u 363 f) 363 = f := fill_s
    refine b3068_247 _ _ _ _ _ _ _ _ _ _ _ _ _ _ _ (br_y (by show nI p < mm_f u 360; rw [hn]; exact (nI_lt_iff (by omega) (by omega)).mpr (by omega)) ?_)
    have st : stru (mm_fill u 363 f) R := r1.of rfl rfl (fun k k1 k2 => ⟨fill_a (by omega), rfl⟩)
    have en : ens (mm_fill u 363 f) (R s) = ens u (R s) := ens_same fun k _ => ⟨by rw [fill_a (by decide)], by rw [fill_a (by decide)]⟩
    have h2' : ∀ k, (h : k < t.length) → f (p + 1 + k) = t[k] := fun k hk => by
      have := h2 (k + 1) (by simp; omega)
      rw [show p + 1 + k = p + (k + 1) by omega, this]
      simp
    refine rd (σ := mm_fill u 363 f) e363 (by omega) (by decide) ?_
    rw [fm, fx]
    refine c_findN hd st hs (fun hf => br_y (by decide) ?_) (fun r hr hx hf => br_n (nI_pos (by have := (r1.2.2.1 _ hs).2.2.1 r hr; have := r1.2.1.2.1; have := r1.2.1.2.2.2.1; omega)) ?_)
    · refine rd (σ := mm_fill u 363 f) e363 (by omega) (by decide) ?_
      rw [fm, fx]
      refine wr (σ := mm_fill u 363 f) e363 (by omega) (by decide) ?_
      rw [fill_seta, nI_1, nI_1]
      rw [en] at hf
      have := ih (acc ++ [x]) (p + 1) (mm_up f acc.length x) (by omega) (by simp; omega) (fun k hk => ?_) (fun k hk => ?_) (fun f2 l2 hl => k f2 l2 (by rw [hl, List.filter_cons]; simp [hf]))
      · rw [List.length_append] at this
        exact this
      · unfold mm_up
        by_cases c : k = acc.length
        · subst c
          rw [if_pos rfl, List.getElem_append_right (Nat.le_refl _)]
          simp
        · rw [List.length_append] at hk
          simp only [List.length_cons, List.length_nil] at hk
          rw [if_neg c, List.getElem_append_left (by omega)]
          exact h1 k (by omega)
      · unfold mm_up
        rw [if_neg (by omega)]
        exact h2' k hk
    · rw [nI_1]
      rw [en] at hf
      exact ih acc (p + 1) f (by omega) (by omega) h1 h2' (fun f2 l2 hl => k f2 l2 (by rw [hl, List.filter_cons]; simp [hf]))
/-- within the class -/
def clI (u : mmS) : mmS := mm_setf (mm_setf u 358 (mm_f u 358 + 1)) 359 (mm_f (mm_setf u 358 (mm_f u 358 + 1)) 359 + 1)
def inW (w : cW) : cW := (w.1, true, w_nu w, w_B w, w_sc w, w_hr w, w_lb w, w_lk w, w_cl w + 1)
theorem clI_f {k : Nat} (h1 : k ≠ 358) (h2 : k ≠ 359) : mm_f (clI u) k = mm_f u k := (f_other h2).trans (f_other h1)
theorem cI.goC (h : cI T u) : cI T (clI u) := (h.setf rfl).setf rfl
theorem cG.goC (h : cG T w A (m + 1) e u i) (hs : w_cl w + w_nu w < 48) : cG T (inW w) (A.1, A.2.1, A.2.2.1, A.2.2.2.1, A.2.2.2.2 + 1) m e (clI u) i := by
  obtain ⟨h1, h2, h3, h4, h5, h6, h7, h8, h9, h10, ⟨k1, k2⟩, ⟨q1, q2, q3, q4⟩, cc1, cc2, cc3, cc4, cc5⟩ := h
  have f (j : Nat) (h1 : j ≠ 358) (h2 : j ≠ 359) : mm_f (clI u) j = mm_f u j := clI_f h1 h2
  have fe (j : Nat) (h1 : j ≠ 358) (h2 : j ≠ 359) := fN_eq (f j h1 h2)
  refine ⟨h1.goC, (f 303 (by decide) (by decide)).trans h2, by rw [f 311 (by decide) (by decide)]; exact h3, by rw [f 312 (by decide) (by decide)]; exact h4, h5.of (fun k k1 k2 => f k (by omega) (by omega)) rfl rfl rfl, by rw [f 346 (by decide) (by decide), f 347 (by decide) (by decide)]; exact h6, h7.of (f 324 (by decide) (by decide)) (f 325 (by decide) (by decide)) (f 346 (by decide) (by decide)) (fun _ _ _ => ⟨rfl, rfl⟩),
    by rw [f 313 (by decide) (by decide)]; exact h8, by rw [f 360 (by decide) (by decide)]; exact h9, by rw [fe 336 (by decide) (by decide), cntF_of (σ := u) (u := clI u) (fun _ _ => rfl)]; exact h10, ⟨?_, by show A.2.2.2.2 + 1 + m ≤ _; omega⟩, ⟨?_, by show w_cl w + 1 + w_nu w ≤ 48; omega, by show true = decide (0 < w_cl w + 1); simp, fun z => nomatch z⟩, ?_⟩
  · show mm_f (mm_setf (mm_setf u 358 (mm_f u 358 + 1)) 359 (mm_f (mm_setf u 358 (mm_f u 358 + 1)) 359 + 1)) 359 = _
    rw [f_same, f_other (by decide), k1, nI_1]
  · show mm_f (mm_setf (mm_setf u 358 (mm_f u 358 + 1)) 359 (mm_f (mm_setf u 358 (mm_f u 358 + 1)) 359 + 1)) 358 = _
    rw [f_other (by decide), f_same, q1, nI_1]
    rfl
  · unfold cC
    rw [fe 315 (by decide) (by decide), fe 324 (by decide) (by decide), fe 336 (by decide) (by decide), fe 325 (by decide) (by decide), f 371 (by decide) (by decide)]
    exact ⟨by omega, by omega, by omega, cc4, cc5⟩
/-- and behind it -/
def clU (u : mmS) (f : Nat → Int32) (q : Nat) : mmS := mm_setf (mm_fill (mm_setf u 358 (mm_f u 358 - 1)) 363 f) 360 (nI q)
theorem clU_f {f : Nat → Int32} {q k : Nat} (h1 : k ≠ 358) (h2 : k ≠ 360) : mm_f (clU u f q) k = mm_f u k := by
  unfold clU
  rw [f_other h2]
  exact f_other h1
theorem clU_a {f : Nat → Int32} {q k : Nat} (h : k ≠ 363) : mm_a (clU u f q) k = mm_a u k := by
  show mm_a (mm_fill (mm_setf u 358 (mm_f u 358 - 1)) 363 f) k = _
  rw [fill_a h]
  rfl
theorem cI.outC {f : Nat → Int32} {q : Nat} (h : cI T u) : cI T (clU u f q) := ((h.setf rfl).f363).setf rfl
theorem Fr.outC {θ : cTh} {f : Nat → Int32} {q : Nat} : Fr θ u (clU u f q) :=
  ((Fr.setf rfl (by decide) (by decide) (by decide) (by decide) (by decide) (by decide)).trans Fr.f363).trans (Fr.setf rfl (by decide) (by decide) (by decide) (by decide) (by decide) (by decide))
theorem cG.outC {f : Nat → Int32} {l2 : List Int32} (h : cG T (inW w) A m e u i) (hin : w_in w = decide (0 < w_cl w)) (hl : l2.length ≤ i) (hr : ∀ k, (h : k < l2.length) → f k = l2[k]) (h0 : w_in w = false → l2 = []) : cG T w (A.1, A.2.1, l2, A.2.2.2) m e (clU u f l2.length) i := by
  obtain ⟨h1, h2, h3, h4, h5, h6, h7, h8, h9, h10, h11, ⟨q1, q2, q3, q4⟩, hcc⟩ := h
  have fo (j : Nat) (h1 : j ≠ 358) (h2 : j ≠ 360) : mm_f (clU u f l2.length) j = mm_f u j := clU_f h1 h2
  have fe (j : Nat) (h1 : j ≠ 358) (h2 : j ≠ 360) := fN_eq (fo j h1 h2)
  have n (k : Nat) (h : k ≠ 363) : mm_a (clU u f l2.length) k = mm_a u k := clU_a h
  have q2 : w_cl w + 1 + w_nu w ≤ 48 := q2
  refine ⟨h1.outC, (fo 303 (by decide) (by decide)).trans h2, by rw [fo 311 (by decide) (by decide)]; exact h3, by rw [fo 312 (by decide) (by decide)]; exact h4, h5.of (fun k k1 k2 => fo k (by omega) (by omega)) (by rw [n 337 (by decide)]) (n 361 (by decide)) (n 362 (by decide)), by rw [fo 346 (by decide) (by decide), fo 347 (by decide) (by decide)]; exact h6, h7.of (fo 324 (by decide) (by decide)) (fo 325 (by decide) (by decide)) (fo 346 (by decide) (by decide)) (fun k k1 k2 => ⟨n k (by omega), rfl⟩),
    by rw [fo 313 (by decide) (by decide)]; exact h8, ⟨?_, hl, fun k hk => ?_⟩, by rw [fe 336 (by decide) (by decide), cntF_of (σ := u) (fun k _ => by rw [n 337 (by decide)])]; exact h10, by rw [fo 359 (by decide) (by decide)]; exact h11, ⟨?_, by omega, hin, h0⟩, ?_⟩
  · unfold clU
    exact f_same
  · show mm_a (mm_fill (mm_setf u 358 (mm_f u 358 - 1)) 363 f) 363 k = _
    rw [fill_s]
    exact hr k hk
  · have q1 : mm_f u 358 = nI (w_cl w + 1) := q1
    have : mm_f (clU u f l2.length) 358 = mm_f u 358 - 1 := by
      unfold clU
      rw [f_other (by decide)]
      show mm_f (mm_setf u 358 (mm_f u 358 - 1)) 358 = _
      exact f_same
    rw [this, q1, nI_pred]
  · unfold cC
    rw [fe 315 (by decide) (by decide), fe 324 (by decide) (by decide), fe 336 (by decide) (by decide), fe 325 (by decide) (by decide), fo 371 (by decide) (by decide)]
    exact hcc
theorem cB.outC {f : Nat → Int32} {q : Nat} (h : cB T g u) (hq : q ≤ 1262) : cB T g (clU u f q) := by
  obtain ⟨h1, h2, ⟨p, p1, p2, p3, p4, p5, p6, p7⟩, -⟩ := h
  have fe (j : Nat) (h1 : j ≠ 358) (h2 : j ≠ 360) := fN_eq (clU_f (u := u) (f := f) (q := q) h1 h2)
  refine ⟨h1.outC, (clU_f (by decide) (by decide)).trans h2, ⟨p, (clU_f (by decide) (by decide)).trans p1, p2, p3, by rw [fe 315 (by decide) (by decide)]; exact p4, by rw [fe 324 (by decide) (by decide)]; exact p5, by rw [fe 336 (by decide) (by decide)]; exact p6, by rw [fe 325 (by decide) (by decide)]; exact p7⟩, q, ?_, hq⟩
  unfold clU
  exact f_same
/-- the class's node is one of class -/
def clK (k : Nat) (u : mmS) : Prop := mm_a u 316 k = 12 ∧ mm_a u 322 k = 0 ∧ mm_a u 323 k = 0
def s_clB (T : sT) (E : sE) (cx : sC) (heir : Bool) (j : Nat) : sR (List (Int32 × Nat)) := s_b (s_nd T 0 j) (fun _ k => s_clsL T E cx heir (t_e T + 1) false [] k)
theorem ev_clB {E : sE} (hE : EvE E) {cx : sC} {heir : Bool} {j : Nat} : ev (eK 7) (s_clB T E cx heir j) := ev_b ev_nd fun _ _ => ev_clsL hE _ _ _ _
/-- what is told of a class's names fits, member by member -/
def okD (D : List (Int32 × Nat)) (r : sR (Bool × List (Int32 × Nat))) : Prop := ∀ (inn : Bool) (es : hE) (L : hC) (A2 : Int × List Int32 × Nat × Nat) (b : Bool × List (Int32 × Nat)) (j : Nat) (B : cA), clN es D → run inn ((8, es) :: L, A2) r = some (b, j, B) → ∃ es', B.1 = (8, es') :: L ∧ clN es' b.2
theorem okD_none {D : List (Int32 × Nat)} : okD D none := fun _ _ _ _ _ _ _ _ h => nomatch h
theorem okD_r {D : List (Int32 × Nat)} {ct : Bool} {j : Nat} : okD D (s_r (ct, D) j) := fun inn es L A2 b j B h e => by
  rw [run_r] at e
  simp only [Option.some.injEq, Prod.mk.injEq] at e
  obtain ⟨rfl, -, rfl⟩ := e
  exact ⟨es, rfl, h⟩
theorem okD_i {D : List (Int32 × Nat)} {c : Bool} {r1 r2 : sR (Bool × List (Int32 × Nat))} (h1 : okD D r1) (h2 : okD D r2) : okD D (bif c then r1 else r2) := by
  cases c
  · exact h2
  · exact h1
theorem okD_b {β : Type} {D : List (Int32 × Nat)} {r : sR β} {f : β → Nat → sR (Bool × List (Int32 × Nat))} (h : ev eN r) (hf : ∀ v j, okD D (f v j)) : okD D (s_b r f) := fun inn es L A2 b j B hc e => by
  rw [run_b] at e
  cases hr : run inn ((8, es) :: L, A2) r with
  | none => rw [hr] at e; exact nomatch e
  | some z =>
    obtain ⟨v, k, B1⟩ := z
    rw [hr] at e
    have e1 := run_nev1 h hr
    have e : run inn B1 (f v k) = some (b, j, B) := e
    rw [show B1 = ((8, es) :: L, B1.2) from Prod.ext e1 rfl] at e
    exact hf v k inn es L B1.2 b j B hc e
theorem s_mhh_b {gs : Nat} {fixed : Bool} (h : gs ≤ 2) : s_mhh gs fixed = 0 ∨ (2 ≤ s_mhh gs fixed ∧ s_mhh gs fixed ≤ 5) := by
  have : gs = 0 ∨ gs = 1 ∨ gs = 2 := by omega
  rcases this with rfl | rfl | rfl <;> cases fixed <;> decide
theorem okD_mtail {E : sE} (hE : EvE E) {heir ct fixed gen asy lit : Bool} {gs j : Nat} {x : Int32} {D : List (Int32 × Nat)} : okD D (s_mtail T E heir ct fixed gen asy gs lit x D j) :=
  okD_i (okD_b (ev_i ev_fn ev_r) fun _ _ => okD_b ev_semi fun _ _ => okD_r) (okD_i (okD_i okD_none (okD_b ev_plain fun _ _ => okD_r)) (okD_b ev_plain fun _ _ => okD_r))
theorem okD_mrest {E : sE} (hE : EvE E) {heir ct fixed gen asy hid lit : Bool} {gs k : Nat} {x : Int32} {D : List (Int32 × Nat)} (hg : gs ≤ 2) : okD D (s_mrest T E heir ct fixed gen asy gs hid lit x D k) := by
  rw [s_mrest_eq]
  refine okD_i okD_none ?_
  cases hid with
  | false =>
    rw [cond_false, s_b_r]
    exact okD_mtail hE
  | true =>
    intro inn es L A2 b j B hc e
    rw [cond_true, run_b, run_prvs] at e
    cases hp : s_prv D x (s_mhh gs fixed) with
    | false => rw [hp] at e; exact nomatch e
    | true =>
      rw [hp] at e
      exact okD_mtail hE inn _ L A2 b j B (hc.add (s_mhh_b hg)) e
theorem t_gs2 {j : Nat} : t_gs T j ≤ 2 := by
  unfold t_gs
  cases t_isk T (j + 1) <;> cases t_wd T j 49 <;> cases t_wd T j 51 <;> decide
theorem okD_member2 {E : sE} (hE : EvE E) {cx : sC} {heir ct fixed : Bool} {D : List (Int32 × Nat)} : okD D (s_member2 T E cx heir ct fixed D i) := by
  have hg : ∀ (c : Bool) j, (bif c then 0 else t_gs T j) ≤ 2 := fun c j => by
    cases c
    · exact t_gs2
    · exact Nat.zero_le _
  rw [s_member2_eq]
  exact okD_i okD_none (okD_i (okD_i okD_none (okD_mrest hE (hg _ _))) (okD_b (ev_key hE) fun _ _ => okD_mrest hE (hg _ _)))
theorem okD_member {E : sE} (hE : EvE E) {cx : sC} {heir ct : Bool} {D : List (Int32 × Nat)} : okD D (s_member T E cx heir ct D i) := okD_i (okD_i (okD_b ev_fn fun _ _ => okD_r) (okD_member2 hE)) (okD_member2 hE)
/-- the members of a class -/
theorem cls_loop {θ : cTh} {m0 l0 ty : Nat} {heir : Bool} {v1 v2 v5 v7 v8 : Int32} {v3 : Int64} {wv4 : Option mmV} (hI : cIt T ν) (hEl : cEl T ν) (hRs : cRst T ν) (ih : cAsg T ν) (hw : w_nu w = ν) (hd : 50 * ν + 27 ≤ d) (hq : g + 310 ≤ GQ ν) (hsc : w_sc w < 2 ^ 31) (ty1 : 1 ≤ ty) (f : Nat) : ∀ (b : Bool) (h : Nat) (A : cA) (m j : Nat) (σ : mmS) (ct : Bool) (D : List (Int32 × Nat)) (es : hE) (L : hC) (v9 : Int32) (wv10 wv11 : Option mmV), (GD σ → 4 ≤ h) → (GD σ → l0 ≤ j) → (GD σ → t_e T < f + j) → 24 ≤ m → m0 ≤ m → ty < fN σ 315 → (GD σ → θ.1 ≤ ty) → (GD σ → A.1 = (8, es) :: L ∧ clN es D ∧ clP θ.2.2.1 (w_sc w) D σ ∧ clR ty heir ct σ) → (¬ v9 = 0 → ∃ kx, v9 = nI kx ∧ kx < fN σ 315 ∧ (GD σ → ty < kx)) →
    St T (fun (_ : List (Int32 × Nat)) _ _ u => clK ty u) any2 g w m0 e θ l0 (fun _ u => ∀ (v9 : Int32), mm_W mt3068 (MC d) Q (247, [some (.inr (.inr (3, a))), some (.inl v1), some (.inl v2), some (.inr (.inl v3)), wv4, some (.inl v5), some (.inl (nI ty)), some (.inl v7), some (.inl v8), some (.inl v9), some (.inl v8), some (.inl v8)], []) (mm_setf u 358 (mm_f u 358 - 1))) b h w A m e (s_clsL T (s_lv T ν) (w_x w).1 heir f ct D j) σ j →
    mm_W mt3068 (MC d) Q (148, [some (.inr (.inr (3, a))), some (.inl v1), some (.inl v2), some (.inr (.inl v3)), wv4, some (.inl v5), some (.inl (nI ty)), some (.inl v7), some (.inl v8), some (.inl v9), wv10, wv11], []) σ := by
  have hGQ := GQ_le ν
  have hEv := ev_lv (T := T) ν
  -- where it is bad
  have bad : ∀ (b : Bool) (h : Nat) (A : cA) (m j : Nat) (r : sR (List (Int32 × Nat))) (σ : mmS) (v9 : Int32) (wv10 wv11 : Option mmV), ¬ GD σ → St T (fun (_ : List (Int32 × Nat)) _ _ u => clK ty u) any2 g w m0 e θ l0 (fun _ u => ∀ (v9 : Int32), mm_W mt3068 (MC d) Q (247, [some (.inr (.inr (3, a))), some (.inl v1), some (.inl v2), some (.inr (.inl v3)), wv4, some (.inl v5), some (.inl (nI ty)), some (.inl v7), some (.inl v8), some (.inl v9), some (.inl v8), some (.inl v8)], []) (mm_setf u 358 (mm_f u 358 - 1))) b h w A m e r σ j → mm_W mt3068 (MC d) Q (224, [some (.inr (.inr (3, a))), some (.inl v1), some (.inl v2), some (.inr (.inl v3)), wv4, some (.inl v5), some (.inl (nI ty)), some (.inl v7), some (.inl v8), some (.inl v9), wv10, wv11], []) σ := fun b h A m j r σ v9 wv10 wv11 ng st => by
    refine b3068_224 _ _ _ _ _ _ _ _ _ _ _ _ _ _ _ (St.need (s := 1) (f := fun _ k => s_r [] k) (st.bd (β' := Unit) ng Fr.rfl' (fun z => z) (h' := h) (w' := w) (A' := A) (m' := m) (e' := e) (i' := j)) (by omega) (fun u st hf _ => ?_))
    exact st.bad (n := 0) (fun z => ng (hf.1 z)) trivial v9
  induction f with
  | zero =>
    intro b h A m j σ ct D es L v9 wv10 wv11 hh hl hf hm hm0 ty2 tyo hv ho st
    refine b3068_148 _ _ _ _ _ _ _ _ _ _ _ _ _ _ _ (st.wrong (fun gd st => ?_) (fun ng => bad b h A m j _ σ v9 wv10 wv11 ng st))
    have := hf gd
    have := (st.gd gd).2.2.1.2
    omega
  | succ f IH =>
    intro b h A m j σ ct D es L v9 wv10 wv11 hh hl hf hm hm0 ty2 tyo hv ho st
    refine b3068_148 _ _ _ _ _ _ _ _ _ _ _ _ _ _ _ (st.wrong (fun gd st => ?_) (fun ng => bad b h A m j _ σ v9 wv10 wv11 ng st))
    have st := st.mono (hh gd)
    obtain ⟨hA, hN, hP, hC⟩ := hv gd
    have hl := hl gd
    have hf := hf gd
    have tyo := tyo gd
    refine st.sign (by omega) (fun z1 => ?_) (fun z1 _ => ?_)
    · refine st.eat (by omega) (fun z8 => ?_) (fun u2 z8 st2 f2 => ?_)
      · have st3 := st.rw (r' := s_b (s_member T (s_lv T ν) (w_x w).1 heir ct D j) (fun b k => s_clsL T (s_lv T ν) (w_x w).1 heir f b.1 b.2 k)) (fun _ => by rw [s_clsL, z1 gd, z8 gd]; rfl)
        have tl := st.tl.1 gd
        refine St.callR (h := 4) (c := 0) (s := 1) (bb := false) (m' := m) (e' := e) (θ1 := θ) (Sh' := fun _ => shMb θ w ty heir) (N' := nid) (r1 := s_member T (s_lv T ν) (w_x w).1 heir ct D) (fun en kk => en.elim (fun hG => c_member hI hEl hRs ih hw hd (by omega) hm hG hA hP hN hC hsc tl tyo ty1 ty2 kk) (fun z => absurd z.1 Bool.false_ne_true)) (ct, D) st3 (fun z => z) rfl (fun _ => tle.rfl') (fun v j3 B q x6 u3 st4 f4 hj4 hr hsh hn => ?_)
        · have l4 := f4.nn
          have inv : GD u3 → ∃ es', B.1 = (8, es') :: L ∧ clN es' v.2 := fun gd3 => by
            have hr := hr gd3
            rw [show A = ((8, es) :: L, A.2) from Prod.ext hA rfl] at hr
            exact okD_member hEv (w_in w) es L A.2 v j3 B hN hr
          have hx : ∃ kx, x6 = nI kx ∧ kx < fN u3 315 ∧ (GD u3 → ¬ x6 = 0 → ty < kx) := by
            by_cases gd3 : GD u3
            · rcases (hsh gd3).1 with q | ⟨kx, q1, q2, q3⟩
              · exact ⟨0, by rw [q, nI_0], by omega, fun _ z => absurd q z⟩
              · exact ⟨kx, q1, q3, fun _ _ => q2⟩
            · obtain ⟨kx, q1, q2⟩ := hn gd3
              exact ⟨kx, q1, q2, fun z => absurd z gd3⟩
          obtain ⟨kx, x1, x2, x3⟩ := hx
          have ho3 : ¬ v9 = 0 → ∃ kx, v9 = nI kx ∧ kx < fN u3 315 ∧ (GD u3 → ty < kx) := fun z => by
            obtain ⟨ky, y1, y2, y3⟩ := ho z
            exact ⟨ky, y1, by omega, fun gd3 => y3 (f4.1 gd3)⟩
          have next : ∀ (u5 : mmS) (v9' : Int32) (wv10 : Option mmV), (GD u5 → GD u3) → fN u5 315 = fN u3 315 → (GD u5 → clP θ.2.2.1 (w_sc w) v.2 u5 ∧ clR ty heir v.1 u5) → (¬ v9' = 0 → ∃ kx, v9' = nI kx ∧ kx < fN u5 315 ∧ (GD u5 → ty < kx)) →
              St T (fun (_ : List (Int32 × Nat)) _ _ u => clK ty u) any2 g w m0 e θ l0 (fun _ u => ∀ (v9 : Int32), mm_W mt3068 (MC d) Q (247, [some (.inr (.inr (3, a))), some (.inl v1), some (.inl v2), some (.inr (.inl v3)), wv4, some (.inl v5), some (.inl (nI ty)), some (.inl v7), some (.inl v8), some (.inl v9), some (.inl v8), some (.inl v8)], []) (mm_setf u 358 (mm_f u 358 - 1))) true 4 w B (m + q) e (s_clsL T (s_lv T ν) (w_x w).1 heir f v.1 v.2 j3) u5 j3 →
              mm_W mt3068 (MC d) Q (148, [some (.inr (.inr (3, a))), some (.inl v1), some (.inl v2), some (.inr (.inl v3)), wv4, some (.inl v5), some (.inl (nI ty)), some (.inl v7), some (.inl v8), some (.inl v9'), wv10, wv11], []) u5 := fun u5 v9' wv10 g5 e5 hv5 ho5 st5 => by
            by_cases gd5 : GD u5
            · obtain ⟨es', i1, i2⟩ := inv (g5 gd5)
              exact IH true 4 B (m + q) j3 u5 v.1 v.2 es' L v9' wv10 wv11 (fun _ => Nat.le_refl _) (fun _ => by have := hj4 (g5 gd5); omega) (fun _ => by have := hj4 (g5 gd5); omega) (by omega) (by omega) (by omega) (fun _ => tyo) (fun _ => ⟨i1, i2, hv5 gd5⟩) ho5 st5
            · exact IH true 4 B (m + q) j3 u5 v.1 v.2 es L v9' wv10 wv11 (fun _ => Nat.le_refl _) (fun z => absurd z gd5) (fun z => absurd z gd5) (by omega) (by omega) (by omega) (fun z => absurd z gd5) (fun z => absurd z gd5) ho5 st5
          refine br_p (fun c6 => ?_) (fun c6 => br_p (fun c9 => ?_) (fun c9 => ?_))
          · exact next u3 v9 _ id rfl (fun gd3 => (hsh gd3).2) ho3 st4
          · refine st4.setn (k := ty) (by decide) (Or.inl (by decide)) rfl (by omega) (fun _ => tyo) (Or.inl ⟨by decide, by decide⟩) (fun st5 => ?_)
            refine next _ x6 _ id rfl (fun gd5 => ?_) (fun _ => ⟨kx, x1, x2, fun gd5 => x3 gd5 c6⟩) st5
            obtain ⟨p1, r1, r2, r3, r4, r5⟩ := (hsh gd5).2
            have n0 (s : Nat) (hs : s ≠ 319) : mm_a (mm_seta u3 319 ty x6) s = mm_a u3 s := a_seta_n hs
            exact ⟨p1.setn (Or.inl (by decide)), by rw [n0 316 (by decide)]; exact r1, by rw [n0 322 (by decide)]; exact r2, by rw [n0 323 (by decide)]; exact r3, by rw [n0 318 (by decide)]; exact r4, by rw [n0 320 (by decide)]; exact r5⟩
          · obtain ⟨ky, y1, y2, y3⟩ := ho3 c9
            refine st4.setn (k := ky) (by decide) (Or.inl (by decide)) y1 y2 (fun gd3 => by have := y3 gd3; omega) (Or.inl ⟨by decide, by decide⟩) (fun st5 => ?_)
            refine next _ x6 _ id rfl (fun gd5 => ?_) (fun _ => ⟨kx, x1, x2, fun gd5 => x3 gd5 c6⟩) st5
            obtain ⟨p1, r1, r2, r3, r4, r5⟩ := (hsh gd5).2
            have n0 (s : Nat) (hs : s ≠ 322) : mm_a (mm_seta u3 322 ky x6) s = mm_a u3 s := a_seta_n hs
            have := y3 gd5
            exact ⟨p1.setn (Or.inl (by decide)), by rw [n0 316 (by decide)]; exact r1, by rw [a_seta_i (by omega)]; exact r2, by rw [n0 323 (by decide)]; exact r3, by rw [n0 318 (by decide)]; exact r4, by rw [n0 320 (by decide)]; exact r5⟩
      · have hgs := st.gd gd
        have l2 := f2.nn
        refine IH false 4 A (m + 12) (j + 1) u2 ct D es L v9 _ _ (fun _ => Nat.le_refl _) (fun _ => by omega) (fun _ => by omega) (by omega) (by omega) (by omega) (fun _ => tyo) (fun gd2 => ?_) (fun z => ?_) (st2.rw fun gd2 => by rw [s_clsL, z1 gd, z8 gd]; rfl)
        · have hG1 := hgs
          have hG2 := st2.gd gd2
          rw [show A = ((8, es) :: L, A.2) from Prod.ext hA rfl] at hG1 hG2
          exact ⟨hA, hN, hP.mono hsc hG1 hG2 f2, hC.mono ty1 ty2 f2 gd2⟩
        · obtain ⟨ky, y1, y2, y3⟩ := ho z
          exact ⟨ky, y1, by omega, fun gd2 => y3 gd⟩
    · refine b3068_224 _ _ _ _ _ _ _ _ _ _ _ _ _ _ _ ?_
      have st2 := st.rw (r' := s_b (s_nd T 1 j) (fun _ k => s_r D k)) (fun _ => by rw [s_clsL, z1 gd, cond_true]; unfold s_nd; rw [z1 gd, cond_true, s_b_r])
      refine st2.need (by omega) (fun u3 st3 f3 _ => ?_)
      exact st3.ret (n := 0) (fun _ => rfl) (fun _ => rfl) (fun _ => by omega) 12 (fun _ => by omega) (fun _ => Nat.le_refl _) (fun gd3 => ⟨(hC.mono ty1 ty2 f3 gd3).1, (hC.mono ty1 ty2 f3 gd3).2.1, (hC.mono ty1 ty2 f3 gd3).2.2.1⟩) (fun _ => trivial) v9
theorem cB_low {τ : mmS} {n : Nat} (hI : cI T τ) (h3 : mm_f τ 303 = 1) (h11 : mm_f τ 311 = nI (t_e T)) (hc : fN τ 315 ≤ 15300 ∧ fN τ 324 ≤ 4000 ∧ fN τ 336 ≤ 2000 ∧ fN τ 325 ≤ 126500) (h60 : mm_f τ 360 = nI n) (hn : n ≤ 1262) (hg : g ≤ 69500) : cB T g τ := by
  have he : t_e T < 1262 := hI.1.2.2.2.2.2.2.2.1
  exact ⟨hI, h3, ⟨t_e T, h11, Nat.le_refl _, Or.inl (Nat.le_of_lt he), by rw [pot_e]; omega, by rw [pot_e]; omega, by rw [pot_e]; omega, by rw [pot_e]; omega⟩, n, h60, hn⟩
/-- the last state -/
def clE (σ τ : mmS) : mmS := kpS (mm_setf τ 346 (mm_f σ 346)) (kpt σ)
theorem clE_eq {τ : mmS} {x : Int32} : kpS (mm_setf (mm_setf τ 346 x) 347 (mm_f (mm_setf τ 346 x) 347)) (kpt σ) = kpS (mm_setf τ 346 x) (kpt σ) := by rw [setf_id rfl]
theorem Fr.outE {θ : cTh} {τ : mmS} : Fr θ τ (clE σ τ) := (Fr.setf rfl (by decide) (by decide) (by decide) (by decide) (by decide) (by decide)).trans Fr.kp
theorem cB.outE {τ : mmS} (h : cB T g τ) (I : cI T σ) (f : Fr (th σ) σ τ) : cB T g (clE σ τ) := by
  have I2 : cI T (mm_setf τ 346 (mm_f σ 346)) := I.s346 h.1 f
  unfold clE
  rw [← clE_eq]
  exact cB.fin h (by rw [clE_eq]; exact I2.kp)
theorem clsX_bad {τ : mmS} {v6 : Int32} (hb : cB T g τ) (I : cI T σ) (f : Fr (th σ) σ τ) (hd : 1 ≤ d) (k : ∀ v, cB T g v → Fr (th σ) σ v → fN τ 315 ≤ fN v 315 → Q (.inl (some (.inl v6))) v) : clsX d a Q (mm_f σ 346) v6 (kpt σ) τ := by
  have out : mm_V (MC d) Q 3088 [.inr (.inr (3, a)), .inr (.inl (kpt σ))] (mm_setf τ 346 (mm_f σ 346)) (fun σ9 => Q (.inl (some (.inl v6))) σ9) := c_keep hd (k (clE σ τ) (hb.outE I f) (f.trans Fr.outE) (Fr.outE (θ := th τ)).nn)
  refine br_p (fun _ => br_p (fun _ => ?_) (fun _ => out)) (fun _ => out)
  have hb2 := hb.again
  have f2 : Fr (th σ) σ (fl T τ) := f.trans Fr_fl
  exact c_fail hd hb.1.1 ⟨rfl, c_keep hd (k (clE σ (fl T τ)) (hb2.outE I f2) (f2.trans Fr.outE) ((Fr_fl (θ := th τ)).trans Fr.outE).nn)⟩
theorem cls_endB {s q8 : Nat} {v1 v5 v6 v9 : Int32} {wv4 : Option mmV} (hb : cB T g u) (I : cI T σ) (f : Fr (th σ) σ u) (hd : 1 ≤ d) (hs : s < fN u 324) (h8 : q8 ≤ 1262) (k : ∀ v, cB T g v → Fr (th σ) σ v → fN u 315 ≤ fN v 315 → Q (.inl (some (.inl v6))) v) :
    mm_W mt3068 (MC d) Q (247, [some (.inr (.inr (3, a))), some (.inl v1), some (.inl (mm_f σ 346)), some (.inr (.inl (kpt σ))), wv4, some (.inl v5), some (.inl v6), some (.inl (nI s)), some (.inl (nI q8)), some (.inl v9), some (.inl (nI q8)), some (.inl (nI q8))], []) (mm_setf u 358 (mm_f u 358 - 1)) := by
  obtain ⟨n, n1, n2⟩ := hb.2.2.2
  have fin : ∀ fr q, q ≤ 1262 → clsX d a Q (mm_f σ 346) v6 (kpt σ) (clU u fr q) := fun fr q hq => clsX_bad (hb.outC hq) I (f.trans Fr.outC) hd (fun v c1 c2 c3 => k v c1 c2 (Nat.le_trans (Fr.outC (θ := th u)).nn c3))
  have I0 : cI T (mm_setf u 358 (mm_f u 358 - 1)) := hb.1.setf rfl
  have m1 : mm_f (mm_setf u 358 (mm_f u 358 - 1)) 360 = nI n := (f_other (by decide)).trans n1
  have s1 : s < fN (mm_setf u 358 (mm_f u 358 - 1)) 324 := by rw [fN_eq (f_other (by decide))]; exact hs
  obtain ⟨R, r1⟩ := I0.2.2.1
  have fid : mm_fill (mm_setf u 358 (mm_f u 358 - 1)) 363 (mm_a u 363) = mm_setf u 358 (mm_f u 358 - 1) := fill_id (u := mm_setf u 358 (mm_f u 358 - 1)) (s := 363)
  by_cases c : q8 ≤ n
  · have t := flt_loop (Q := Q) (d := d) (a := a) (R := R) (s := s) (n := n) (v1 := v1) (v2 := mm_f σ 346) (v5 := v5) (v6 := v6) (v8 := nI q8) (v9 := v9) (v3 := kpt σ) (wv4 := wv4) I0 r1 s1 m1 n2 hd ((List.range (n - q8)).map (fun k => mm_a u 363 (q8 + k))) ((List.range q8).map (fun k => mm_a u 363 k)) q8 (mm_a u 363) (by rw [List.length_map, List.length_range]; omega) (by rw [List.length_map, List.length_range]; exact Nat.le_refl _) (fun k hk => by simp) (fun k hk => by simp) (fun fr l2 _ hl _ => fin fr l2.length (by omega))
    rw [List.length_map, List.length_range, fid] at t
    exact t
  · refine b3068_247 _ _ _ _ _ _ _ _ _ _ _ _ _ _ _ (br_n (fun z => ?_) ?_)
    · have z : nI q8 < mm_f (mm_setf u 358 (mm_f u 358 - 1)) 360 := z
      rw [m1] at z
      have := (nI_lt_iff (by omega) (by omega)).mp z
      omega
    · have := fin (mm_a u 363) q8 h8
      unfold clU at this
      rw [fid] at this
      exact this
theorem cls_endG {s8 s5 Bb m' e' j : Nat} {B : cA} {a8 es5 : hE} {pre pu : List Int32} {v1 v6 v9 : Int32} {wv4 : Option mmV} (hG : cG T w A m e σ i) (gG : cG T (inW (psW w Bb s8)) B m' e' u j) (f : Fr (th σ) σ u) (hB : B.1 = (8, a8) :: (5, es5) :: A.1) (hP : B.2.2.1 = pre ++ pu) (h0 : w_in w = false → pre = []) (h8 : s8 < 10000) (h5 : s5 < 10000) (r8 : mm_a u 326 s8 = nI s5) (r5 : mm_a u 326 s5 = mm_f σ 346) (hd : 1 ≤ d) (hq : g ≤ 69500)
    (kg : ∀ v, (w_in w || (pu.filter (fun x => !(h_find a8 x).isSome)).isEmpty) = true → cG T w (A.1, B.2.1, pre ++ pu.filter (fun x => !(h_find a8 x).isSome), B.2.2.2) m' e' v j → Fr (th σ) σ v → (∀ k, k ≠ 363 → mm_a v k = mm_a u k) → fN v 315 = fN u 315 → Q (.inl (some (.inl v6))) v) (kb : ∀ v, (w_in w || (pu.filter (fun x => !(h_find a8 x).isSome)).isEmpty) = false → cB T g v → Fr (th σ) σ v → fN u 315 ≤ fN v 315 → Q (.inl (some (.inl v6))) v) :
    mm_W mt3068 (MC d) Q (247, [some (.inr (.inr (3, a))), some (.inl v1), some (.inl (mm_f σ 346)), some (.inr (.inl (kpt σ))), wv4, some (.inl (nI s5)), some (.inl v6), some (.inl (nI s8)), some (.inl (nI pre.length)), some (.inl v9), some (.inl (nI pre.length)), some (.inl (nI pre.length))], []) (mm_setf u 358 (mm_f u 358 - 1)) := by
  have gI := gG.1
  have cp := gG.caps
  have cp0 := hG.caps
  have he : t_e T < 1262 := gI.1.2.2.2.2.2.2.2.1
  have hj := gG.2.2.1.2
  obtain ⟨u1, u2, u3⟩ := gG.2.2.2.2.2.2.2.2.1
  have hlen : B.2.2.1.length = pre.length + pu.length := by rw [hP, List.length_append]
  have e46 := hG.2.2.2.2.2.1.1
  have hin : w_in w = decide (0 < w_cl w) := hG.2.2.2.2.2.2.2.2.2.2.2.1.2.2.1
  have g58 : mm_f u 358 = nI (w_cl w + 1) := gG.2.2.2.2.2.2.2.2.2.2.2.1.1
  have g47 : mm_f u 347 = nI (w_hr w) := gG.2.2.2.2.2.1.2
  have gcl : w_cl w + w_nu w ≤ 48 := hG.2.2.2.2.2.2.2.2.2.2.2.1.2.1
  rw [show B = ((8, a8) :: (5, es5) :: A.1, B.2) from Prod.ext hB rfl] at gG
  obtain ⟨R, r1, r2, r3, -, -⟩ := gG.top (by show s8 < 2 ^ 31; omega)
  have r2 : s8 < fN u 324 := r2
  have r3 : ens u (R s8) = a8 := r3
  have I0 : cI T (mm_setf u 358 (mm_f u 358 - 1)) := gI.setf rfl
  have m1 : mm_f (mm_setf u 358 (mm_f u 358 - 1)) 360 = nI B.2.2.1.length := (f_other (by decide)).trans u1
  have s1 : s8 < fN (mm_setf u 358 (mm_f u 358 - 1)) 324 := by rw [fN_eq (f_other (by decide))]; exact r2
  have fid : mm_fill (mm_setf u 358 (mm_f u 358 - 1)) 363 (mm_a u 363) = mm_setf u 358 (mm_f u 358 - 1) := fill_id (u := mm_setf u 358 (mm_f u 358 - 1)) (s := 363)
  have st0 : stru (mm_setf u 358 (mm_f u 358 - 1)) R := r1.of (f_other (by decide)) (f_other (by decide)) (fun _ _ _ => ⟨rfl, rfl⟩)
  have en0 : ens (mm_setf u 358 (mm_f u 358 - 1)) (R s8) = a8 := r3
  have hrow : ∀ k, (h : k < pre.length + pu.length) → mm_a u 363 k = (pre ++ pu)[k]'(by rw [List.length_append]; exact h) := fun k hk => by
    have := u3 k (by omega)
    rw [this]
    simp only [hP]
  have t := flt_loop (Q := Q) (d := d) (a := a) (R := R) (s := s8) (n := B.2.2.1.length) (v1 := v1) (v2 := mm_f σ 346) (v5 := nI s5) (v6 := v6) (v8 := nI pre.length) (v9 := v9) (v3 := kpt σ) (wv4 := wv4) I0 st0 s1 m1 (by omega) hd pu pre pre.length (mm_a u 363) hlen.symm (Nat.le_refl _) (fun k hk => by rw [hrow k (by omega), List.getElem_append_left hk]) (fun k hk => by rw [hrow (pre.length + k) (by omega), List.getElem_append_right (by omega)]; simp) (fun fr l2 hl2 hl hr => ?_)
  · rw [fid] at t
    exact t
  · rw [en0] at hl2
    show clsX d a Q (mm_f σ 346) v6 (kpt σ) (clU u fr l2.length)
    have fU : Fr (th σ) σ (clU u fr l2.length) := f.trans Fr.outC
    have uf (k : Nat) (h1 : k ≠ 358) (h2 : k ≠ 360) : mm_f (clU u fr l2.length) k = mm_f u k := clU_f h1 h2
    have ue (k : Nat) (h1 : k ≠ 358) (h2 : k ≠ 360) := fN_eq (uf k h1 h2)
    have u58 : mm_f (clU u fr l2.length) 358 = nI (w_cl w) := by
      have : mm_f (clU u fr l2.length) 358 = mm_f u 358 - 1 := by
        unfold clU
        rw [f_other (by decide)]
        show mm_f (mm_setf u 358 (mm_f u 358 - 1)) 358 = _
        exact f_same
      rw [this, g58, nI_pred]
    have u60 : mm_f (clU u fr l2.length) 360 = nI l2.length := by
      unfold clU
      exact f_same
    cases hc : (w_in w || (pu.filter (fun x => !(h_find a8 x).isSome)).isEmpty) with
    | true =>
      have hz : w_in w = false → l2 = [] := fun z => by
        rw [z, Bool.false_or, List.isEmpty_iff] at hc
        rw [hl2, hc, h0 z]; rfl
      have gU := gG.outC (f := fr) (l2 := l2) hin (by omega) hr hz
      obtain ⟨R2, b2, y1, y2, -⟩ := gU.2.2.2.2.2.2.1
      have z46 : mm_f (clU u fr l2.length) 346 = nI s8 := (uf 346 (by decide) (by decide)).trans gG.2.2.2.2.2.1.1
      rw [z46] at y2
      have q1 := (path_pop y2 (by omega) (by rw [ue 324 (by decide) (by decide)]; omega)).2
      rw [clU_a (by decide), r8] at q1
      have q2 := (path_pop q1 (by omega) (by rw [ue 324 (by decide) (by decide)]; omega)).2
      rw [clU_a (by decide), r5, e46] at q2
      have gf := hG.fin gU ⟨rfl, rfl, rfl⟩ fU ⟨R2, _, y1, q2⟩
      have e47 : mm_f (mm_setf (clU u fr l2.length) 346 (nI (w_sc w))) 347 = nI (w_hr w) := by
        rw [f_other (by decide), uf 347 (by decide) (by decide)]
        exact g47
      rw [setf_id e47, ← e46] at gf
      have out : mm_V (MC d) Q 3088 [.inr (.inr (3, a)), .inr (.inl (kpt σ))] (mm_setf (clU u fr l2.length) 346 (mm_f σ 346)) (fun σ9 => Q (.inl (some (.inl v6))) σ9) := c_keep hd (kg _ hc (by rw [← hl2]; exact gf) (fU.trans Fr.outE) (fun k hk => clU_a (f := fr) (q := l2.length) hk) (by
        show fN (clE σ (clU u fr l2.length)) 315 = fN u 315
        have : mm_f (clE σ (clU u fr l2.length)) 315 = mm_f u 315 := by
          unfold clE
          rw [kpS_n (by decide), f_other (by decide), uf 315 (by decide) (by decide)]
        exact fN_eq this))
      refine br_p (fun c1 => br_p (fun c2 => ?_) (fun _ => out)) (fun _ => out)
      exfalso
      rw [u58] at c1
      have cl0 : w_cl w = 0 := by
        by_cases z : w_cl w = 0
        · exact z
        · exact absurd c1 (nI_ne0 (by omega) (by omega))
      have z : w_in w = false := by rw [hin, cl0]; rfl
      rw [u60, hz z] at c2
      exact absurd c2 (by decide)
    | false =>
      rw [Bool.or_eq_false_iff] at hc
      have cl0 : w_cl w = 0 := by
        have := hc.1
        rw [hin] at this
        have := of_decide_eq_false this
        omega
      have l2p : 0 < l2.length := by
        rw [hl2, List.length_append]
        have : (pu.filter (fun x => !(h_find a8 x).isSome)).length ≠ 0 := fun z => by
          rw [List.length_eq_zero_iff.mp z] at hc
          exact nomatch hc.2
        omega
      have hIu : cI T (clU u fr l2.length) := gI.outC
      refine br_y (by rw [u58, cl0, nI_0]) (br_y (by
        rw [u60, ← nI_0]
        exact (nI_lt_iff (by decide) (by omega)).mpr l2p) ?_)
      have hb : cB T g (fl T (clU u fr l2.length)) := cB_low (n := l2.length) ((hIu.setf rfl).setf rfl) fl_flags.1 fl_flags.2 ⟨by rw [fl_fN (by decide) (by decide), ue 315 (by decide) (by decide)]; omega, by rw [fl_fN (by decide) (by decide), ue 324 (by decide) (by decide)]; omega, by rw [fl_fN (by decide) (by decide), ue 336 (by decide) (by decide)]; omega, by rw [fl_fN (by decide) (by decide), ue 325 (by decide) (by decide)]; omega⟩ ((fl_f (by decide) (by decide)).trans u60) (by omega) hq
      have f2 : Fr (th σ) σ (fl T (clU u fr l2.length)) := fU.trans Fr_fl
      exact c_fail hd hIu.1 ⟨rfl, c_keep hd (kb (clE σ (fl T (clU u fr l2.length))) (by rw [hc.1, hc.2]; rfl) (hb.outE hG.1 f2) (f2.trans Fr.outE) (((Fr.outC (θ := th u)).trans (Fr_fl.trans Fr.outE)).nn))⟩
theorem s_class_eq {E : sE} {cx : sC} : s_class T E cx i = s_b (bif t_wd T i 14 then s_b (E.2.2.2.1 cx (i + 1)) (fun _ k => s_r true k) else s_r false i) (fun heir j => s_cl (s_clB T E cx heir j)) := rfl
theorem c_classAt {called : Int32} {K : Int32 → mmS → Prop} {X : Nat → mmS → Prop} (hI : cIt T ν) (hEl : cEl T ν) (hRs : cRst T ν) (ih : cAsg T ν) (ihl : cLft T ν) (hw : w_nu w = ν) (hsl : wSl w) (hd : 50 * ν + 28 ≤ d) (hq : g + 440 ≤ GQ ν) (hm : 24 ≤ m) (hcal : called = -1 ∨ ∃ k, called = nI k ∧ k < 2 ^ 31) (en : cG T w A (m + 10) (e + 1) σ i ∨ (cB T (g + 100) σ ∧ mm_f σ 311 = nI (t_e T)))
    (k : ∀ n u, Rs T (shN T ν σ) nid g w m e (th σ) i A (bif n_bad called then none else s_class T (s_lv T ν) (w_x w).1 i) σ n u → K n u) : mm_ci (MC d) 3068 [.inr (.inr (3, a)), .inl called] σ K X := by
  obtain ⟨d, rfl, hd⟩ := mc_pos (c := 50 * ν + 27) (by omega)
  have hGQ := GQ_le ν
  have hEv := ev_lv (T := T) ν
  refine mc_ci (P := mt3068) (L := 12) rfl rfl ⟨by decide, Nat.le_of_ble_eq_true rfl⟩ fun Q hK hX => b3068_0 _ _ _ _ _ _ _ _ _ _ _ _ _ _ _ ?_
  have hI0 : cI T σ := by
    rcases en with h | ⟨h, -⟩
    · exact h.1
    · exact h.1
  have n1 := hI0.2.1.2.1
  have hcap : fN σ 315 ≤ 85000 ∧ fN σ 324 ≤ 8750 := by
    rcases en with h | ⟨h, -⟩
    · have := h.caps; omega
    · obtain ⟨-, -, ⟨q, q1, q2, q3, q4, q5, -⟩, -⟩ := h; omega
  have enS : cG T w A (m + 10) (e + 1) σ i ∨ cB T (g + 100) σ := by
    rcases en with h | ⟨h, -⟩
    · exact Or.inl h
    · exact Or.inr h
  have st0 : St T (shN T ν σ) nid g w m e (th σ) i (fun n u => Q (.inl (some (.inl n))) u) true 100 w A (m + 10) (e + 1) (bif n_bad called then none else s_class T (s_lv T ν) (w_x w).1 i) σ i := by
    rcases enS with hG | hB
    · exact Or.inl ⟨hG, tle.rfl', by omega, fun n u rs => hK _ _ (k n u rs)⟩
    · exact Or.inr ⟨rfl, hB, fun n u f c hn => hK _ _ (k n u ⟨f, Or.inr ⟨Or.inr hB.no, c, hn⟩⟩)⟩
  have bad : n_bad called = true → mm_I (MC d) Q 3025 [.inr (.inr (3, a))] σ (fun x4 σ3 => Q (.inl (some (.inl x4))) σ3) := fun hz =>
    st0.fail (by omega) (fun _ => by rw [hz]; rfl) (fun u5 ng st5 hf5 => st5.bad ng (nid_0 st5.ci))
  refine br_p (fun c => bad (by rw [c]; rfl)) (fun c55 => br_p (fun c => bad (by rw [c]; rfl)) (fun c56 => ?_))
  have hnb : n_bad called = false := by
    unfold n_bad
    rw [beq_eq_false_iff_ne.mpr c55, beq_eq_false_iff_ne.mpr c56]; rfl
  have kk : ∀ n u, Rs T (shN T ν σ) nid g w m e (th σ) i A (s_class T (s_lv T ν) (w_x w).1 i) σ n u → Q (.inl (some (.inl n))) u := fun n u rs => hK _ _ (k n u (by rw [hnb]; exact rs))
  obtain ⟨H, hH⟩ : ∃ H : sR Bool, H = bif t_wd T i 14 then s_b ((s_lv T ν).2.2.2.1 (w_x w).1 (i + 1)) (fun _ k => s_r true k) else s_r false i := ⟨_, rfl⟩
  have evH : ev eN H := by rw [hH]; exact ev_i (ev_b (hEv.2.2.2.1 _ _) fun _ _ => ev_r) ev_r
  have rH : ∀ {inn : Bool} {A' : cA} {heir : Bool} {j : Nat} {B : cA}, run inn A' H = some (heir, j, B) → run inn A' (s_class T (s_lv T ν) (w_x w).1 i) = run inn B (s_cl (s_clB T (s_lv T ν) (w_x w).1 heir j)) := fun h => by rw [s_class_eq, ← hH, run_b, h]
  have rN0 : ∀ {inn : Bool} {A' : cA}, run inn A' H = none → run inn A' (s_class T (s_lv T ν) (w_x w).1 i) = none := fun h => by rw [s_class_eq, ← hH, run_b, h]
  -- behind extends
  have w106 : ∀ (u2 : mmS) (es5 : hE) (n : Int32) (u : mmS), Fr (th σ) σ u2 → fN σ 315 ≤ fN u2 315 → fN σ 324 < fN u2 324 → mm_a u2 326 (fN σ 324) = mm_f σ 346 → (GD u2 → cG T w A (m + 10) (e + 1) σ i ∧ cG T (psW w (w_B w + 1) (fN σ 324)) ((5, es5) :: A.1, A.2) (m + 6) e u2 i) → (GD σ → GD u2) → fN u2 315 < fN u 315 →
      Rs T (fun (heir : Bool) _ _ u => clR (fN u2 315) heir false u) any2 (g + 40) (psW w (w_B w + 1) (fN σ 324)) (m + 5) e (th u2) i ((5, es5) :: A.1, A.2) H u2 n u → ∀ wv7 wv8 wv9 wv10 wv11 : Option mmV,
      mm_W mt3068 (MC d) Q (106, [some (.inr (.inr (3, a))), some (.inl called), some (.inl (mm_f σ 346)), some (.inr (.inl (kpt σ))), none, some (.inl (nI (fN σ 324))), some (.inl (nI (fN u2 315))), wv7, wv8, wv9, wv10, wv11], []) u := by
    intro u2 es5 n u f2 l2 l4 r5 hg2 hgd hk rs wv7 wv8 wv9 wv10 wv11
    obtain ⟨f3, rs⟩ := rs
    have hIu : cI T u := by
      rcases rs with ⟨heir, j, B, q, x1, x2, x3, x4⟩ | ⟨x1, x2, x3⟩
      · exact x2.1
      · exact x2.1
    have hcu : fN u 324 ≤ 8750 ∧ fN u 315 ≤ 85000 := by
      rcases rs with ⟨heir, j, B, q, x1, x2, x3, x4⟩ | ⟨x1, x2, x3⟩
      · have := x2.caps; omega
      · obtain ⟨-, -, ⟨q, q1, q2, q3, q4, q5, -⟩, -⟩ := x2; omega
    have l42 : fN u2 324 ≤ fN u 324 := f3.2.2.2.2.1.2.1
    have hq60 : ∃ q8, mm_f u 360 = nI q8 ∧ q8 ≤ 1262 := by
      rcases rs with ⟨heir, j, B, q, x1, x2, x3, x4⟩ | ⟨x1, x2, x3⟩
      · have := x2.2.2.2.2.2.2.2.2.1
        have he := x2.1.1.2.2.2.2.2.2.2.1
        have hj := x2.2.2.1.2
        exact ⟨_, this.1, by omega⟩
      · exact x2.2.2.2
    refine b3068_106 _ _ _ _ _ _ _ _ _ _ _ _ _ _ _ (c_OS (by omega) hIu hcu.1 (fun u7 o7 f7 => ?_))
    have r7 := OS_row o7
    have n7 : fN u7 324 = fN u 324 + 1 := o7.1.2.1
    have of7 (k : Nat) (h4 : k ≠ 324) (h6 : k ≠ 346) : mm_f u7 k = mm_f u k := OS_f o7 h4 h6
    have e60 : mm_f u7 360 = mm_f u 360 := of7 360 (by decide) (by decide)
    have f8 : Fr (th u) u (clI u7) := f7.trans ((Fr.setf rfl (by decide) (by decide) (by decide) (by decide) (by decide) (by decide)).trans (Fr.setf rfl (by decide) (by decide) (by decide) (by decide) (by decide) (by decide)))
    have n8 : fN (clI u7) 324 = fN u 324 + 1 := (fN_eq (clI_f (by decide) (by decide))).trans n7
    have c7 : fN (clI u7) 315 = fN u 315 := (fN_eq (clI_f (by decide) (by decide))).trans (fN_eq (of7 315 (by decide) (by decide)))
    -- from the loop's end on
    rcases rs with ⟨heir, j, B, q, x1, x2, x3, x4⟩ | ⟨x1, x2, x3⟩
    · have gdu := x2.2.1
      have gd2 := f3.1 gdu
      obtain ⟨hG, hG2⟩ := hg2 gd2
      have hB1 : B.1 = (5, es5) :: A.1 := run_nev1 evH x1
      have sm := run_nev (inn := w_in w) (A := ((5, es5) :: A.1, A.2)) (L2 := A.1) evH
      obtain ⟨B2, s1, s2, s3, s4⟩ := sm.some x1
      have eB2 : B2 = (A.1, B.2) := Prod.ext s4 s2.symm
      rw [eB2] at s1
      have s1 : run (w_in w) A H = some (heir, j, (A.1, B.2)) := s1
      have hin := hG.2.2.2.2.2.2.2.2.2.2.2.1.2.2.2
      have hpre : w_in w = false → B.2.2.1 = [] := x2.2.2.2.2.2.2.2.2.2.2.2.1.2.2.2
      have g7 := x2.OS o7 (B := w_B w + 2) (by omega) (by show w_B w + 1 + 1 ≤ w_B w + 2; omega) (by have := hsl.1; exact this)
      rw [hB1] at g7
      have g8 := cG.goC (m := m) (g7.mono (show m + 1 ≤ m + 5 + q - 4 by omega) (Nat.le_refl _)) hsl.2.2.2.2
      have tl8 : tle (th u2) (th (clI u7)) := th_le2 hG2 g8 (f3.trans (f8.mono fun _ => th_le2 hG2 x2 f3 (Nat.le_refl _))) (Nat.le_refl _)
      have hR : run (w_in w) A (s_class T (s_lv T ν) (w_x w).1 i) = run (w_in w) (A.1, B.2) (s_cl (s_clB T (s_lv T ν) (w_x w).1 heir j)) := rH s1
      have rc := run_cl (A := (A.1, B.2)) (L := (5, es5) :: A.1) (ev_clB (T := T) hEv (cx := (w_x w).1) (heir := heir) (j := j))
      have f28 : Fr (th u2) u2 (clI u7) := f3.trans (f8.mono fun _ => th_le2 hG2 x2 f3 (Nat.le_refl _))
      have up5 : ∀ {v : mmS}, Fr (th u2) (clI u7) v → mm_a v 326 (fN σ 324) = mm_f σ 346 := fun fv => by rw [up_326 (f28.trans fv) l4]; exact r5
      have up8 : ∀ {v : mmS}, Fr (th u2) (clI u7) v → mm_a v 326 (fN u 324) = nI (fN σ 324) := fun fv => by
        rw [up_326 fv (by omega)]
        show mm_a u7 326 (fN u 324) = _
        rw [r7.1]
        exact x2.2.2.2.2.2.1.1
      rw [e60, x2.2.2.2.2.2.2.2.2.1.1]
      have cp := x2.caps
      have cpσ := hG.caps
      have fin : ∀ (n : Int32) (v : mmS), Rs T (fun (_ : List (Int32 × Nat)) _ _ v => clK (fN u2 315) v) any2 (g + 4) (inW (psW (psW w (w_B w + 1) (fN σ 324)) (w_B w + 2) (fN u 324))) (m + 1) e (th u2) (j + 1) ((8, []) :: (5, es5) :: A.1, B.2.1, B.2.2.1, B.2.2.2.1, B.2.2.2.2 + 1) (s_clB T (s_lv T ν) (w_x w).1 heir j) (clI u7) n v → ∀ (v9 : Int32),
          mm_W mt3068 (MC d) Q (247, [some (.inr (.inr (3, a))), some (.inl called), some (.inl (mm_f σ 346)), some (.inr (.inl (kpt σ))), none, some (.inl (nI (fN σ 324))), some (.inl (nI (fN u2 315))), some (.inl (nI (fN u 324))), some (.inl (nI B.2.2.1.length)), some (.inl v9), some (.inl (nI B.2.2.1.length)), some (.inl (nI B.2.2.1.length))], []) (mm_setf v 358 (mm_f v 358 - 1)) := fun n v rs v9 => by
        obtain ⟨f9, rs⟩ := rs
        have fv : Fr (th σ) σ v := f2.trans ((f28.trans f9).mono fun _ => th_le2 hG hG2 f2 (Nat.le_refl _))
        have lv : fN u 315 ≤ fN v 315 := by have := f9.nn; omega
        rcases rs with ⟨D, j2, B8, q8, y1, y2, y3, y4⟩ | ⟨y1, y2, y3⟩
        · have y1 : run true ((8, []) :: (5, es5) :: A.1, B.2.1, B.2.2.1, B.2.2.2.1, B.2.2.2.2 + 1) (s_clB T (s_lv T ν) (w_x w).1 heir j) = some (D, j2, B8) := y1
          rw [y1] at rc
          obtain ⟨a8, pu, c1, c2, c3⟩ := rc
          refine cls_endG (g := g) (m' := m + 1 + q8) (e' := e) (j := j2) (pre := B.2.2.1) (pu := pu) hG y2 fv c1 c2 hpre (by omega) (by omega) (up8 f9) (up5 f9) (by omega) (by omega) (fun v2 hc gv fv2 hrow h315 => kk _ _ ⟨fv2, Or.inl ⟨n_k 12, j2, _, q8 + 1, ?_, by rw [show m + (q8 + 1) = m + 1 + q8 by omega]; exact gv, ?_, by omega⟩⟩) (fun v2 hc cb fv2 l2 => kk _ _ ⟨fv2, Or.inr ⟨Or.inl ?_, cb, ⟨fN u2 315, rfl, by omega⟩⟩⟩)
          · rw [hR, c3 (w_in w), hc]; rfl
          · obtain ⟨k1, k2, k3⟩ := y3
            refine ⟨fN u2 315, rfl, ⟨n1, Nat.succ_le_succ (Nat.zero_le _)⟩, l2, by omega, ⟨by rw [hrow 316 (by decide)]; exact k1, fun z => absurd z (by decide), fun z => absurd z (by decide), by rw [hrow 323 (by decide)]; exact k3, fun z => absurd z (by decide), by rw [hrow 322 (by decide)]; exact k2, fun _ => rfl, by decide, by decide⟩, fun z => absurd z (by decide)⟩
          · rw [hR, c3 (w_in w), hc]; rfl
        · refine cls_endB (g := g) (y2.mono (by omega)) hI0 fv (by omega) (by have := f9.2.2.2.2.1.2.1; omega) (by have := x2.2.2.2.2.2.2.2.2.1.2.1; have := x2.2.2.1.2; have := x2.1.1.2.2.2.2.2.2.2.1; omega) (fun v2 cb fv2 l2 => kk _ _ ⟨fv2, Or.inr ⟨Or.inl ?_, cb, ⟨fN u2 315, rfl, by omega⟩⟩⟩)
          · rcases y1 with y1 | y1
            · have y1 : run true ((8, []) :: (5, es5) :: A.1, B.2.1, B.2.2.1, B.2.2.2.1, B.2.2.2.2 + 1) (s_clB T (s_lv T ν) (w_x w).1 heir j) = none := y1
              rw [y1] at rc
              rw [hR]
              exact rc (w_in w)
            · exact absurd g8.2.1 y1
      have st8 : St T (fun (_ : List (Int32 × Nat)) _ _ v => clK (fN u2 315) v) any2 (g + 4) (inW (psW (psW w (w_B w + 1) (fN σ 324)) (w_B w + 2) (fN u 324))) (m + 1) e (th u2) (j + 1) (fun _ v => ∀ (v9 : Int32), mm_W mt3068 (MC d) Q (247, [some (.inr (.inr (3, a))), some (.inl called), some (.inl (mm_f σ 346)), some (.inr (.inl (kpt σ))), none, some (.inl (nI (fN σ 324))), some (.inl (nI (fN u2 315))), some (.inl (nI (fN u 324))), some (.inl (nI B.2.2.1.length)), some (.inl v9), some (.inl (nI B.2.2.1.length)), some (.inl (nI B.2.2.1.length))], []) (mm_setf v 358 (mm_f v 358 - 1))) true 8 (inW (psW (psW w (w_B w + 1) (fN σ 324)) (w_B w + 2) (fN u 324))) ((8, []) :: (5, es5) :: A.1, B.2.1, B.2.2.1, B.2.2.2.1, B.2.2.2.2 + 1) m e (s_clB T (s_lv T ν) (w_x w).1 heir j) (clI u7) j := Or.inl ⟨g8, tl8, by omega, fin⟩
      refine St.need st8 (by omega) (fun u9 st9 f9 _ => ?_)
      have l9 : fN (clI u7) 315 ≤ fN u9 315 := f9.nn
      refine cls_loop (w := inW (psW (psW w (w_B w + 1) (fN σ 324)) (w_B w + 2) (fN u 324))) (θ := th u2) (ty := fN u2 315) hI hEl hRs ih hw (by omega) (by omega) (by show fN u 324 < 2 ^ 31; omega) (by omega) (t_e T + 1) true 8 _ (m + 12) (j + 1) u9 false [] [] ((5, es5) :: A.1) 0 _ _ (fun _ => by decide) (fun _ => Nat.le_refl _) (fun _ => by omega) (by omega) (by omega) (by omega) (fun _ => Nat.le_refl _) (fun gd9 => ⟨rfl, ⟨fun _ => rfl, fun _ hy => nomatch hy⟩, ?_, ?_⟩) (fun z => absurd rfl z) st9
      · obtain ⟨R, r1, r2, r3, -, -⟩ := (st9.gd gd9).top (by show fN u 324 < 2 ^ 31; omega)
        have rn : R (fN u 324) = [] := List.map_eq_nil_iff.mp r3
        refine ⟨R, r1, fun r hr => ?_, fun r hr => ?_⟩
        · have hr : r ∈ R (fN u 324) := hr
          rw [rn] at hr
          exact nomatch hr
        · have hr : r ∈ R (fN u 324) := hr
          rw [rn] at hr
          exact nomatch hr
      · exact x3.mono (by omega) hk (f8.trans (f9.mono fun _ => th_le2 x2 g8 f8 (Nat.le_refl _))) gd9
    · obtain ⟨q8, h1, h2⟩ := hq60
      rw [e60, h1]
      have x2' : cB T (g + 24 + 16) u := x2
      have cb8 : cB T (g + 24) (clI u7) := ((x2'.OS o7).setf rfl (by decide) (by decide) (by decide)).setf rfl (by decide) (by decide) (by decide)
      have ng8 : ¬ GD (clI u7) := cb8.no
      have f28 : Fr (th u2) u2 (clI u7) := f3.trans (f8.mono fun z => absurd z x2.no)
      have nor : run (w_in w) A (s_class T (s_lv T ν) (w_x w).1 i) = none ∨ ¬ GD σ := by
        rcases x1 with x1 | x1
        · exact Or.inl (rN0 ((run_nev (inn := w_in w) (A := ((5, es5) :: A.1, A.2)) (L2 := A.1) evH).none x1))
        · exact Or.inr fun z => x1 (hgd z)
      have st8 : St T (fun (_ : List (Int32 × Nat)) _ _ v => clK (fN u2 315) v) any2 (g + 4) (inW (psW (psW w (w_B w + 1) (fN σ 324)) (w_B w + 2) (fN u 324))) (m + 1) e (th u2) 0 (fun _ v => ∀ (v9 : Int32), mm_W mt3068 (MC d) Q (247, [some (.inr (.inr (3, a))), some (.inl called), some (.inl (mm_f σ 346)), some (.inr (.inl (kpt σ))), none, some (.inl (nI (fN σ 324))), some (.inl (nI (fN u2 315))), some (.inl (nI (fN u 324))), some (.inl (nI q8)), some (.inl v9), some (.inl (nI q8)), some (.inl (nI q8))], []) (mm_setf v 358 (mm_f v 358 - 1))) true 8 (inW (psW (psW w (w_B w + 1) (fN σ 324)) (w_B w + 2) (fN u 324))) A m e (s_clB T (s_lv T ν) (w_x w).1 true 0) (clI u7) 0 := Or.inr ⟨rfl, cb8.mono (by omega), fun n v f c hn v9 => by
        have fv : Fr (th σ) σ v := f2.trans ((f28.trans f).mono fun gd2 => th_le2 (hg2 gd2).1 (hg2 gd2).2 f2 (Nat.le_refl _))
        have lv : fN u 315 ≤ fN v 315 := by have := f.nn; omega
        exact cls_endB (g := g) (c.mono (by omega)) hI0 fv (by omega) (by have := f.2.2.2.2.1.2.1; omega) h2 (fun v2 cb fv2 l2 => kk _ _ ⟨fv2, Or.inr ⟨nor, cb, ⟨fN u2 315, rfl, by omega⟩⟩⟩)⟩
      refine St.need st8 (by omega) (fun u9 st9 f9 _ => ?_)
      have l9 : fN (clI u7) 315 ≤ fN u9 315 := f9.nn
      have ng9 : ¬ GD u9 := fun z => ng8 (f9.1 z)
      exact cls_loop (w := inW (psW (psW w (w_B w + 1) (fN σ 324)) (w_B w + 2) (fN u 324))) (θ := th u2) (ty := fN u2 315) (heir := true) hI hEl hRs ih hw (by omega) (by omega) (by show fN u 324 < 2 ^ 31; omega) (by omega) (t_e T + 1) true 8 _ (m + 12) 1 u9 false [] [] [] 0 _ _ (fun z => absurd z ng9) (fun z => absurd z ng9) (fun z => absurd z ng9) (by omega) (by omega) (by omega) (fun z => absurd z ng9) (fun z => absurd z ng9) (fun z => absurd rfl z) st9
  -- the node, and extends
  have w47 : ∀ (u2 : mmS) (es5 : hE) (wv6 wv7 wv8 wv9 wv10 wv11 : Option mmV), Fr (th σ) σ u2 → fN σ 324 < fN u2 324 → mm_a u2 326 (fN σ 324) = mm_f σ 346 → ((cG T w A (m + 10) (e + 1) σ i ∧ cG T (psW w (w_B w + 1) (fN σ 324)) ((5, es5) :: A.1, A.2) (m + 6) e u2 i) ∨ (¬ GD σ ∧ cB T (g + 60) u2 ∧ mm_f u2 311 = nI (t_e T))) →
      mm_W mt3068 (MC d) Q (47, [some (.inr (.inr (3, a))), some (.inl called), some (.inl (mm_f σ 346)), some (.inr (.inl (kpt σ))), none, some (.inl (nI (fN σ 324))), wv6, wv7, wv8, wv9, wv10, wv11], []) u2 := by
    intro u2 es5 wv6 wv7 wv8 wv9 wv10 wv11 f2 l4 r5 en2
    have l2 := f2.nn
    have hg2 : GD u2 → cG T w A (m + 10) (e + 1) σ i ∧ cG T (psW w (w_B w + 1) (fN σ 324)) ((5, es5) :: A.1, A.2) (m + 6) e u2 i := fun z => by
      rcases en2 with h | ⟨-, h, -⟩
      · exact h
      · exact absurd z h.no
    have hgd : GD σ → GD u2 := fun z => by
      rcases en2 with h | ⟨h, -⟩
      · exact h.2.2.1
      · exact absurd z h
    have h11 : ¬ GD u2 → mm_f u2 311 = nI (t_e T) := fun z => by
      rcases en2 with h | ⟨-, -, h⟩
      · exact absurd h.2.2.1 z
      · exact h
    have st5 : St T (fun (heir : Bool) _ _ u => clR (fN u2 315) heir false u) any2 (g + 40) (psW w (w_B w + 1) (fN σ 324)) (m + 5) e (th u2) i (fun _ u => fN u2 315 < fN u 315 → ∀ wv7 wv8 wv9 wv10 wv11 : Option mmV, mm_W mt3068 (MC d) Q (106, [some (.inr (.inr (3, a))), some (.inl called), some (.inl (mm_f σ 346)), some (.inr (.inl (kpt σ))), none, some (.inl (nI (fN σ 324))), some (.inl (nI (fN u2 315))), wv7, wv8, wv9, wv10, wv11], []) u) true 20 (psW w (w_B w + 1) (fN σ 324)) ((5, es5) :: A.1, A.2) (m + 6) e H u2 i := by
      rcases en2 with ⟨h1, h2⟩ | ⟨h1, h2, h3⟩
      · exact Or.inl ⟨h2, tle.rfl', by omega, fun n u rs hk => w106 u2 es5 n u f2 l2 l4 r5 hg2 hgd hk rs⟩
      · exact Or.inr ⟨rfl, h2.mono (by omega), fun n u f c hn hk => w106 u2 es5 n u f2 l2 l4 r5 hg2 hgd hk ⟨f, Or.inr ⟨Or.inr h2.no, c, hn⟩⟩⟩
    refine b3068_47 _ _ _ _ _ _ _ _ _ _ _ _ _ _ _ (St.node5 (h := 19) st5 (by omega) (by omega) (fun n3 u3 st3 f3 nw => ?_))
    refine st3.setown (by decide) (own_new nw f3 st5) (fun k k1 k2 st4 f4 => ?_)
    obtain ⟨w1, w2, w3, w4, w5, w6, w7, w8, w9, w10⟩ := nw
    have cap5 := st5.cap.1
    have ek : fN u2 315 = k := nI_inj (by omega) (by omega) (w1.symm.trans k1)
    subst ek
    have n0 (s : Nat) (hs : s ≠ 321) : mm_a (mm_seta u3 321 (fN u2 315) (nI (fN σ 324))) s = mm_a u3 s := a_seta_n hs
    have cR : clR (fN u2 315) false false (mm_seta u3 321 (fN u2 315) (nI (fN σ 324))) := ⟨by rw [n0 316 (by decide)]; exact w3, by rw [n0 322 (by decide)]; exact w8, by rw [n0 323 (by decide)]; exact w9, by rw [n0 318 (by decide), w5]; exact ⟨fun _ => rfl, fun _ => rfl⟩, by rw [n0 320 (by decide), w7]; exact ⟨fun _ => rfl, fun _ => by decide⟩⟩
    have k4 : fN u2 315 < fN (mm_seta u3 321 (fN u2 315) (nI (fN σ 324))) 315 := k2
    have h11b : ¬ GD u3 → mm_f u3 311 = nI (t_e T) := fun z => by
      rw [w10 311 (by decide)]
      exact h11 (fun y => z (show mm_f u3 303 = 0 from (w10 303 (by decide)).trans y))
    rw [w1]
    by_cases gd : GD u3
    · have st4 := st4.strong (show GD (mm_seta u3 321 (fN u2 315) (nI (fN σ 324))) from gd)
      refine st4.eatWord (by omega) (fun z => ?_) (fun u5 z st6 f5 => ?_)
      · exact (st4.rw (r' := s_r false i) (fun gd => by rw [hH, z gd]; rfl)).ret (n := 0) (fun _ => rfl) (fun _ => rfl) (fun _ => Nat.le_refl _) 0 (fun _ => by omega) (fun _ => Nat.le_refl _) (fun _ => cR) (fun _ => trivial) k4 _ _ _ _ _
      · have st7 := st6.rw (r' := s_b ((s_lv T ν).2.2.2.1 (w_x w).1 (i + 1)) (fun _ k => s_r true k)) (fun _ => by rw [hH, z gd]; rfl)
        have l5 := f5.nn
        show leftF d a Q (fun x8 σ7 => mm_S (dec σ7) 318 (nI (fN u2 315)) x8 (fun σ9 => mm_W mt3068 (MC d) Q (106, [some (.inr (.inr (3, a))), some (.inl called), some (.inl (mm_f σ 346)), some (.inr (.inl (kpt σ))), none, some (.inl (nI (fN σ 324))), some (.inl (nI (fN u2 315))), some (.inl x8), wv8, wv9, wv10, wv11], []) σ9)) u5
        refine St.callD (h := 19) (c := 0) (s := 1) (m' := m + 6 - 1 + 12) (bb := false) (Sh' := shN T ν) (N' := nid) (r1 := (s_lv T ν).2.2.2.1 (w_x w).1) (fun en kk2 => en.elim (fun hG5 => ihl d a (g + 40 + 19) (psW w (w_B w + 1) (fN σ 324)) ((5, es5) :: A.1, A.2) _ e (i + 1) u5 Q _ hw (by omega) (by omega) (by omega) hG5 kk2) (fun z => absurd z.1 Bool.false_ne_true)) (n_k 0) st7 (fun z => z) rfl (fun v j B q x8 u6 st8 f6 hj6 hs6 hn6 => ?_)
        · have l6 := f6.nn
          have k6 : fN u2 315 < fN (dec u6) 315 := by omega
          refine st8.setn (k := fN u2 315) (by decide) (Or.inl (by decide)) rfl k6 (fun _ => Nat.le_refl _) (Or.inl ⟨by decide, by decide⟩) (fun st9 => ?_)
          refine st9.ret (n := 0) (fun _ => rfl) (fun _ => rfl) (fun gd6 => by have := hj6 gd6; omega) 0 (fun _ => by omega) (fun _ => Nat.le_refl _) (fun gd6 => ?_) (fun _ => trivial) k6 _ _ _ _ _
          have gd6 : GD (dec u6) := gd6
          have gd5 := f6.1 gd6
          have c5 := cR.mono (by omega) k4 f5 gd5
          obtain ⟨p1, p2, p3, p4, p5⟩ := c5.mono (by omega) (by omega) f6 gd6
          have n8 (s : Nat) (hs : s ≠ 318) : mm_a (mm_seta (dec u6) 318 (fN u2 315) x8) s = mm_a (dec u6) s := a_seta_n hs
          obtain ⟨kk, y1, y2, y3, y4, -⟩ := hs6 gd6
          have cap6 := st8.cap.1
          refine ⟨by rw [n8 316 (by decide)]; exact p1, by rw [n8 322 (by decide)]; exact p2, by rw [n8 323 (by decide)]; exact p3, ⟨fun z => ?_, fun z => nomatch z⟩, by rw [n8 320 (by decide)]; exact p5⟩
          rw [a_seta_s] at z
          exact absurd (y1.symm.trans z) (nI_ne0 (by omega) (by omega))
    · have he := st4.ci.1.2.2.2.2.2.2.2
      refine c_eatWord (by omega) st4.ci.1 (h11b gd) (by omega) (fun z => br_y rfl ?_) (fun z => ?_)
      · exact st4.bad (n := 0) gd trivial k4 _ _ _ _ _
      · exfalso
        unfold t_wd at z
        rw [he.2.1] at z
        exact Bool.false_ne_true z
  refine c_kept (by omega) (c_OS (by omega) hI0 hcap.2 (fun u1 o1 f1 => ?_))
  have r1 := OS_row o1
  have n4 : fN u1 324 = fN σ 324 + 1 := o1.1.2.1
  have of1 (k : Nat) (h4 : k ≠ 324) (h6 : k ≠ 346) : mm_f u1 k = mm_f σ k := OS_f o1 h4 h6
  have en1 : (cG T w A (m + 10) (e + 1) σ i ∧ cG T (psW w (w_B w + 1) (fN σ 324)) ((5, []) :: A.1, A.2) (m + 6) (e + 1) u1 i) ∨ (¬ GD σ ∧ cB T (g + 84) u1 ∧ mm_f u1 311 = nI (t_e T)) := by
    rcases en with hG | ⟨hB, h11⟩
    · exact Or.inl ⟨hG, (hG.OS o1 (by omega) (Nat.le_refl _) (by have := hsl.1; omega)).mono (by omega) (Nat.le_refl _)⟩
    · exact Or.inr ⟨hB.no, cB.OS (g := g + 84) hB o1, (of1 311 (by decide) (by decide)).trans h11⟩
  refine br_p (fun c0 => ?_) (fun c0 => ?_)
  · refine w47 u1 [] _ _ _ _ _ _ f1 (by omega) r1.1 ?_
    rcases en1 with ⟨h1, h2⟩ | ⟨h1, h2, h3⟩
    · exact Or.inl ⟨h1, h2.mono (Nat.le_refl _) (Nat.le_succ _)⟩
    · exact Or.inr ⟨h1, h2.mono (by omega), h3⟩
  · have en2 : cG T (psW w (w_B w + 1) (fN σ 324)) ((5, []) :: A.1, A.2) (m + 6) (e + 1) u1 i ∨ cB T (g + 60 + 16) u1 := by
      rcases en1 with ⟨h1, h2⟩ | ⟨h1, h2, h3⟩
      · exact Or.inl h2
      · exact Or.inr (h2.mono (by omega))
    refine c_AS (by omega) en2 (by omega) (fun _ => o1.2.1) (fun u2 f2 e24 e46 en3 => ⟨rfl, ?_⟩)
    have f12 : Fr (th σ) σ u2 := f1.trans (f2.mono fun gd1 => by
      rcases en1 with ⟨h1, h2⟩ | ⟨h1, h2, h3⟩
      · exact th_le2 h1 h2 f1 (Nat.le_refl _)
      · exact absurd gd1 h2.no)
    refine w47 u2 [(1, called)] _ _ _ _ _ _ f12 (by omega) (by rw [up_326 f2 (by omega)]; exact r1.1) ?_
    rcases en1 with ⟨h1, h2⟩ | ⟨h1, h2, h3⟩
    · rcases en3 with ⟨-, z⟩ | ⟨z, -⟩
      · exact Or.inl ⟨h1, z⟩
      · exact absurd h2.2.1 z.no
    · rcases en3 with ⟨z, -⟩ | ⟨-, z⟩
      · exact absurd z.2.1 h2.no
      · exact Or.inr ⟨h1, z, e46.2.trans h3⟩
end CLS
