/-! PHASE 3. How the state's predicates move with what is written -/
theorem fN_eq {σ u : mmS} {k : Nat} (h : mm_f u k = mm_f σ k) : fN u k = fN σ k := by unfold fN; rw [h]
theorem stru.of {σ u : mmS} {R : Nat → List Nat} (h : stru σ R) (f4 : mm_f u 324 = mm_f σ 324) (f5 : mm_f u 325 = mm_f σ 325) (a : ∀ k, 326 ≤ k → k ≤ 335 → mm_a u k = mm_a σ k ∧ mm_n u k = mm_n σ k) : stru u R := by
  have e4 := fN_eq f4
  have e5 := fN_eq f5
  obtain ⟨⟨a1, a2, a3, a4, a5⟩, ⟨b1, b2, b3, b4, b5⟩, c, d⟩ := h
  refine ⟨⟨by rw [e4, f4]; exact a1, by rw [e4, (a 326 (by decide) (by decide)).2]; exact a2, by rw [(a 326 (by decide) (by decide)).2]; exact a3, by rw [(a 326 (by decide) (by decide)).2]; exact a4, fun k k1 k2 => by rw [(a k k1 (by omega)).2, (a 326 (by decide) (by decide)).2]; exact a5 k k1 k2⟩,
    ⟨by rw [e5, f5]; exact b1, by rw [e5, (a 332 (by decide) (by decide)).2]; exact b2, by rw [(a 332 (by decide) (by decide)).2]; exact b3, by rw [(a 332 (by decide) (by decide)).2]; exact b4, fun k k1 k2 => by rw [(a k (by omega) k2).2, (a 332 (by decide) (by decide)).2]; exact b5 k k1 k2⟩, fun s hs => ?_, fun s s' k h1 h2 => by rw [e4] at h1 h2; exact d s s' k h1 h2⟩
  rw [e4] at hs
  rw [e5, (a 328 (by decide) (by decide)).1, (a 329 (by decide) (by decide)).1]
  obtain ⟨l1, l2, l3, l4⟩ := c s hs
  exact ⟨lnk_same (σ := σ) (fun _ _ => by rw [(a 334 (by decide) (by decide)).1]) l1, l2, l3, l4⟩
theorem ens_of {σ u : mmS} {l : List Nat} (a : ∀ k, 326 ≤ k → k ≤ 335 → mm_a u k = mm_a σ k ∧ mm_n u k = mm_n σ k) : ens u l = ens σ l :=
  ens_same fun k _ => ⟨by rw [(a 333 (by decide) (by decide)).1], by rw [(a 332 (by decide) (by decide)).1]⟩
theorem path.of {σ u : mmS} {R : Nat → List Nat} {L : hC} {e : Int32} {b : Nat} (h : path σ R L e b) (f4 : mm_f u 324 = mm_f σ 324) (a : ∀ k, 326 ≤ k → k ≤ 335 → mm_a u k = mm_a σ k ∧ mm_n u k = mm_n σ k) : path u R L e b :=
  path_same (c := b) (fN_eq f4) ⟨(a 326 (by decide) (by decide)).1, (a 327 (by decide) (by decide)).1⟩ (fun _ _ _ => ens_of a) h (Nat.le_refl _)
theorem cL.of {σ u : mmS} {L : hC} {B : Nat} (h : cL L B σ) (f4 : mm_f u 324 = mm_f σ 324) (f5 : mm_f u 325 = mm_f σ 325) (f6 : mm_f u 346 = mm_f σ 346) (a : ∀ k, 326 ≤ k → k ≤ 335 → mm_a u k = mm_a σ k ∧ mm_n u k = mm_n σ k) : cL L B u := by
  obtain ⟨R, b, h1, h2, h3⟩ := h
  exact ⟨R, b, h1.of f4 f5 a, by rw [f6]; exact h2.of f4 a, h3⟩
theorem cX.of {ν b : Nat} {lk : Nat × Nat} {x : sX} {σ u : mmS} (h : cX ν b lk x σ) (f : ∀ k, 347 ≤ k → k ≤ 357 → mm_f u k = mm_f σ k) (a : mm_a u 337 (fN σ 347) = mm_a σ 337 (fN σ 347)) (a1 : mm_a u 361 = mm_a σ 361) (a2 : mm_a u 362 = mm_a σ 362) : cX ν b lk x u := by
  obtain ⟨⟨c1, c2, c3, c4, c5, c6⟩, r, l, bk, lb⟩ := h
  have e := fN_eq (f 347 (by decide) (by decide))
  refine ⟨⟨(f 348 (by decide) (by decide)).trans c1, (f 349 (by decide) (by decide)).trans c2, (f 350 (by decide) (by decide)).trans c3, (f 351 (by decide) (by decide)).trans c4, (f 352 (by decide) (by decide)).trans c5, (f 353 (by decide) (by decide)).trans c6⟩, by rw [e, a]; exact r, by rw [f 354 (by decide) (by decide)]; exact l, by rw [f 355 (by decide) (by decide)]; exact bk, ?_⟩
  rw [f 357 (by decide) (by decide), f 356 (by decide) (by decide), a1, a2]
  exact lb
theorem cntF_of {σ u : mmS} : ∀ {n : Nat}, (∀ k, k < n → mm_a u 337 k = mm_a σ 337 k) → cntF u n = cntF σ n
  | 0, _ => rfl
  | n + 1, h => by rw [cntF, cntF, cntF_of (fun k hk => h k (by omega)), h n (by omega)]
theorem upS.of {σ u : mmS} (h : upS σ) (f4 : mm_f u 324 = mm_f σ 324) (a6 : mm_a u 326 = mm_a σ 326) (a7 : mm_a u 327 = mm_a σ 327) : upS u := by
  intro s hs
  rw [fN_eq f4] at hs
  rw [a6, a7]
  exact h s hs
theorem hvN.of {σ u : mmS} (h : hvN σ) (f7 : mm_f u 371 = mm_f σ 371) (a9 : mm_a u 369 = mm_a σ 369) (l : fN σ 325 ≤ fN u 325) : hvN u := by
  refine ⟨fun k hk => ?_, fun k k' hk hk' e => ?_⟩
  · rw [fN_eq f7] at hk
    rw [a9]
    obtain ⟨r, r1, r2⟩ := h.1 k hk
    exact ⟨r, r1, by omega⟩
  · rw [fN_eq f7] at hk hk'
    rw [a9] at e
    exact h.2 k k' hk hk' e
theorem upH.of {σ u : mmS} (h : upS σ ∧ hvN σ) (f4 : mm_f u 324 = mm_f σ 324) (a6 : mm_a u 326 = mm_a σ 326) (a7 : mm_a u 327 = mm_a σ 327) (f7 : mm_f u 371 = mm_f σ 371) (a9 : mm_a u 369 = mm_a σ 369) (l : fN σ 325 ≤ fN u 325) : upS u ∧ hvN u := ⟨h.1.of f4 a6 a7, h.2.of f7 a9 l⟩
theorem cT.of {σ u : mmS} {c b e lo : Nat} (h : cT σ c b e lo) (f : mm_f u c = mm_f σ c) (n : ∀ k, b ≤ k → k ≤ e → mm_n u k = mm_n σ k) (hb : b ≤ e) : cT u c b e lo := by
  obtain ⟨h1, h2, h3, h4, h5⟩ := h
  have e1 := fN_eq f
  have e2 := n b (Nat.le_refl _) hb
  exact ⟨by rw [e1, f]; exact h1, by rw [e1, e2]; exact h2, by rw [e2]; exact h3, by rw [e2]; exact h4, fun k k1 k2 => by rw [n k k1 k2, e2]; exact h5 k k1 k2⟩
theorem fnK.of {σ u : mmS} (h : fnK σ) (f : mm_f u 336 = mm_f σ 336) (n : ∀ k, 337 ≤ k → k ≤ 345 → mm_n u k = mm_n σ k) (a7 : mm_a u 337 = mm_a σ 337) (a9 : mm_a u 339 = mm_a σ 339) (a2 : mm_a u 342 = mm_a σ 342) (l : fN σ 315 ≤ fN u 315) : fnK u := by
  obtain ⟨h1, ⟨h2, h4⟩, h3⟩ := h
  refine ⟨h1.of f n (by decide), ⟨by rw [fN_eq f]; exact h2, fun j hj => ?_⟩, by rw [fN_eq f, a7, a9]; exact h3⟩
  rw [fN_eq f] at hj
  obtain ⟨k, k1, k2⟩ := h4 j hj
  exact ⟨k, by rw [a2]; exact k1, by omega⟩
theorem cN.of {σ u : mmS} (h : cN σ) (f : mm_f u 315 = mm_f σ 315) (n : ∀ k, 316 ≤ k → k ≤ 323 → mm_n u k = mm_n σ k) (a : ∀ i, i < fN σ 315 → mm_a σ 323 i = 0 ∨ mm_a σ 323 i = 1 → mm_a u 323 i = 0 ∨ mm_a u 323 i = 1) : cN u := by
  obtain ⟨h1, h2, h3, h4, h5, h6, h7⟩ := h
  have e := fN_eq f
  have e2 := n 316 (by decide) (by decide)
  exact ⟨by rw [e, f]; exact h1, by rw [e]; exact h2, by rw [e, e2]; exact h3, by rw [e2]; exact h4, by rw [e2]; exact h5, fun k k1 k2 => by rw [n k k1 k2, e2]; exact h6 k k1 k2, fun i hi => by rw [e] at hi; exact a i hi (h7 i hi)⟩
/-- fields that the invariants rest on -/
def cif (k : Nat) : Bool := k == 310 || k == 315 || k == 324 || k == 325 || k == 336 || k == 346 || k == 347 || k == 371
/-- slots whose contents the invariants rest on -/
def cis (k : Nat) : Bool := k == 204 || k == 207 || k == 208 || k == 1002 || k == 304 || k == 305 || k == 308 || k == 316 || k == 317 || k == 323 || k == 326 || k == 327 || k == 328 || k == 329 || (Nat.ble 332 k && Nat.ble k 335) || k == 337 || k == 339 || k == 342 || k == 369
theorem chN.of {σ u : mmS} (h : chN σ) (f : mm_f u 315 = mm_f σ 315) (a6 : mm_a u 316 = mm_a σ 316) (a7 : mm_a u 317 = mm_a σ 317) : chN u := by
  obtain ⟨h1, h2⟩ := h
  exact ⟨by rw [a6]; exact h1, by rw [fN_eq f, a6, a7]; exact h2⟩
theorem cI.of {T : sT} {σ u : mmS} (h : cI T σ) (f : ∀ k, cif k = true → mm_f u k = mm_f σ k) (n : mm_n u = mm_n σ) (a : ∀ k, cis k = true → k ≠ 323 → mm_a u k = mm_a σ k) (a3 : ∀ i, i < fN σ 315 → mm_a σ 323 i = 0 ∨ mm_a σ 323 i = 1 → mm_a u 323 i = 0 ∨ mm_a u 323 i = 1) (bs : mm_bs u = mm_bs σ) (bc : mm_bc u = mm_bc σ) (r : mm_r u = mm_r σ := by rfl) : cI T u := by
  obtain ⟨t, c, ⟨R, s⟩, p, k, ⟨⟨sc, x1, x2⟩, ⟨hr, y1, y2⟩⟩, l⟩ := h
  have st : stru u R := by
    have e4 := fN_eq (f 324 rfl)
    have e5 := fN_eq (f 325 rfl)
    obtain ⟨g1, g2, c, d⟩ := s
    refine ⟨g1.of (f 324 rfl) (fun k _ _ => by rw [n]) (by decide), g2.of (f 325 rfl) (fun k _ _ => by rw [n]) (by decide), fun s hs => ?_, fun s s' k h1 h2 => by rw [e4] at h1 h2; exact d s s' k h1 h2⟩
    rw [e4] at hs
    rw [e5, a 328 rfl (by decide), a 329 rfl (by decide)]
    obtain ⟨l1, l2, l3, l4⟩ := c s hs
    exact ⟨lnk_same (σ := σ) (fun _ _ => by rw [a 334 rfl (by decide)]) l1, l2, l3, l4⟩
  refine ⟨⟨(a 304 rfl (by decide)).trans t.1, (a 305 rfl (by decide)).trans t.2.1, (a 308 rfl (by decide)).trans t.2.2.1, by rw [n]; exact t.2.2.2.1, by rw [n]; exact t.2.2.2.2.1, by rw [n]; exact t.2.2.2.2.2.1, (f 310 rfl).trans t.2.2.2.2.2.2.1, t.2.2.2.2.2.2.2.1, t.2.2.2.2.2.2.2.2.1, ⟨t.2.2.2.2.2.2.2.2.2.1.1, uTx_sam t.2.2.2.2.2.2.2.2.2.1.2 r (fun k hk => by rcases hk with rfl | rfl | rfl | rfl <;> exact ⟨a _ rfl (by decide), by rw [n]⟩)⟩, t.2.2.2.2.2.2.2.2.2.2⟩,
    c.of (f 315 rfl) (fun k _ _ => by rw [n]) a3, ⟨R, st⟩, ⟨upH.of p.1 (f 324 rfl) (a 326 rfl (by decide)) (a 327 rfl (by decide)) (f 371 rfl) (a 369 rfl (by decide)) (Nat.le_of_eq (fN_eq (f 325 rfl)).symm), p.2.of (f 315 rfl) (a 316 rfl (by decide)) (a 317 rfl (by decide))⟩, k.of (f 336 rfl) (fun k _ _ => by rw [n]) (a 337 rfl (by decide)) (a 339 rfl (by decide)) (a 342 rfl (by decide)) (Nat.le_of_eq (fN_eq (f 315 rfl)).symm), ⟨⟨sc, (f 346 rfl).trans x1, by rw [fN_eq (f 324 rfl)]; exact x2⟩, ⟨hr, (f 347 rfl).trans y1, by rw [fN_eq (f 336 rfl)]; exact y2⟩⟩, ?_⟩
  unfold lnB at l ⊢
  rw [n, bs, bc]
  exact l
theorem cI.setf {T : sT} {σ : mmS} {k : Nat} {x : Int32} (h : cI T σ) (hk : cif k = false) : cI T (mm_setf σ k x) :=
  h.of (fun j hj => f_other (fun e => by rw [e, hk] at hj; exact absurd hj (by decide))) rfl (fun _ _ _ => rfl) (fun _ _ q => q) rfl rfl
theorem a_seta_n {σ : mmS} {k i j : Nat} {x : Int32} (h : k ≠ j) : mm_a (mm_seta σ j i x) k = mm_a σ k := by rw [a_seta, if_neg h]
theorem cI.seta {T : sT} {σ : mmS} {s j : Nat} {x : Int32} (h : cI T σ) (hs : cis s = false) : cI T (mm_seta σ s j x) :=
  h.of (fun _ _ => rfl) rfl (fun k hk _ => a_seta_n (fun e => by rw [e, hs] at hk; exact absurd hk (by decide))) (fun i _ q => by rw [a_seta_n (fun e => by rw [← e] at hs; exact absurd hs (by decide))]; exact q) rfl rfl
theorem cI.par {T : sT} {σ : mmS} {j : Nat} {x : Int32} (h : cI T σ) (hx : x = 0 ∨ x = 1) : cI T (mm_seta σ 323 j x) :=
  h.of (fun _ _ => rfl) rfl (fun k hk h3 => a_seta_n h3) (fun i _ q => by
    by_cases c : i = j
    · rw [c, a_seta_s]; exact hx
    · rw [a_seta_i c]; exact q) rfl rfl
theorem cI.set7 {T : sT} {σ : mmS} {j : Nat} {x : Int32} (h : cI T σ) (hx : (∃ i, x = nI i ∧ i < fN σ 315) ∨ ¬ mm_a σ 316 j = 35) : cI T (mm_seta σ 317 j x) := by
  obtain ⟨t, c, ⟨R, g⟩, p, k, s, l⟩ := h
  have n (k : Nat) (hk : k ≠ 317) : mm_a (mm_seta σ 317 j x) k = mm_a σ k := a_seta_n hk
  refine ⟨⟨(n 304 (by decide)).trans t.1, (n 305 (by decide)).trans t.2.1, (n 308 (by decide)).trans t.2.2.1, t.2.2.2.1, t.2.2.2.2.1, t.2.2.2.2.2.1, t.2.2.2.2.2.2.1, t.2.2.2.2.2.2.2.1, t.2.2.2.2.2.2.2.2.1, ⟨t.2.2.2.2.2.2.2.2.2.1.1, uTx_sam t.2.2.2.2.2.2.2.2.2.1.2 rfl (fun k hk => by rcases hk with rfl | rfl | rfl | rfl <;> exact ⟨n _ (by decide), rfl⟩)⟩, t.2.2.2.2.2.2.2.2.2.2⟩, c.of rfl (fun _ _ _ => rfl) (fun i _ q => by rw [n 323 (by decide)]; exact q), ⟨R, g.of rfl rfl (fun k k1 _ => ⟨n k (by omega), rfl⟩)⟩, ⟨upH.of p.1 rfl (n 326 (by decide)) (n 327 (by decide)) rfl (n 369 (by decide)) (Nat.le_refl _), ⟨by rw [n 316 (by decide)]; exact p.2.1, fun i hi q => ?_⟩⟩, k.of rfl (fun _ _ _ => rfl) (n 337 (by decide)) (n 339 (by decide)) (n 342 (by decide)) (Nat.le_refl _), s, l⟩
  rw [n 316 (by decide)] at q
  by_cases c : i = j
  · subst c
    rw [a_seta_s]
    rcases hx with hx | hx
    · exact hx
    · exact absurd q hx
  · rw [a_seta_i c]
    exact p.2.2 i hi q
theorem cI.set6 {T : sT} {σ : mmS} {j : Nat} {x : Int32} (h : cI T σ) (hj : 1 ≤ j) (hx : ¬ x = 35) : cI T (mm_seta σ 316 j x) := by
  obtain ⟨t, c, ⟨R, g⟩, p, k, s, l⟩ := h
  have n (k : Nat) (hk : k ≠ 316) : mm_a (mm_seta σ 316 j x) k = mm_a σ k := a_seta_n hk
  refine ⟨⟨(n 304 (by decide)).trans t.1, (n 305 (by decide)).trans t.2.1, (n 308 (by decide)).trans t.2.2.1, t.2.2.2.1, t.2.2.2.2.1, t.2.2.2.2.2.1, t.2.2.2.2.2.2.1, t.2.2.2.2.2.2.2.1, t.2.2.2.2.2.2.2.2.1, ⟨t.2.2.2.2.2.2.2.2.2.1.1, uTx_sam t.2.2.2.2.2.2.2.2.2.1.2 rfl (fun k hk => by rcases hk with rfl | rfl | rfl | rfl <;> exact ⟨n _ (by decide), rfl⟩)⟩, t.2.2.2.2.2.2.2.2.2.2⟩, c.of rfl (fun _ _ _ => rfl) (fun i _ q => by rw [n 323 (by decide)]; exact q), ⟨R, g.of rfl rfl (fun k k1 _ => ⟨n k (by omega), rfl⟩)⟩, ⟨upH.of p.1 rfl (n 326 (by decide)) (n 327 (by decide)) rfl (n 369 (by decide)) (Nat.le_refl _), ⟨by rw [a_seta_i (by omega)]; exact p.2.1, fun i hi q => ?_⟩⟩, k.of rfl (fun _ _ _ => rfl) (n 337 (by decide)) (n 339 (by decide)) (n 342 (by decide)) (Nat.le_refl _), s, l⟩
  rw [n 317 (by decide)]
  by_cases c : i = j
  · subst c
    rw [a_seta_s] at q
    exact absurd q hx
  · rw [a_seta_i c] at q
    exact p.2.2 i hi q
/-- the scope and the function where one is are changed -/
theorem cI.scope {T : sT} {σ : mmS} {s : Nat} (h : cI T σ) (hs : s < fN σ 324) : cI T (mm_setf σ 346 (nI s)) := by
  obtain ⟨t, c, ⟨R, g⟩, p, k, ⟨-, ⟨hr, y1, y2⟩⟩, l⟩ := h
  have e : ∀ j, j ≠ 346 → mm_f (mm_setf σ 346 (nI s)) j = mm_f σ j := fun j hj => f_other hj
  exact ⟨t.setf (by decide), c.of (e 315 (by decide)) (fun _ _ _ => rfl) (fun _ _ q => q), ⟨R, g.of (e 324 (by decide)) (e 325 (by decide)) (fun _ _ _ => ⟨rfl, rfl⟩)⟩, ⟨upH.of p.1 (e 324 (by decide)) rfl rfl (e 371 (by decide)) rfl (Nat.le_of_eq (fN_eq (e 325 (by decide))).symm), p.2.of (e 315 (by decide)) rfl rfl⟩, k.of (e 336 (by decide)) (fun _ _ _ => rfl) rfl rfl rfl (Nat.le_of_eq (fN_eq (e 315 (by decide))).symm), ⟨⟨s, f_same, by rw [fN_eq (e 324 (by decide))]; exact hs⟩, ⟨hr, (e 347 (by decide)).trans y1, by rw [fN_eq (e 336 (by decide))]; exact y2⟩⟩, l⟩
theorem cI.here {T : sT} {σ : mmS} {s : Nat} (h : cI T σ) (hs : s < fN σ 336) : cI T (mm_setf σ 347 (nI s)) := by
  obtain ⟨t, c, ⟨R, g⟩, p, k, ⟨⟨hr, y1, y2⟩, -⟩, l⟩ := h
  have e : ∀ j, j ≠ 347 → mm_f (mm_setf σ 347 (nI s)) j = mm_f σ j := fun j hj => f_other hj
  exact ⟨t.setf (by decide), c.of (e 315 (by decide)) (fun _ _ _ => rfl) (fun _ _ q => q), ⟨R, g.of (e 324 (by decide)) (e 325 (by decide)) (fun _ _ _ => ⟨rfl, rfl⟩)⟩, ⟨upH.of p.1 (e 324 (by decide)) rfl rfl (e 371 (by decide)) rfl (Nat.le_of_eq (fN_eq (e 325 (by decide))).symm), p.2.of (e 315 (by decide)) rfl rfl⟩, k.of (e 336 (by decide)) (fun _ _ _ => rfl) rfl rfl rfl (Nat.le_of_eq (fN_eq (e 315 (by decide))).symm), ⟨⟨hr, (e 346 (by decide)).trans y1, by rw [fN_eq (e 324 (by decide))]; exact y2⟩, ⟨s, f_same, by rw [fN_eq (e 336 (by decide))]; exact hs⟩⟩, l⟩
/-- a node more -/
theorem cI.NS {T : sT} {σ u : mmS} {w x y z : Int32} (h : cI T σ) (n : NS σ w x y z u) (hc : fN σ 315 ≤ 85000) (h35 : (w == 35) = false ∨ ∃ j, x = nI j ∧ j < fN σ 315) : cI T u := by
  obtain ⟨t, c, ⟨R, g⟩, p, k, ⟨⟨sc, x1, x2⟩, ⟨hr, y1, y2⟩⟩, ⟨l1, l2, l3, l4, l5⟩⟩ := h
  obtain ⟨n1, n2, n3, n4, n5, n6, n7, n8, n9, n10, n11⟩ := n
  have sm : ∀ k, lst k → ¬ (316 ≤ k ∧ k ≤ 323) → sam σ u k := fun k h1 h2 => n7 k ⟨h1, h2⟩
  have s (k : Nat) (k1 : 326 ≤ k) : sam σ u k := sm k (Or.inr (by omega)) (by omega)
  have e (j : Nat) (hj : j ≠ 315) := n3 j hj
  refine ⟨Tk_sam t (fun k hk => by rcases tkS_c hk with rfl | rfl | rfl | rfl | rfl | rfl | rfl <;> exact sm _ (Or.inr (by decide)) (by decide)) n4 (e 310 (by decide)), n1, ⟨R, g.of (e 324 (by decide)) (e 325 (by decide)) (fun k k1 _ => ⟨(s k k1).1, (s k k1).2.1⟩)⟩,
    ⟨upH.of p.1 (e 324 (by decide)) (s 326 (by decide)).1 (s 327 (by decide)).1 (e 371 (by decide)) (s 369 (by decide)).1 (Nat.le_of_eq (fN_eq (e 325 (by decide))).symm), ⟨by rw [n5 316 (by decide) (by decide) 0 (by have := c.2.1; omega)]; exact p.2.1, fun j hj q => ?_⟩⟩, k.of (e 336 (by decide)) (fun k k1 _ => (s k (by omega)).2.1) (s 337 (by decide)).1 (s 339 (by decide)).1 (s 342 (by decide)).1 (by rw [n2]; exact Nat.le_succ _), ⟨⟨sc, (e 346 (by decide)).trans x1, by rw [fN_eq (e 324 (by decide))]; exact x2⟩, ⟨hr, (e 347 (by decide)).trans y1, by rw [fN_eq (e 336 (by decide))]; exact y2⟩⟩, ?_⟩
  · rw [n2] at hj ⊢
    by_cases c : j = fN σ 315
    · subst c
      rw [n6.1] at q
      rcases h35 with z | ⟨i, i1, i2⟩
      · rw [q] at z
        exact absurd z (by decide)
      · exact ⟨i, n6.2.1.trans i1, by omega⟩
    · rw [n5 316 (by decide) (by decide) j (by omega)] at q
      obtain ⟨i, i1, i2⟩ := p.2.2 j (by omega) q
      exact ⟨i, by rw [n5 317 (by decide) (by decide) j (by omega)]; exact i1, by omega⟩
  unfold lnB
  rw [(s 361 (by decide)).2.1, (s 362 (by decide)).2.1, (s 363 (by decide)).2.1, (s 369 (by decide)).2.1, (s 370 (by decide)).2.1, (sm 306 (Or.inr (by decide)) (by decide)).2.1, (sm 215 (Or.inr (by decide)) (by decide)).2.1, (sm 217 (Or.inr (by decide)) (by decide)).2.1, (sm 219 (Or.inr (by decide)) (by decide)).2.1, (s 326 (by decide)).2.1, (s 337 (by decide)).2.1, (s 332 (by decide)).2.1]
  exact ⟨l1, l2, l3, by omega, by omega⟩
theorem lnB.use {T : sT} {σ : mmS} (h : cI T σ) : 9 ≤ mm_bc σ ∧ 1360000 ≤ mm_bs σ ∧ rsN σ := by
  obtain ⟨t, c, ⟨R, g⟩, p, k, -, ⟨l1, l2, l3, l4, l5⟩⟩ := h
  have c5 := c.2.2.2.2.1
  have g4 := g.2.1.2.2.2.1
  unfold rsN
  exact ⟨by omega, by omega, by omega, by omega⟩
