/-! PHASE 3. kept() and keep(): where the reader is, as bits of a long -/
def kb (c : sC) : Int32 := (((((bif c.1 then 1 else 0) ||| (bif c.2.1 then 2 else 0)) ||| (bif c.2.2.1 then 4 else 0)) ||| (bif c.2.2.2.1 then 8 else 0)) ||| (bif c.2.2.2.2.1 then 16 else 0)) ||| (bif c.2.2.2.2.2 then 32 else 0)
def kvG (c : sC) (l k t b : Int32) : Int64 := Int32.toInt64 (((kb c ||| mf_ishl l 6) ||| mf_ishl k 13) ||| mf_ishl t 20) ||| mf_lshl (Int32.toInt64 b) 32
def nz (x : Int32) : Bool := !(x == 0)
theorem nz_f {x : Int32} (h : x = 0) : nz x = false := by rw [h]; rfl
theorem nz_t {x : Int32} (h : ¬ x = 0) : nz x = true := by unfold nz; rw [beq_eq_false_iff_ne.mpr h]; rfl
theorem nz_bI {b : Bool} : nz (bI b) = b := by cases b <;> decide
def kpt (σ : mmS) : Int64 := kvG (nz (mm_f σ 348), nz (mm_f σ 349), nz (mm_f σ 350), nz (mm_f σ 351), nz (mm_f σ 352), nz (mm_f σ 353)) (mm_f σ 354) (mm_f σ 355) (mm_f σ 356) (mm_f σ 357)
theorem lu_or {x y : Int64} {s : Int32} : mf_lushr (x ||| y) s = mf_lushr x s ||| mf_lushr y s := Int64.toBitVec_inj.1 (by simp [mf_lushr, BitVec.ushiftRight_or_distrib])
theorem an_or {x y m : Int32} : (x ||| y) &&& m = (x &&& m) ||| (y &&& m) := Int32.toBitVec_inj.1 (by simp [BitVec.and_or_distrib_right])
theorem sr_or {x y s : Int32} : mf_ishr (x ||| y) s = mf_ishr x s ||| mf_ishr y s := by unfold mf_ishr; exact Int32.shiftRight_or
theorem su_or {x y s : Int32} : mf_iushr (x ||| y) s = mf_iushr x s ||| mf_iushr y s := Int32.toBitVec_inj.1 (by simp [mf_iushr, BitVec.ushiftRight_or_distrib])
theorem kp_c : ∀ c : sC, (mf_ishr (kb c) 6 &&& 127) = 0 ∧ (mf_ishr (kb c) 13 &&& 127) = 0 ∧ mf_iushr (kb c) 20 = 0 ∧ Int64.toInt32 (mf_lushr (Int32.toInt64 (kb c)) 32) = 0 ∧ (kb c &&& 1) = (bif c.1 then 1 else 0) ∧ (kb c &&& 2) = (bif c.2.1 then 2 else 0) ∧ (kb c &&& 4) = (bif c.2.2.1 then 4 else 0) ∧ (kb c &&& 8) = (bif c.2.2.2.1 then 8 else 0) ∧ (kb c &&& 16) = (bif c.2.2.2.2.1 then 16 else 0) ∧ (kb c &&& 32) = (bif c.2.2.2.2.2 then 32 else 0) := by
  rintro ⟨a, b, c, d, e, f⟩
  cases a <;> cases b <;> cases c <;> cases d <;> cases e <;> cases f <;> decide +kernel
theorem kp_l : ∀ l, l < 49 → (mf_ishr (mf_ishl (nI l) 6) 6 &&& 127) = nI l ∧ (mf_ishr (mf_ishl (nI l) 6) 13 &&& 127) = 0 ∧ mf_iushr (mf_ishl (nI l) 6) 20 = 0 ∧ Int64.toInt32 (mf_lushr (Int32.toInt64 (mf_ishl (nI l) 6)) 32) = 0 ∧ (mf_ishl (nI l) 6 &&& 63) = 0 := by decide +kernel
theorem kp_k : ∀ l, l < 49 → (mf_ishr (mf_ishl (nI l) 13) 6 &&& 127) = 0 ∧ (mf_ishr (mf_ishl (nI l) 13) 13 &&& 127) = nI l ∧ mf_iushr (mf_ishl (nI l) 13) 20 = 0 ∧ Int64.toInt32 (mf_lushr (Int32.toInt64 (mf_ishl (nI l) 13)) 32) = 0 ∧ (mf_ishl (nI l) 13 &&& 63) = 0 := by decide +kernel
theorem kp_t : ∀ l, l < 49 → (mf_ishr (mf_ishl (nI l) 20) 6 &&& 127) = 0 ∧ (mf_ishr (mf_ishl (nI l) 20) 13 &&& 127) = 0 ∧ mf_iushr (mf_ishl (nI l) 20) 20 = nI l ∧ Int64.toInt32 (mf_lushr (Int32.toInt64 (mf_ishl (nI l) 20)) 32) = 0 ∧ (mf_ishl (nI l) 20 &&& 63) = 0 := by decide +kernel
theorem kp_b : ∀ l, l < 49 → Int64.toInt32 (mf_lshl (Int32.toInt64 (nI l)) 32) = 0 ∧ Int64.toInt32 (mf_lushr (mf_lshl (Int32.toInt64 (nI l)) 32) 32) = nI l := by decide +kernel
theorem an_63 {x m : Int32} (h : x &&& 63 = 0) (hm : 63 &&& m = m) : x &&& m = 0 := by
  rw [← hm, ← Int32.and_assoc, h, Int32.zero_and]
section KV
variable {c : sC} {l k t b : Nat}
theorem kv_w (hb : b < 49) : Int64.toInt32 (kvG c (nI l) (nI k) (nI t) (nI b)) = ((kb c ||| mf_ishl (nI l) 6) ||| mf_ishl (nI k) 13) ||| mf_ishl (nI t) 20 := by
  rw [kvG, Int64.toInt32_or, (kp_b b hb).1, Int32.or_zero, Int32.toInt32_toInt64]
theorem kv_b (hl : l < 49) (hk : k < 49) (ht : t < 49) (hb : b < 49) : Int64.toInt32 (mf_lushr (kvG c (nI l) (nI k) (nI t) (nI b)) 32) = nI b := by
  rw [kvG, lu_or, Int64.toInt32_or, (kp_b b hb).2, Int32.toInt64_or, Int32.toInt64_or, Int32.toInt64_or, lu_or, lu_or, lu_or, Int64.toInt32_or, Int64.toInt32_or, Int64.toInt32_or, (kp_c c).2.2.2.1, (kp_l l hl).2.2.2.1, (kp_k k hk).2.2.2.1, (kp_t t ht).2.2.2.1]
  simp
theorem kv_l (hl : l < 49) (hk : k < 49) (ht : t < 49) : mf_ishr (((kb c ||| mf_ishl (nI l) 6) ||| mf_ishl (nI k) 13) ||| mf_ishl (nI t) 20) 6 &&& 127 = nI l := by
  rw [sr_or, sr_or, sr_or, an_or, an_or, an_or, (kp_c c).1, (kp_l l hl).1, (kp_k k hk).1, (kp_t t ht).1]
  simp
theorem kv_k (hl : l < 49) (hk : k < 49) (ht : t < 49) : mf_ishr (((kb c ||| mf_ishl (nI l) 6) ||| mf_ishl (nI k) 13) ||| mf_ishl (nI t) 20) 13 &&& 127 = nI k := by
  rw [sr_or, sr_or, sr_or, an_or, an_or, an_or, (kp_c c).2.1, (kp_l l hl).2.1, (kp_k k hk).2.1, (kp_t t ht).2.1]
  simp
theorem kv_t (hl : l < 49) (hk : k < 49) (ht : t < 49) : mf_iushr (((kb c ||| mf_ishl (nI l) 6) ||| mf_ishl (nI k) 13) ||| mf_ishl (nI t) 20) 20 = nI t := by
  rw [su_or, su_or, su_or, (kp_c c).2.2.1, (kp_l l hl).2.2.1, (kp_k k hk).2.2.1, (kp_t t ht).2.2.1]
  simp
theorem kv_m {m : Int32} (hl : l < 49) (hk : k < 49) (ht : t < 49) (hm : 63 &&& m = m) : (((kb c ||| mf_ishl (nI l) 6) ||| mf_ishl (nI k) 13) ||| mf_ishl (nI t) 20) &&& m = kb c &&& m := by
  rw [an_or, an_or, an_or, an_63 (kp_l l hl).2.2.2.2 hm, an_63 (kp_k k hk).2.2.2.2 hm, an_63 (kp_t t ht).2.2.2.2 hm, Int32.or_zero, Int32.or_zero, Int32.or_zero]
end KV
/-- the state behind keep(v) -/
def kz (w m : Int32) : Int32 := bif (w &&& m) == 0 then 0 else 1
def kpS (σ : mmS) (v : Int64) : mmS :=
  mm_setf (mm_setf (mm_setf (mm_setf (mm_setf (mm_setf (mm_setf (mm_setf (mm_setf (mm_setf σ 357 (Int64.toInt32 (mf_lushr v 32))) 348 (kz (Int64.toInt32 v) 1)) 349 (kz (Int64.toInt32 v) 2)) 350 (kz (Int64.toInt32 v) 4)) 351 (kz (Int64.toInt32 v) 8)) 352 (kz (Int64.toInt32 v) 16)) 353 (kz (Int64.toInt32 v) 32)) 354 (mf_ishr (Int64.toInt32 v) 6 &&& 127)) 355 (mf_ishr (Int64.toInt32 v) 13 &&& 127)) 356 (mf_iushr (Int64.toInt32 v) 20)
theorem kz_01 {w m : Int32} : kz w m = 0 ∨ kz w m = 1 := by
  unfold kz
  cases (w &&& m) == 0
  · exact Or.inr rfl
  · exact Or.inl rfl
theorem kz_y {w m : Int32} (h : (w &&& m) = 0) : kz w m = 0 := by unfold kz; rw [h]; rfl
theorem kz_n {w m : Int32} (h : ¬ (w &&& m) = 0) : kz w m = 1 := by unfold kz; rw [beq_eq_false_iff_ne.mpr h]; rfl
section KEPT
variable {σ : mmS} {d a : Nat} {Q : mmQ}
theorem c_kept {K : Int64 → mmS → Prop} (hd : 1 ≤ d) (k : K (kpt σ) σ) : mm_J (MC d) Q 3046 [.inr (.inr (3, a))] σ K := by
  obtain ⟨d, rfl, hd⟩ := mc_pos hd
  refine mc_cl (P := mt3046) (L := 1) rfl rfl ⟨by decide, Nat.le_refl _⟩ fun Q hK hX => b3046_0 _ _ _ _ ?_
  have e79 : ∀ s0 s1 : Int32, (s1 ||| s0) = kb (nz (mm_f σ 348), nz (mm_f σ 349), nz (mm_f σ 350), nz (mm_f σ 351), nz (mm_f σ 352), nz (mm_f σ 353)) → mm_W mt3046 (MC d) Q (79, [some (.inr (.inr (3, a)))], [.inl s0, .inl s1]) σ := fun s0 s1 e => by
    refine b3046_79 _ _ _ _ _ _ ?_
    rw [e]
    exact hK _ _ k
  have e51 : ∀ s0 s1 : Int32, (s1 ||| s0) = (((bif nz (mm_f σ 348) then 1 else 0) ||| (bif nz (mm_f σ 349) then 2 else 0)) ||| (bif nz (mm_f σ 350) then 4 else 0)) ||| (bif nz (mm_f σ 351) then 8 else 0) → mm_W mt3046 (MC d) Q (51, [some (.inr (.inr (3, a)))], [.inl s0, .inl s1]) σ := fun s0 s1 e => by
    refine b3046_51 _ _ _ _ _ _ (br_p (fun h1 => br_p (fun h2 => e79 _ _ ?_) (fun h2 => e79 _ _ ?_)) (fun h1 => br_p (fun h2 => e79 _ _ ?_) (fun h2 => e79 _ _ ?_)))
    · rw [e, kb, nz_f h1, nz_f h2]; rfl
    · rw [e, kb, nz_f h1, nz_t h2]; rfl
    · rw [e, kb, nz_t h1, nz_f h2]; rfl
    · rw [e, kb, nz_t h1, nz_t h2]; rfl
  have e24 : ∀ s0 s1 : Int32, (s1 ||| s0) = (bif nz (mm_f σ 348) then 1 else 0) ||| (bif nz (mm_f σ 349) then 2 else 0) → mm_W mt3046 (MC d) Q (24, [some (.inr (.inr (3, a)))], [.inl s0, .inl s1]) σ := fun s0 s1 e => by
    refine b3046_24 _ _ _ _ _ _ (br_p (fun h1 => br_p (fun h2 => e51 _ _ ?_) (fun h2 => e51 _ _ ?_)) (fun h1 => br_p (fun h2 => e51 _ _ ?_) (fun h2 => e51 _ _ ?_)))
    · rw [e, nz_f h1, nz_f h2]; rfl
    · rw [e, nz_f h1, nz_t h2]; rfl
    · rw [e, nz_t h1, nz_f h2]; rfl
    · rw [e, nz_t h1, nz_t h2]; rfl
  refine br_p (fun h1 => br_p (fun h2 => e24 _ _ ?_) (fun h2 => e24 _ _ ?_)) (fun h1 => br_p (fun h2 => e24 _ _ ?_) (fun h2 => e24 _ _ ?_))
  · rw [nz_f h1, nz_f h2]; rfl
  · rw [nz_f h1, nz_t h2]; rfl
  · rw [nz_t h1, nz_f h2]; rfl
  · rw [nz_t h1, nz_t h2]; rfl
theorem c_keep {v : Int64} {K : mmS → Prop} {X : Nat → mmS → Prop} (hd : 1 ≤ d) (k : K (kpS σ v)) : mm_cv (MC d) 3088 [.inr (.inr (3, a)), .inr (.inl v)] σ K X := by
  obtain ⟨d, rfl, hd⟩ := mc_pos hd
  refine mc_cv (P := mt3088) (L := 4) rfl rfl ⟨by decide, Nat.le_of_ble_eq_true rfl⟩ fun Q hK hX => b3088_0 _ _ _ _ _ _ _ ?_
  have f : ∀ (σ : mmS) (s0 : Int32) (as1 : Nat), s0 = kz (Int64.toInt32 v) 32 → (∀ u, u = mm_setf (mm_setf (mm_setf (mm_setf σ 353 (kz (Int64.toInt32 v) 32)) 354 (mf_ishr (Int64.toInt32 v) 6 &&& 127)) 355 (mf_ishr (Int64.toInt32 v) 13 &&& 127)) 356 (mf_iushr (Int64.toInt32 v) 20) → Q (.inl none) u) → mm_W mt3088 (MC d) Q (102, [some (.inr (.inr (3, a))), some (.inr (.inl v)), none, some (.inl (Int64.toInt32 v))], [.inl s0, .inr (.inr (3, as1))]) σ := fun σ s0 as1 e h => by
    refine b3088_102 _ _ _ _ _ _ _ _ _ ⟨by rw [e]; exact kz_01, h _ (by rw [e])⟩
  have g86 : ∀ (σ : mmS) (s0 : Int32) (as1 : Nat), s0 = kz (Int64.toInt32 v) 16 → (∀ u, u = mm_setf (mm_setf (mm_setf (mm_setf (mm_setf σ 352 (kz (Int64.toInt32 v) 16)) 353 (kz (Int64.toInt32 v) 32)) 354 (mf_ishr (Int64.toInt32 v) 6 &&& 127)) 355 (mf_ishr (Int64.toInt32 v) 13 &&& 127)) 356 (mf_iushr (Int64.toInt32 v) 20) → Q (.inl none) u) → mm_W mt3088 (MC d) Q (86, [some (.inr (.inr (3, a))), some (.inr (.inl v)), none, some (.inl (Int64.toInt32 v))], [.inl s0, .inr (.inr (3, as1))]) σ := fun σ s0 as1 e h => by
    subst e
    exact b3088_86 _ _ _ _ _ _ _ _ _ ⟨kz_01, br_p (fun z => f _ _ _ (kz_y z).symm h) (fun z => f _ _ _ (kz_n z).symm h)⟩
  have g70 : ∀ (σ : mmS) (s0 : Int32) (as1 : Nat), s0 = kz (Int64.toInt32 v) 8 → (∀ u, u = mm_setf (mm_setf (mm_setf (mm_setf (mm_setf (mm_setf σ 351 (kz (Int64.toInt32 v) 8)) 352 (kz (Int64.toInt32 v) 16)) 353 (kz (Int64.toInt32 v) 32)) 354 (mf_ishr (Int64.toInt32 v) 6 &&& 127)) 355 (mf_ishr (Int64.toInt32 v) 13 &&& 127)) 356 (mf_iushr (Int64.toInt32 v) 20) → Q (.inl none) u) → mm_W mt3088 (MC d) Q (70, [some (.inr (.inr (3, a))), some (.inr (.inl v)), none, some (.inl (Int64.toInt32 v))], [.inl s0, .inr (.inr (3, as1))]) σ := fun σ s0 as1 e h => by
    subst e
    exact b3088_70 _ _ _ _ _ _ _ _ _ ⟨kz_01, br_p (fun z => g86 _ _ _ (kz_y z).symm h) (fun z => g86 _ _ _ (kz_n z).symm h)⟩
  have g54 : ∀ (σ : mmS) (s0 : Int32) (as1 : Nat), s0 = kz (Int64.toInt32 v) 4 → (∀ u, u = mm_setf (mm_setf (mm_setf (mm_setf (mm_setf (mm_setf (mm_setf σ 350 (kz (Int64.toInt32 v) 4)) 351 (kz (Int64.toInt32 v) 8)) 352 (kz (Int64.toInt32 v) 16)) 353 (kz (Int64.toInt32 v) 32)) 354 (mf_ishr (Int64.toInt32 v) 6 &&& 127)) 355 (mf_ishr (Int64.toInt32 v) 13 &&& 127)) 356 (mf_iushr (Int64.toInt32 v) 20) → Q (.inl none) u) → mm_W mt3088 (MC d) Q (54, [some (.inr (.inr (3, a))), some (.inr (.inl v)), none, some (.inl (Int64.toInt32 v))], [.inl s0, .inr (.inr (3, as1))]) σ := fun σ s0 as1 e h => by
    subst e
    exact b3088_54 _ _ _ _ _ _ _ _ _ ⟨kz_01, br_p (fun z => g70 _ _ _ (kz_y z).symm h) (fun z => g70 _ _ _ (kz_n z).symm h)⟩
  have g39 : ∀ (σ : mmS) (s0 : Int32) (as1 : Nat), s0 = kz (Int64.toInt32 v) 2 → (∀ u, u = mm_setf (mm_setf (mm_setf (mm_setf (mm_setf (mm_setf (mm_setf (mm_setf σ 349 (kz (Int64.toInt32 v) 2)) 350 (kz (Int64.toInt32 v) 4)) 351 (kz (Int64.toInt32 v) 8)) 352 (kz (Int64.toInt32 v) 16)) 353 (kz (Int64.toInt32 v) 32)) 354 (mf_ishr (Int64.toInt32 v) 6 &&& 127)) 355 (mf_ishr (Int64.toInt32 v) 13 &&& 127)) 356 (mf_iushr (Int64.toInt32 v) 20) → Q (.inl none) u) → mm_W mt3088 (MC d) Q (39, [some (.inr (.inr (3, a))), some (.inr (.inl v)), none, some (.inl (Int64.toInt32 v))], [.inl s0, .inr (.inr (3, as1))]) σ := fun σ s0 as1 e h => by
    subst e
    exact b3088_39 _ _ _ _ _ _ _ _ _ ⟨kz_01, br_p (fun z => g54 _ _ _ (kz_y z).symm h) (fun z => g54 _ _ _ (kz_n z).symm h)⟩
  have g24 : ∀ (σ : mmS) (s0 : Int32) (as1 : Nat), s0 = kz (Int64.toInt32 v) 1 → (∀ u, u = mm_setf (mm_setf (mm_setf (mm_setf (mm_setf (mm_setf (mm_setf (mm_setf (mm_setf σ 348 (kz (Int64.toInt32 v) 1)) 349 (kz (Int64.toInt32 v) 2)) 350 (kz (Int64.toInt32 v) 4)) 351 (kz (Int64.toInt32 v) 8)) 352 (kz (Int64.toInt32 v) 16)) 353 (kz (Int64.toInt32 v) 32)) 354 (mf_ishr (Int64.toInt32 v) 6 &&& 127)) 355 (mf_ishr (Int64.toInt32 v) 13 &&& 127)) 356 (mf_iushr (Int64.toInt32 v) 20) → Q (.inl none) u) → mm_W mt3088 (MC d) Q (24, [some (.inr (.inr (3, a))), some (.inr (.inl v)), none, some (.inl (Int64.toInt32 v))], [.inl s0, .inr (.inr (3, as1))]) σ := fun σ s0 as1 e h => by
    subst e
    exact b3088_24 _ _ _ _ _ _ _ _ _ ⟨kz_01, br_p (fun z => g39 _ _ _ (kz_y z).symm h) (fun z => g39 _ _ _ (kz_n z).symm h)⟩
  have fin : ∀ u, u = kpS σ v → Q (.inl none) u := fun u e => by rw [e]; exact hK _ k
  exact br_p (fun z => g24 _ _ _ (kz_y z).symm fin) (fun z => g24 _ _ _ (kz_n z).symm fin)
theorem c_finish {f s h : Int32} {v : Int64} {K : mmS → Prop} (hd : 2 ≤ d) (k : K (kpS (mm_setf (mm_setf σ 346 s) 347 h) v)) : mm_V (MC d) Q 3087 [.inr (.inr (3, a)), .inl f, .inl s, .inl h, .inr (.inl v)] σ K := by
  obtain ⟨d, rfl, hd⟩ := mc_pos hd
  exact mc_cv (P := mt3087) (L := 6) rfl rfl ⟨by decide, Nat.le_of_ble_eq_true rfl⟩ fun Q hK hX => b3087_0 _ _ _ _ _ _ _ _ _ (c_keep (by omega) (hK _ k))
/-- what keep() brings back -/
theorem kpS_f {c : sC} {l k t b j : Nat} (hl : l < 49) (hk : k < 49) (ht : t < 49) (hb : b < 49) : mm_f (kpS σ (kvG c (nI l) (nI k) (nI t) (nI b))) j = if j = 356 then nI t else if j = 355 then nI k else if j = 354 then nI l else if j = 353 then bI c.2.2.2.2.2 else if j = 352 then bI c.2.2.2.2.1 else if j = 351 then bI c.2.2.2.1 else if j = 350 then bI c.2.2.1 else if j = 349 then bI c.2.1 else if j = 348 then bI c.1 else if j = 357 then nI b else mm_f σ j := by
  have w := kv_w (c := c) (l := l) (k := k) (t := t) hb
  have z : ∀ m x : Int32, (63 : Int32) &&& m = m → ∀ b : Bool, (kb c &&& m) = (bif b then x else 0) → ¬ x = 0 → kz (((kb c ||| mf_ishl (nI l) 6) ||| mf_ishl (nI k) 13) ||| mf_ishl (nI t) 20) m = bI b := fun m x hm b e hx => by
    have e2 := (kv_m (c := c) hl hk ht hm).trans e
    cases b with
    | true => exact kz_n (by rw [e2]; exact hx)
    | false => exact kz_y e2
  obtain ⟨p1, p2, p3, p4, p5, p6, p7, p8, p9, p10⟩ := kp_c c
  unfold kpS
  rw [w, kv_b hl hk ht hb, kv_l hl hk ht, kv_k hl hk ht, kv_t hl hk ht, z 1 1 (by decide) _ p5 (by decide), z 2 2 (by decide) _ p6 (by decide), z 4 4 (by decide) _ p7 (by decide), z 8 8 (by decide) _ p8 (by decide), z 16 16 (by decide) _ p9 (by decide), z 32 32 (by decide) _ p10 (by decide)]
  simp only [f_setf]
theorem kpS_n {v : Int64} {j : Nat} (h : ¬ (348 ≤ j ∧ j ≤ 357)) : mm_f (kpS σ v) j = mm_f σ j := by
  unfold kpS
  rw [f_other (by omega), f_other (by omega), f_other (by omega), f_other (by omega), f_other (by omega), f_other (by omega), f_other (by omega), f_other (by omega), f_other (by omega), f_other (by omega)]
end KEPT
