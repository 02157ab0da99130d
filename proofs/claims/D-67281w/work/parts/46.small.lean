/-! PHASE 3. Small methods: what is asked of tokens or fails; shapes of nodes -/
/-- the state behind fail() -/
def fl (T : sT) (σ : mmS) : mmS := mm_setf (mm_setf σ 303 1) 311 (nI (t_e T))
section SMALL
variable {T : sT} {σ : mmS} {i a d : Nat} {K : Int32 → mmS → Prop} {V : mmS → Prop} {X : Nat → mmS → Prop}
theorem c_need {s : Int32} (hd : 3 ≤ d) (t : Tk T σ) (hp : mm_f σ 311 = nI i) (hi : i < 3002) (k0 : t_sg T i s = false → V (fl T σ)) (k1 : t_sg T i s = true → V (mm_setf σ 311 (nI (i + 1)))) : mm_cv (MC d) 3036 [.inr (.inr (3, a)), .inl s] σ V X := by
  obtain ⟨d, rfl, hd⟩ := mc_pos hd
  refine mc_cv (P := mt3036) (L := 2) rfl rfl ⟨by decide, Nat.le_refl _⟩ fun Q hK hX => b3036_0 _ _ _ _ _ ?_
  exact c_eat (by omega) t hp hi (fun h => br_y rfl (c_fail (by omega) t ⟨rfl, hK _ (k0 h)⟩)) (fun h => br_n (by decide) (hK _ (k1 h)))
theorem c_needWord {s : Int32} (hd : 3 ≤ d) (t : Tk T σ) (hp : mm_f σ 311 = nI i) (hi : i < 3002) (k0 : t_wd T i s = false → V (fl T σ)) (k1 : t_wd T i s = true → V (mm_setf σ 311 (nI (i + 1)))) : mm_cv (MC d) 3034 [.inr (.inr (3, a)), .inl s] σ V X := by
  obtain ⟨d, rfl, hd⟩ := mc_pos hd
  refine mc_cv (P := mt3034) (L := 2) rfl rfl ⟨by decide, Nat.le_refl _⟩ fun Q hK hX => b3034_0 _ _ _ _ _ ?_
  exact c_eatWord (by omega) t hp hi (fun h => br_y rfl (c_fail (by omega) t ⟨rfl, hK _ (k0 h)⟩)) (fun h => br_n (by decide) (hK _ (k1 h)))
theorem c_identifier (hd : 2 ≤ d) (t : Tk T σ) (hp : mm_f σ 311 = nI i) (hi : i < 3002) (k0 : t_id T i = false → K 0 (fl T σ)) (k1 : t_id T i = true → K (t_v T i) (mm_setf σ 311 (nI (i + 1)))) : mm_ci (MC d) 3026 [.inr (.inr (3, a))] σ K X := by
  obtain ⟨d, rfl, hd⟩ := mc_pos hd
  refine mc_ci (P := mt3026) (L := 1) rfl rfl ⟨by decide, Nat.le_refl _⟩ fun Q hK hX => b3026_0 _ _ _ _ ?_
  refine c_isName (by omega) t hp hi (br_0 (fun h => c_fail (by omega) t (hK _ _ (k0 h))) (fun h => ?_))
  rw [hp, nI_s1, f_same, nI_pred]
  exact (t.setf (by decide)).v hi (hK _ _ (k1 h))
theorem c_word (hd : 2 ≤ d) (t : Tk T σ) (hp : mm_f σ 311 = nI i) (hi : i < 3002) (k0 : t_kd T i 1 = false → K 0 (fl T σ)) (k1 : t_kd T i 1 = true → K (t_v T i) (mm_setf σ 311 (nI (i + 1)))) : mm_ci (MC d) 3037 [.inr (.inr (3, a))] σ K X := by
  obtain ⟨d, rfl, hd⟩ := mc_pos hd
  refine mc_ci (P := mt3037) (L := 1) rfl rfl ⟨by decide, Nat.le_refl _⟩ fun Q hK hX => b3037_0 _ _ _ _ ?_
  rw [hp]
  refine t.k hi (br_p (fun h => ?_) (fun h => c_fail (by omega) t (hK _ _ (k0 (by simp [t_kd, h])))))
  rw [nI_s1, f_same, nI_pred]
  exact (t.setf (by decide)).v hi (hK _ _ (k1 (by simp [t_kd, h])))
theorem c_semi (hd : 3 ≤ d) (t : Tk T σ) (hp : mm_f σ 311 = nI i) (hi : i < 3002) (k1 : t_sg T i 8 = true → V (mm_setf σ 311 (nI (i + 1))))
    (k2 : t_sg T i 8 = false → (t_sg T i 1 || t_kd T i 0 || t_ln T i) = true → V σ) (k0 : t_sg T i 8 = false → (t_sg T i 1 || t_kd T i 0 || t_ln T i) = false → V (fl T σ)) : mm_cv (MC d) 3021 [.inr (.inr (3, a))] σ V X := by
  obtain ⟨d, rfl, hd⟩ := mc_pos hd
  refine mc_cv (P := mt3021) (L := 1) rfl rfl ⟨by decide, Nat.le_refl _⟩ fun Q hK hX => b3021_0 _ _ _ _ ?_
  refine c_eat (by omega) t hp hi (fun h => br_y rfl ?_) (fun h => br_n (by decide) (hK _ (k1 h)))
  refine c_isSign (by omega) t hp hi (br_0 (fun h1 => ?_) (fun h1 => hK _ (k2 h (by rw [h1]; rfl))))
  rw [hp]
  refine t.k hi (br_p (fun h2 => hK _ (k2 h (by simp [t_kd, h2]))) (fun h2 => ?_))
  refine c_lineBefore (by omega) t hp hi (br_0 (fun h3 => c_fail (by omega) t ⟨rfl, hK _ (k0 h (by simp [h1, t_kd, h2, h3]))⟩) (fun h3 => hK _ (k2 h (by simp [h3]))))
theorem c_enter {m : Nat} (hd : 2 ≤ d) (t : Tk T σ) (hm : mm_f σ 312 = nI m) (hm2 : m < 1000000) (k0 : 48 ≤ m → V (fl T (mm_setf σ 312 (nI (m + 1))))) (k1 : m < 48 → V (mm_setf σ 312 (nI (m + 1)))) : mm_cv (MC d) 3043 [.inr (.inr (3, a))] σ V X := by
  obtain ⟨d, rfl, hd⟩ := mc_pos hd
  refine mc_cv (P := mt3043) (L := 1) rfl rfl ⟨by decide, Nat.le_refl _⟩ fun Q hK hX => b3043_0 _ _ _ _ ?_
  rw [hm, nI_s1, f_same]
  have e : (48 : Int32) < nI (m + 1) ↔ 48 < m + 1 := nI_ltI (a := 48) (by decide) (by omega)
  refine br_p (fun h => ?_) (fun h => hK _ (k1 (by rw [e] at h; omega)))
  exact c_fail (by omega) (t.setf (by decide)) ⟨rfl, hK _ (k0 (by rw [e] at h; omega))⟩
end SMALL
/-- rows of nodes -/
def r_si (w x : Int32) : Bool := bif w == 4 then !n_bad x else w == 14 || w == 15 || w == 16 || w == 19 || w == 20
section ROWS
variable {σ : mmS} {k a d : Nat} {K : Int32 → mmS → Prop} {X : Nat → mmS → Prop}
theorem cN_rd (h : cN σ) {j : Nat} (h1 : 316 ≤ j) (h2 : j ≤ 323) (hk : k < fN σ 315) {K : Int32 → Prop} (hK : K (mm_a σ j k)) : mm_L σ j (nI k) K := by
  obtain ⟨-, -, h3, -, h5, h6, -⟩ := h
  exact rd (h6 j h1 h2) (by omega) (by omega) hK
theorem c_isSimple (hd : 1 ≤ d) (h : cN σ) (hk : k < fN σ 315) (q : K (bI (r_si (mm_a σ 316 k) (mm_a σ 317 k))) σ) : mm_ci (MC d) 3102 [.inr (.inr (3, a)), .inl (nI k)] σ K X := by
  obtain ⟨d, rfl, hd⟩ := mc_pos hd
  refine mc_ci (P := mt3102) (L := 3) rfl rfl ⟨by decide, Nat.le_of_ble_eq_true rfl⟩ fun Q hK hX => b3102_0 _ _ _ _ _ _ ?_
  have y : r_si (mm_a σ 316 k) (mm_a σ 317 k) = true → (((1 : Int32) = 0 ∨ (1 : Int32) = 1) ∧ Q (.inl (some (.inl 1))) σ) := fun z => ⟨Or.inr rfl, hK _ _ (by rw [z] at q; exact q)⟩
  have n : r_si (mm_a σ 316 k) (mm_a σ 317 k) = false → (((0 : Int32) = 0 ∨ (0 : Int32) = 1) ∧ Q (.inl (some (.inl 0))) σ) := fun z => ⟨Or.inl rfl, hK _ _ (by rw [z] at q; exact q)⟩
  refine cN_rd h (by decide) (by decide) hk (br_p (fun c => cN_rd h (by decide) (by decide) hk (br_p (fun g => n (by simp [r_si, Bool.cond_eq_ite, n_bad, c, g])) fun g1 => cN_rd h (by decide) (by decide) hk (br_p (fun g => n (by simp [r_si, Bool.cond_eq_ite, n_bad, c, g])) fun g2 => y (by simp [r_si, Bool.cond_eq_ite, n_bad, c, g1, g2])))) fun c => ?_)
  refine br_p (fun g => y (by simp [r_si, Bool.cond_eq_ite, g])) fun g1 => br_p (fun g => y (by simp [r_si, Bool.cond_eq_ite, g])) fun g2 => br_p (fun g => y (by simp [r_si, Bool.cond_eq_ite, g])) fun g3 => br_p (fun g => y (by simp [r_si, Bool.cond_eq_ite, g])) fun g4 => br_p (fun g => y (by simp [r_si, Bool.cond_eq_ite, g])) fun g5 => n (by simp [r_si, Bool.cond_eq_ite, c, g1, g2, g3, g4, g5])
theorem c_canDelete {j : Nat} (hd : 1 ≤ d) (h : cN σ) (hk : k < fN σ 315) (hj : mm_a σ 316 k = 35 → mm_a σ 317 k = nI j ∧ j < fN σ 315) (q : K (bI (!(mm_a σ 316 k == 4) && !(bif mm_a σ 316 k == 35 then mm_a σ 316 j == 16 else mm_a σ 316 k == 16))) σ) : mm_ci (MC d) 3110 [.inr (.inr (3, a)), .inl (nI k)] σ K X := by
  obtain ⟨d, rfl, hd⟩ := mc_pos hd
  refine mc_ci (P := mt3110) (L := 3) rfl rfl ⟨by decide, Nat.le_of_ble_eq_true rfl⟩ fun Q hK hX => b3110_0 _ _ _ _ _ _ ?_
  refine cN_rd h (by decide) (by decide) hk (br_p (fun c => cN_rd h (by decide) (by decide) hk ?_) fun c => ?_)
  · obtain ⟨e, hj⟩ := hj c
    rw [e]
    refine b3110_21 _ _ _ _ _ _ _ ?_
    refine cN_rd h (by decide) (by decide) hk (br_n (by rw [c]; decide) (cN_rd h (by decide) (by decide) hj (br_p (fun g => ⟨Or.inl rfl, hK _ _ ?_⟩) fun g => ⟨Or.inr rfl, hK _ _ ?_⟩)))
    · simp [Bool.cond_eq_ite, c, g] at q; exact q
    · simp [Bool.cond_eq_ite, c, beq_eq_false_iff_ne.mpr g] at q; exact q
  · refine b3110_21 _ _ _ _ _ _ _ ?_
    refine cN_rd h (by decide) (by decide) hk (br_p (fun g => ⟨Or.inl rfl, hK _ _ ?_⟩) fun g => cN_rd h (by decide) (by decide) hk (br_p (fun g2 => ⟨Or.inl rfl, hK _ _ ?_⟩) fun g2 => ⟨Or.inr rfl, hK _ _ ?_⟩))
    · simp [Bool.cond_eq_ite, g] at q; exact q
    · simp [Bool.cond_eq_ite, g2] at q; exact q
    · simp [Bool.cond_eq_ite, c, beq_eq_false_iff_ne.mpr g, beq_eq_false_iff_ne.mpr g2] at q; exact q
theorem c_mixes {op : Int32} (hd : 1 ≤ d) (h : cN σ) (hk : k < fN σ 315) (q : K (bI (mm_a σ 316 k == 26 && mm_a σ 323 k == 0 && !(mm_a σ 320 k == op) && (op == 36 || mm_a σ 320 k == 36))) σ) : mm_ci (MC d) 3112 [.inr (.inr (3, a)), .inl (nI k), .inl op] σ K X := by
  obtain ⟨d, rfl, hd⟩ := mc_pos hd
  refine mc_ci (P := mt3112) (L := 3) rfl rfl ⟨by decide, Nat.le_of_ble_eq_true rfl⟩ fun Q hK hX => b3112_0 _ _ _ _ _ _ ?_
  have y : (mm_a σ 316 k == 26 && mm_a σ 323 k == 0 && !(mm_a σ 320 k == op) && (op == 36 || mm_a σ 320 k == 36)) = true → (((1 : Int32) = 0 ∨ (1 : Int32) = 1) ∧ Q (.inl (some (.inl 1))) σ) := fun z => ⟨Or.inr rfl, hK _ _ (by rw [z] at q; exact q)⟩
  have n : (mm_a σ 316 k == 26 && mm_a σ 323 k == 0 && !(mm_a σ 320 k == op) && (op == 36 || mm_a σ 320 k == 36)) = false → (((0 : Int32) = 0 ∨ (0 : Int32) = 1) ∧ Q (.inl (some (.inl 0))) σ) := fun z => ⟨Or.inl rfl, hK _ _ (by rw [z] at q; exact q)⟩
  refine cN_rd h (by decide) (by decide) hk (br_p (fun c1 => cN_rd h (by decide) (by decide) hk (br_p (fun c2 => cN_rd h (by decide) (by decide) hk (br_p (fun c3 => n (by simp [c3])) fun c3 => br_p (fun c4 => y (by simp [c1, c2, c4]; rw [c4] at c3; exact c3)) fun c4 => cN_rd h (by decide) (by decide) hk (br_p (fun c5 => y (by simp [c1, c2, c5]; rw [c5] at c3; exact c3)) fun c5 => n (by simp [c4, c5])))) fun c2 => n (by simp [c2]))) fun c1 => n (by simp [c1]))
theorem c_node5 {w x y z v : Int32} (hd : 4 ≤ d) (h : cN σ) (hn : fN σ 315 ≤ 85000) (hc : 8 ≤ mm_bc σ) (hs : 1360000 ≤ mm_bs σ) (q : ∀ u, NS σ w x y z u → K (nI (fN σ 315)) (mm_seta u 320 (fN σ 315) v)) :
    mm_ci (MC d) 3056 [.inr (.inr (3, a)), .inl w, .inl x, .inl y, .inl z, .inl v] σ K X := by
  obtain ⟨d, rfl, hd⟩ := mc_pos hd
  refine mc_ci (P := mt3056) (L := 7) rfl rfl ⟨by decide, Nat.le_of_ble_eq_true rfl⟩ fun Q hK hX => b3056_0 _ _ _ _ _ _ _ _ _ _ ?_
  refine c_node (by omega) h hn hc hs (fun u hu => ?_)
  obtain ⟨u1, u2, -⟩ := id hu
  obtain ⟨-, -, h3, -, h5, h6, -⟩ := u1
  exact wr (h6 320 (by decide) (by decide)) (by omega) (by omega) (hK _ _ (q u hu))
end ROWS
