/-! PHASE 3. More tests of tokens: levels of operators, the bracket that shuts -/
theorem i_nlt {x y : Int32} (h : ¬ x < y) : y ≤ x := so_nlt.mp h
theorem b_12 (x : Int32) : x &&& 12 = (x &&& 4) ||| (x &&& 8) := by
  apply Int32.toBitVec_inj.mp
  rw [Int32.toBitVec_and, Int32.toBitVec_or, Int32.toBitVec_and, Int32.toBitVec_and, ← BitVec.and_or_distrib_left]
  rfl
theorem b_bit (x : Int32) (n : Nat) (h : n < 32) (c : Int32) (hc : c.toBitVec = BitVec.twoPow 32 n) : x &&& c = 0 ∨ x &&& c = c := by
  have e : (x &&& c).toBitVec = if x.toBitVec.getLsbD n then BitVec.twoPow 32 n else 0#32 := by
    rw [Int32.toBitVec_and, hc, BitVec.and_twoPow]
  by_cases q : x.toBitVec.getLsbD n = true
  · rw [if_pos q] at e
    exact Or.inr (Int32.toBitVec_inj.mp (by rw [e, hc]))
  · rw [if_neg q] at e
    exact Or.inl (Int32.toBitVec_inj.mp e)
theorem b_4 (x : Int32) : x &&& 4 = 0 ∨ x &&& 4 = 4 := b_bit x 2 (by decide) 4 (by decide)
theorem b_8 (x : Int32) : x &&& 8 = 0 ∨ x &&& 8 = 8 := b_bit x 3 (by decide) 8 (by decide)
theorem b_head (x : Int32) : (x &&& 12 = 4) ↔ (x &&& 4 ≠ 0 ∧ x &&& 8 = 0) := by
  rw [b_12]
  rcases b_4 x with h | h <;> rcases b_8 x with g | g <;> rw [h, g] <;> decide
theorem b_tail (x : Int32) : (x &&& 12 = 8) ↔ (x &&& 4 = 0 ∧ x &&& 8 ≠ 0) := by
  rw [b_12]
  rcases b_4 x with h | h <;> rcases b_8 x with g | g <;> rw [h, g] <;> decide
section LEAF
variable {T : sT} {σ : mmS} {i a d : Nat} {K : Int32 → mmS → Prop} {X : Nat → mmS → Prop}
theorem c_level {inn : Bool} (hd : 1 ≤ d) (t : Tk T σ) (hp : mm_f σ 311 = nI i) (hi : i < 3002) (k : K (nI (t_lv T inn i)) σ) : mm_ci (MC d) 3111 [.inr (.inr (3, a)), .inl (bI inn)] σ K X := by
  obtain ⟨d, rfl, hd⟩ := mc_pos hd
  refine mc_ci (P := mt3111) (L := 3) rfl rfl ⟨by decide, Nat.le_of_ble_eq_true rfl⟩ fun Q hK hX => b3111_0 _ _ _ _ _ _ ?_
  have y : ∀ n : Nat, t_lv T inn i = n → Q (.inl (some (.inl (nI n)))) σ := fun n h => hK _ _ (h ▸ k)
  rw [hp]
  refine t.k hi (br_p (fun h1 => t.v hi (br_p (fun h2 => y 8 (by simp [t_lv, Bool.cond_eq_ite, t_kd, h1, h2])) fun h2 => t.v hi (br_p (fun h3 => br_0 (fun h4 => y 0 (by simp [t_lv, Bool.cond_eq_ite, t_kd, h1, h3, h4])) (fun h4 => y 8 (by simp [t_lv, Bool.cond_eq_ite, t_kd, h1, h3, h4]))) fun h3 => y 0 (by simp [t_lv, Bool.cond_eq_ite, t_kd, h1, h2, h3])))) fun h1 => t.k hi (br_p (fun h2 => ?_) fun h2 => y 0 (by simp [t_lv, Bool.cond_eq_ite, t_kd, h1, h2])))
  refine t.v hi (br_p (fun g => y 1 (by simp [t_lv, Bool.cond_eq_ite, t_kd, h2, g])) fun g1 => br_p (fun g => y 2 (by simp [t_lv, Bool.cond_eq_ite, t_kd, h2, g])) fun g2 => br_p (fun g => y 3 (by simp [t_lv, Bool.cond_eq_ite, t_kd, h2, g])) fun g3 =>
    br_p (fun g => y 4 (by simp [t_lv, Bool.cond_eq_ite, t_kd, h2, g])) fun g4 => br_p (fun g => y 5 (by simp [t_lv, Bool.cond_eq_ite, t_kd, h2, g])) fun g5 => br_p (fun g => b3111_123 _ _ _ _ _ _ (y 6 (by simp [t_lv, Bool.cond_eq_ite, t_kd, h2, g]))) fun g6 => b3111_126 _ _ _ _ _ _ ?_)
  have w : ((decide (14 ≤ t_v T i) && decide (t_v T i ≤ 17)) = false) → mm_W mt3111 (MC d) Q (141, [some (.inr (.inr (3, a))), some (.inl (bI inn)), some (.inl (t_v T i))], []) σ := by
    intro c1
    refine b3111_141 _ _ _ _ _ _ ?_
    have w2 : ((decide (10 ≤ t_v T i) && decide (t_v T i ≤ 13)) = false) → ((decide (26 ≤ t_v T i) && decide (t_v T i ≤ 28)) = false) → mm_W mt3111 (MC d) Q (171, [some (.inr (.inr (3, a))), some (.inl (bI inn)), some (.inl (t_v T i))], []) σ := by
      intro c2 c3
      refine b3111_171 _ _ _ _ _ _ ?_
      refine br_p (fun g => y 10 (by simp [t_lv, Bool.cond_eq_ite, t_kd, h2, g])) fun g7 => br_p (fun g => y 10 (by simp [t_lv, Bool.cond_eq_ite, t_kd, h2, g])) fun g8 => br_p (fun g => y 0 ?_) fun g9 => br_p (fun g => y 0 ?_) fun g10 => y 11 ?_
      · simp [t_lv, Bool.cond_eq_ite, t_kd, h2, g1, g2, g3, g4, g5, g6, c1, c2, c3, g7, g8, show decide (20 ≤ t_v T i) = false from decide_eq_false (fun q => so_nlt.mpr q g)]
      · simp [t_lv, Bool.cond_eq_ite, t_kd, h2, g1, g2, g3, g4, g5, g6, c1, c2, c3, g7, g8, show decide (t_v T i ≤ 22) = false from decide_eq_false (fun q => so_nlt.mpr q g)]
      · simp [t_lv, Bool.cond_eq_ite, t_kd, h2, g1, g2, g3, g4, g5, g6, c1, c2, c3, g7, g8, i_nlt g9, i_nlt g10]
    have w3 : ((decide (10 ≤ t_v T i) && decide (t_v T i ≤ 13)) = false) → mm_br (t_v T i < 26) (mm_W mt3111 (MC d) Q (171, [some (.inr (.inr (3, a))), some (.inl (bI inn)), some (.inl (t_v T i))], []) σ) (mm_br (28 < t_v T i) (mm_W mt3111 (MC d) Q (171, [some (.inr (.inr (3, a))), some (.inl (bI inn)), some (.inl (t_v T i))], []) σ) (Q (.inl (some (.inl 9))) σ)) := by
      intro c2
      refine br_p (fun g => w2 c2 ?_) fun g7 => br_p (fun g => w2 c2 ?_) fun g8 => y 9 ?_
      · rw [decide_eq_false (fun q : 26 ≤ t_v T i => so_nlt.mpr q g), Bool.false_and]
      · rw [decide_eq_false (fun q : t_v T i ≤ 28 => so_nlt.mpr q g), Bool.and_false]
      · simp [t_lv, Bool.cond_eq_ite, t_kd, h2, g1, g2, g3, g4, g5, g6, c1, c2, i_nlt g7, i_nlt g8]
    refine br_p (fun g => w3 ?_) fun g7 => br_p (fun g => w3 ?_) fun g8 => y 8 ?_
    · rw [decide_eq_false (fun q : 10 ≤ t_v T i => so_nlt.mpr q g), Bool.false_and]
    · rw [decide_eq_false (fun q : t_v T i ≤ 13 => so_nlt.mpr q g), Bool.and_false]
    · simp [t_lv, Bool.cond_eq_ite, t_kd, h2, g1, g2, g3, g4, g5, g6, c1, i_nlt g7, i_nlt g8]
  refine br_p (fun g => w ?_) fun g7 => br_p (fun g => w ?_) fun g8 => y 7 ?_
  · rw [decide_eq_false (fun q : 14 ≤ t_v T i => so_nlt.mpr q g), Bool.false_and]
  · rw [decide_eq_false (fun q : t_v T i ≤ 17 => so_nlt.mpr q g), Bool.and_false]
  · simp [t_lv, Bool.cond_eq_ite, t_kd, h2, g1, g2, g3, g4, g5, g6, i_nlt g7, i_nlt g8]
theorem i_add1 (δ : Int) : Int32.ofInt δ + 1 = Int32.ofInt (δ + 1) := (Int32.ofInt_add δ 1).symm
theorem i_sub1 (δ : Int) : Int32.ofInt δ + (-1) = Int32.ofInt (δ - 1) := by
  rw [Int.sub_eq_add_neg, Int32.ofInt_add]; rfl
theorem i_zero {δ : Int} (h1 : -2147483648 ≤ δ) (h2 : δ < 2147483648) : Int32.ofInt δ = 0 ↔ δ = 0 := by
  have e : Int32.size = 4294967296 := rfl
  rw [← Int32.toInt_inj, Int32.toInt_ofInt, Int.bmod_eq_of_le (by omega) (by omega)]
  rfl
theorem nI_s1 (n : Nat) : nI n + 1 = nI (n + 1) := nI_add n 1
/-- one round of the search: what a token adds to the depth -/
theorem cl_loop (hE : t_kd T (t_e T) 0 = true) (t : Tk T σ) {w4 w5 : Option mmV} {Q : mmQ} : ∀ (f k : Nat) (δ : Int) (w4 w5 : Option mmV), k ≤ t_e T → t_e T < f + k → -(k : Int) ≤ δ → δ ≤ (k : Int) → Q (.inl (some (.inl (nI (t_clL T f δ k))))) σ →
    mm_W mt3059 (MC d) Q (4, [some (.inr (.inr (3, a))), some (.inl (nI i)), some (.inl (Int32.ofInt δ)), some (.inl (nI k)), w4, w5], []) σ
  | 0, k, δ, w4, w5, h1, h2, _, _, _ => absurd h2 (by omega)
  | f + 1, k, δ, w4, w5, h1, h2, h3, h4, hq => by
    have he : t_e T < 1262 := t.2.2.2.2.2.2.2.1
    have hk : k < 3002 := by omega
    refine b3059_4 _ _ _ _ _ _ _ _ _ ?_
    refine t.k hk (br_p (fun c0 => ?_) fun c0 => ?_)
    · rw [t.2.2.2.2.2.2.1, nI_pred]
      rw [t_clL, show t_kd T k 0 = true by simp [t_kd, c0], cond_true] at hq
      exact hq
    · rw [t_clL, show t_kd T k 0 = false by simp [t_kd, c0], cond_false] at hq
      have hlt : k < t_e T := by
        rcases Nat.lt_or_ge k (t_e T) with q | q
        · exact q
        · exfalso
          rw [show k = t_e T by omega] at c0
          simp [t_kd] at hE
          exact c0 hE
      -- what the token is
      have fin : ∀ (o s : Bool), t_op T k = o → t_sh T k = s → ∀ (x : Int), x = δ + (bif o then 1 else 0) - (bif s then 1 else 0) → mm_br (Int32.ofInt x = 0) (Q (.inl (some (.inl (nI k)))) σ) (mm_W mt3059 (MC d) Q (4, [some (.inr (.inr (3, a))), some (.inl (nI i)), some (.inl (Int32.ofInt x)), some (.inl (nI k + 1)), some (.inl (bI (t_kd T k 3))), some (.inl (bI (t_kd T k 7)))], []) σ) := by
        intro o s ho hs x hx
        rw [ho, hs, ← hx] at hq
        have b1 : -((k : Int) + 1) ≤ x := by cases o <;> cases s <;> simp at hx <;> omega
        have b2 : x ≤ (k : Int) + 1 := by cases o <;> cases s <;> simp at hx <;> omega
        refine br_p (fun z => ?_) fun z => ?_
        · rw [i_zero (by omega) (by omega)] at z
          rw [z] at hq
          exact hq
        · rw [i_zero (by omega) (by omega)] at z
          rw [show (x == 0) = false from beq_eq_false_iff_ne.mpr z, cond_false] at hq
          rw [nI_s1]
          exact cl_loop hE t (w4 := w4) (w5 := w5) f (k + 1) x _ _ (by omega) (by omega) (by omega) (by omega) hq
      have sg : ∀ s, t_sg T k s = (t_kd T k 3 && t_v T k == s) := fun s => rfl
      have w138 : t_sg T k 1 = false → t_sg T k 3 = false → t_sg T k 5 = false → mm_W mt3059 (MC d) Q (138, [some (.inr (.inr (3, a))), some (.inl (nI i)), some (.inl (Int32.ofInt (δ + bif t_op T k then 1 else 0))), some (.inl (nI k)), some (.inl (bI (t_kd T k 3))), some (.inl (bI (t_kd T k 7)))], []) σ := by
        intro s1 s3 s5
        refine b3059_138 _ _ _ _ _ _ _ _ _ ?_
        refine br_0 (fun c7 => fin _ false rfl (by simp [t_sh, s1, s3, s5, c7]) _ (by simp)) fun c7 => t.g hk (br_p (fun cf => ?_) fun cf => ?_)
        · have := (b_tail _).mp cf
          rw [i_sub1]
          exact fin _ true rfl (by simp [t_sh, t_hd, t_tl, c7, this]) _ (by simp)
        · have : ¬ (T.2.2.1 k &&& 4 = 0 ∧ T.2.2.1 k &&& 8 ≠ 0) := fun q => cf ((b_tail _).mpr q)
          exact fin _ false rfl (by simp [t_sh, t_hd, t_tl, s1, s3, s5, c7]; exact fun q => Classical.byContradiction fun z => this ⟨q, z⟩) _ (by simp)
      have w103 : mm_W mt3059 (MC d) Q (103, [some (.inr (.inr (3, a))), some (.inl (nI i)), some (.inl (Int32.ofInt (δ + bif t_op T k then 1 else 0))), some (.inl (nI k)), some (.inl (bI (t_kd T k 3))), some (.inl (bI (t_kd T k 7)))], []) σ := by
        refine b3059_103 _ _ _ _ _ _ _ _ _ ?_
        rw [i_sub1]
        refine br_0 (fun c3 => w138 (by simp [sg, c3]) (by simp [sg, c3]) (by simp [sg, c3])) fun c3 => ?_
        refine t.v hk (br_p (fun v1 => fin _ true rfl (by simp [t_sh, sg, c3, v1]) _ (by simp)) fun v1 => t.v hk (br_p (fun v2 => fin _ true rfl (by simp [t_sh, sg, c3, v2]) _ (by simp)) fun v2 => t.v hk (br_p (fun v3 => fin _ true rfl (by simp [t_sh, sg, c3, v3]) _ (by simp)) fun v3 =>
          w138 (by simp [sg, v1]) (by simp [sg, v2]) (by simp [sg, v3]))))
      have w82 : t_sg T k 0 = false → t_sg T k 2 = false → t_sg T k 4 = false → mm_W mt3059 (MC d) Q (82, [some (.inr (.inr (3, a))), some (.inl (nI i)), some (.inl (Int32.ofInt δ)), some (.inl (nI k)), some (.inl (bI (t_kd T k 3))), some (.inl (bI (t_kd T k 7)))], []) σ := by
        intro s1 s3 s5
        have no : t_op T k = false → mm_W mt3059 (MC d) Q (103, [some (.inr (.inr (3, a))), some (.inl (nI i)), some (.inl (Int32.ofInt δ)), some (.inl (nI k)), some (.inl (bI (t_kd T k 3))), some (.inl (bI (t_kd T k 7)))], []) σ := fun h => by
          rw [h, cond_false, Int.add_zero] at w103
          exact w103
        refine b3059_82 _ _ _ _ _ _ _ _ _ ?_
        refine br_0 (fun c7 => no (by simp [t_op, s1, s3, s5, c7])) fun c7 => t.g hk (br_p (fun cf => ?_) fun cf => no ?_)
        · have := (b_head _).mp cf
          rw [show t_op T k = true by simp [t_op, t_hd, t_tl, c7, this], cond_true] at w103
          rw [i_add1]
          exact w103
        · have : ¬ (T.2.2.1 k &&& 4 ≠ 0 ∧ T.2.2.1 k &&& 8 = 0) := fun q => cf ((b_head _).mpr q)
          simp [t_op, t_hd, t_tl, s1, s3, s5, c7]
          exact fun q z => this ⟨q, z⟩
      have w46 : mm_W mt3059 (MC d) Q (46, [some (.inr (.inr (3, a))), some (.inl (nI i)), some (.inl (Int32.ofInt δ)), some (.inl (nI k)), some (.inl (bI (t_kd T k 3))), w5], [.inl (bI (t_kd T k 7))]) σ := by
        have yes : t_op T k = true → mm_W mt3059 (MC d) Q (103, [some (.inr (.inr (3, a))), some (.inl (nI i)), some (.inl (Int32.ofInt δ + 1)), some (.inl (nI k)), some (.inl (bI (t_kd T k 3))), some (.inl (bI (t_kd T k 7)))], []) σ := fun h => by
          rw [h, cond_true] at w103
          rw [i_add1]
          exact w103
        refine b3059_46 _ _ _ _ _ _ _ _ _ _ ?_
        refine br_0 (fun c3 => w82 (by simp [sg, c3]) (by simp [sg, c3]) (by simp [sg, c3])) fun c3 => ?_
        refine t.v hk (br_p (fun v1 => yes (by simp [t_op, sg, c3, v1])) fun v1 => t.v hk (br_p (fun v2 => yes (by simp [t_op, sg, c3, v2])) fun v2 => t.v hk (br_p (fun v3 => yes (by simp [t_op, sg, c3, v3])) fun v3 => w82 (by simp [sg, v1]) (by simp [sg, v2]) (by simp [sg, v3]))))
      have w28 : mm_W mt3059 (MC d) Q (28, [some (.inr (.inr (3, a))), some (.inl (nI i)), some (.inl (Int32.ofInt δ)), some (.inl (nI k)), w4, w5], [.inl (bI (t_kd T k 3))]) σ := by
        refine b3059_28 _ _ _ _ _ _ _ _ _ _ ?_
        refine t.k hk (br_p (fun c => ?_) fun c => ?_)
        · rw [show t_kd T k 7 = true by simp [t_kd, c]] at w46; exact w46
        · rw [show t_kd T k 7 = false by simp [t_kd, c]] at w46; exact w46
      refine t.k hk (br_p (fun c => ?_) fun c => ?_)
      · rw [show t_kd T k 3 = true by simp [t_kd, c]] at w28; exact w28
      · rw [show t_kd T k 3 = false by simp [t_kd, c]] at w28; exact w28
theorem c_closing (hE : t_kd T (t_e T) 0 = true) (hd : 1 ≤ d) (t : Tk T σ) (hi : i ≤ t_e T) (k : K (nI (t_cl T i)) σ) : mm_ci (MC d) 3059 [.inr (.inr (3, a)), .inl (nI i)] σ K X := by
  obtain ⟨d, rfl, hd⟩ := mc_pos hd
  refine mc_ci (P := mt3059) (L := 6) rfl rfl ⟨by decide, Nat.le_of_ble_eq_true rfl⟩ fun Q hK hX => b3059_0 _ _ _ _ _ _ _ _ _ ?_
  exact cl_loop (w4 := none) (w5 := none) hE t (t_e T + 1) i 0 none none hi (by omega) (by omega) (by omega) (hK _ _ k)
end LEAF
