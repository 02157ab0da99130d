/-! PHASE 3. Arrays that grow -/
theorem nI_dbl (n : Nat) : 2 * nI n = nI (2 * n) := (Int32.ofNat_mul 2 n).symm
theorem nI_dbl' (n : Nat) : nI n * 2 = nI (n * 2) := (Int32.ofNat_mul n 2).symm
theorem nI_inj {a b : Nat} (ha : a < 2 ^ 31) (hb : b < 2 ^ 31) (h : nI a = nI b) : a = b := (nI_eq ha hb).mp h
theorem bif_t {b : Bool} {A B : Prop} (h : b = true) (k : A) : bif b then A else B := by rw [h]; exact k
section MIN
variable {σ : mmS} {d a b : Nat} {K : Int32 → mmS → Prop} {X : Nat → mmS → Prop}
theorem c_min (hd : 1 ≤ d) (ha : a < 2 ^ 31) (hb : b < 2 ^ 31) (k : K (nI (min a b)) σ) : mm_ci (MC d) 20001 [.inl (nI a), .inl (nI b)] σ K X := by
  obtain ⟨d, rfl, hd⟩ := mc_pos hd
  refine mc_ci (P := mt20001) (L := 2) rfl rfl ⟨by decide, Nat.le_refl _⟩ fun Q hK hX => b20001_0 _ _ _ _ _ ?_
  refine br_p (fun h => hK _ _ ?_) (fun h => hK _ _ ?_)
  · rw [Int32.lt_iff_toInt_lt, nI_toInt ha, nI_toInt hb] at h
    rw [Nat.min_eq_right (by omega)] at k; exact k
  · rw [Int32.lt_iff_toInt_lt, nI_toInt ha, nI_toInt hb] at h
    rw [Nat.min_eq_left (by omega)] at k; exact k
end MIN
/-- a row has grown: to N places -/
def Gr (σ : mmS) (k N : Nat) (u : mmS) : Prop :=
  mm_f u = mm_f σ ∧ mm_r u = mm_r σ ∧ (∀ i, i < mm_n σ k → mm_a u k i = mm_a σ k i) ∧ mm_n u k = N ∧
  (∀ j, j ≠ k → (j < 89 ∨ 95 < j) → mm_a u j = mm_a σ j ∧ mm_n u j = mm_n σ j ∧ mm_v u j = mm_v σ j ∧ mm_l u j = mm_l σ j) ∧ mm_bc u + 1 = mm_bc σ ∧ mm_bs u + N = mm_bs σ
section ACC
variable {σ : mmS} {t n q j k : Nat} {g : Nat → Int32} {h : Nat → Int64}
theorem v_make : mm_v (mm_make σ t n q g h) j = if j = t then q else mm_v σ j := rfl
theorem n_make : mm_n (mm_make σ t n q g h) j = if j = t then n else mm_n σ j := rfl
theorem a_make : mm_a (mm_make σ t n q g h) j = if j = t then g else mm_a σ j := rfl
theorem l_make : mm_l (mm_make σ t n q g h) j = if j = t then h else mm_l σ j := rfl
theorem v_fill : mm_v (mm_fill σ k g) = mm_v σ := rfl
theorem n_fill : mm_n (mm_fill σ k g) = mm_n σ := rfl
theorem l_fill : mm_l (mm_fill σ k g) = mm_l σ := rfl
theorem a_fill : mm_a (mm_fill σ k g) j = if j = k then g else mm_a σ j := rfl
theorem v_move : mm_v (mm_move σ t k) j = if j = k then mm_v σ t else mm_v σ j := rfl
theorem n_move : mm_n (mm_move σ t k) j = if j = t then 0 else if j = k then mm_n σ t else mm_n σ j := rfl
theorem a_move : mm_a (mm_move σ t k) j = if j = k then mm_a σ t else mm_a σ j := rfl
theorem l_move : mm_l (mm_move σ t k) j = if j = k then mm_l σ t else mm_l σ j := rfl
end ACC
section GROW
variable {σ : mmS} {d k N : Nat} {X : Nat → mmS → Prop} {K : mmS → Prop}
theorem c_grow (hd : 2 ≤ d) (hk : mm_kd k = 0) (hk2 : k < 89 ∨ 95 < k) (h0 : 0 < mm_n σ k) (hn : mm_n σ k < N) (hN : N ≤ 1048576) (hc : 1 ≤ mm_bc σ) (hs : N ≤ mm_bs σ) (h : ∀ u, Gr σ k N u → K u) :
    mm_cr (MC d) 10002 [.inr (.inr (k, mm_v σ k)), .inl (nI N)] σ (fun k2 q2 u => mm_pa u k 90 k2 q2 K) X := by
  obtain ⟨d, rfl, hd⟩ := mc_pos hd
  have k90 : k ≠ 90 := by omega
  have e1 : (nI N).toNatClampNeg = N := nI_clamp (by omega)
  refine mc_cr (P := mt10002) (L := 3) rfl rfl ⟨by decide, Nat.le_of_ble_eq_true rfl⟩ fun Q hK hX => b10002_0 _ _ _ _ _ _ _ ?_
  refine bif_t (by rw [hk]; rfl) ⟨rfl, Or.inl h0, br_n (fun h => ?_) ⟨nI_pos (by omega), by rw [e1]; omega, hc, by rw [e1]; exact hs, fun q => bif_t (by rw [hk]; rfl) ⟨by rw [v_make, if_neg k90], Or.inl (by rw [n_make, if_neg k90]; exact h0), ?_⟩⟩⟩
  · have := nI_inj (by omega) (by omega) (show nI N = nI (mm_n σ k) from h)
    omega
  · rw [n_make, if_neg k90, e1]
    refine c_min (a := mm_n σ k) (by omega) (by omega) (by omega) ?_
    rw [Nat.min_eq_left (by omega)]
    have e2 : (nI (mm_n σ k)).toNatClampNeg = mm_n σ k := nI_clamp (by omega)
    refine ⟨k90, hk, rfl, by rw [v_make, if_pos rfl], by rw [v_make, if_neg k90], rfl, rfl, nI_pos (by omega), by rw [e2, n_make, if_pos rfl]; omega, by rw [e2, n_make, if_neg k90]; omega, by rw [n_make, if_neg k90]; exact h0, by rw [n_make, if_pos rfl]; omega, fun i _ => trivial, hK _ _ _ ?_⟩
    refine Or.inl ⟨rfl, ?_, ?_, h _ ⟨rfl, rfl, fun i hi => ?_, ?_, fun j hj hj2 => ⟨?_, ?_, ?_, ?_⟩, ?_, ?_⟩⟩
    · rw [v_fill, v_make, if_pos rfl]
    · rw [n_fill, n_make, if_pos rfl]; omega
    · rw [a_move, if_pos rfl, a_fill, if_pos rfl, if_pos (by rw [e2]; exact hi), a_make, if_neg k90]
    · rw [n_move, if_neg k90, if_pos rfl, n_fill, n_make, if_pos rfl]
    · rw [a_move, if_neg hj, a_fill, if_neg (by omega), a_make, if_neg (by omega)]
    · rw [n_move, if_neg (by omega), if_neg hj, n_fill, n_make, if_neg (by omega)]
    · rw [v_move, if_neg hj, v_fill, v_make, if_neg (by omega)]
    · rw [l_move, if_neg hj, l_fill, l_make, if_neg (by omega)]
    · show mm_bc σ - 1 + 1 = mm_bc σ
      omega
    · show mm_bs σ - N + N = mm_bs σ
      omega
end GROW
