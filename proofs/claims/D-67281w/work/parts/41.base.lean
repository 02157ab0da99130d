/-! PHASE 3. Rules for calls, places and branches of the mini machine -/
abbrev MC (d : Nat) : mmCall := mm_call mmP mmL d
def bI (b : Bool) : Int32 := bif b then 1 else 0
theorem bI_0 {b : Bool} : bI b = 0 ↔ b = false := by cases b <;> decide
section CALLS
variable {d y : Nat} {as : List mmV} {σ : mmS} {X : Nat → mmS → Prop} {P : mmM} {L : Nat}
theorem mc_ci {K : Int32 → mmS → Prop} (hP : mmP y = P) (hL : mmL y = L) (hw : 0 < L ∧ mm_wt as ≤ L)
    (h : ∀ Q : mmQ, (∀ x u, K x u → Q (.inl (some (.inl x))) u) → (∀ e u, X e u → Q (.inr e) u) → mm_W P (MC d) Q (0, mm_args L as, []) σ) : mm_ci (MC (d + 1)) y as σ K X := by
  refine ⟨by rw [hL]; exact hw, _, ?_, fun o u q => q⟩
  rw [hP, hL]
  exact h _ (fun x u k => k) (fun e u k => k)
theorem mc_cl {K : Int64 → mmS → Prop} (hP : mmP y = P) (hL : mmL y = L) (hw : 0 < L ∧ mm_wt as ≤ L)
    (h : ∀ Q : mmQ, (∀ x u, K x u → Q (.inl (some (.inr (.inl x)))) u) → (∀ e u, X e u → Q (.inr e) u) → mm_W P (MC d) Q (0, mm_args L as, []) σ) : mm_cl (MC (d + 1)) y as σ K X := by
  refine ⟨by rw [hL]; exact hw, _, ?_, fun o u q => q⟩
  rw [hP, hL]
  exact h _ (fun x u k => k) (fun e u k => k)
theorem mc_cr {K : Nat → Nat → mmS → Prop} (hP : mmP y = P) (hL : mmL y = L) (hw : 0 < L ∧ mm_wt as ≤ L)
    (h : ∀ Q : mmQ, (∀ k q u, K k q u → Q (.inl (some (.inr (.inr (k, q))))) u) → (∀ e u, X e u → Q (.inr e) u) → mm_W P (MC d) Q (0, mm_args L as, []) σ) : mm_cr (MC (d + 1)) y as σ K X := by
  refine ⟨by rw [hL]; exact hw, _, ?_, fun o u q => q⟩
  rw [hP, hL]
  exact h _ (fun k q u k => k) (fun e u k => k)
theorem mc_cv {K : mmS → Prop} (hP : mmP y = P) (hL : mmL y = L) (hw : 0 < L ∧ mm_wt as ≤ L)
    (h : ∀ Q : mmQ, (∀ u, K u → Q (.inl none) u) → (∀ e u, X e u → Q (.inr e) u) → mm_W P (MC d) Q (0, mm_args L as, []) σ) : mm_cv (MC (d + 1)) y as σ K X := by
  refine ⟨by rw [hL]; exact hw, _, ?_, fun o u q => q⟩
  rw [hP, hL]
  exact h _ (fun u k => k) (fun e u k => k)
end CALLS
/-- an array's place, by its number -/
theorem rd {σ : mmS} {k i n : Nat} {K : Int32 → Prop} (hn : mm_n σ k = n) (hi : i < n) (hb : n < 2 ^ 31) (h : K (mm_a σ k i)) : mm_L σ k (nI i) K := by
  refine ⟨rfl, ?_, ?_⟩
  · rw [hn]; exact nI_in hi hb
  · rw [nI_clamp (by omega)]; exact h
theorem wr {σ : mmS} {k i n : Nat} {x : Int32} {K : mmS → Prop} (hn : mm_n σ k = n) (hi : i < n) (hb : n < 2 ^ 31) (h : K (mm_seta σ k i x)) : mm_S σ k (nI i) x K := by
  refine ⟨rfl, ?_, ?_⟩
  · rw [hn]; exact nI_in hi hb
  · rw [nI_clamp (by omega)]; exact h
theorem br_p {c A B : Prop} (h1 : c → A) (h2 : ¬ c → B) : mm_br c A B := ⟨h1, h2⟩
theorem br_y {c A B : Prop} (h : c) (k : A) : mm_br c A B := ⟨fun _ => k, fun n => absurd h n⟩
theorem br_n {c A B : Prop} (h : ¬ c) (k : B) : mm_br c A B := ⟨fun n => absurd n h, fun _ => k⟩
/-- a test of a Boolean answer: 0 is no -/
theorem br_0 {b : Bool} {A B : Prop} (h1 : b = false → A) (h2 : b = true → B) : mm_br (bI b = 0) A B :=
  ⟨fun h => h1 (bI_0.1 h), fun h => h2 (by cases b with | true => rfl | false => exact absurd rfl h)⟩
/-- states that are written -/
theorem f_setf {σ : mmS} {i j : Nat} {x : Int32} : mm_f (mm_setf σ i x) j = if j = i then x else mm_f σ j := rfl
theorem f_same {σ : mmS} {i : Nat} {x : Int32} : mm_f (mm_setf σ i x) i = x := by rw [f_setf, if_pos rfl]
theorem f_other {σ : mmS} {i j : Nat} {x : Int32} (h : j ≠ i) : mm_f (mm_setf σ i x) j = mm_f σ j := by rw [f_setf, if_neg h]
theorem f_seta {σ : mmS} {k i j : Nat} {x : Int32} : mm_f (mm_seta σ k i x) j = mm_f σ j := rfl
theorem a_setf {σ : mmS} {i : Nat} {x : Int32} : mm_a (mm_setf σ i x) = mm_a σ := rfl
theorem n_setf {σ : mmS} {i : Nat} {x : Int32} : mm_n (mm_setf σ i x) = mm_n σ := rfl
theorem n_seta {σ : mmS} {k i : Nat} {x : Int32} : mm_n (mm_seta σ k i x) = mm_n σ := rfl
theorem a_seta {σ : mmS} {k i j : Nat} {x : Int32} : mm_a (mm_seta σ k i x) j = if j = k then mm_up (mm_a σ k) i x else mm_a σ j := rfl
theorem mc_pos {d c : Nat} (h : c + 1 ≤ d) : ∃ e, d = e + 1 ∧ c ≤ e := ⟨d - 1, by omega, by omega⟩
/-! the component's tokens -/
/-- signs and names have small values -/
def tokOK (T : sT) : Prop := ∀ i, (T.1 i = 3 → ∃ k, T.2.1 i = nI k ∧ k ≤ 60) ∧ (T.1 i = 1 → ∃ k, T.2.1 i = nI k ∧ k ≤ 100000)
/-- the bytes of the text k -/
def tx (k : Nat) : List Int32 := st_byt.getD k []
/-- which constants are the directive's text -/
def uTx (T : sT) (σ : mmS) : Prop := (mm_r σ 302).1 = 2 ∧ mm_n σ 1002 = 10 ∧ (mm_a σ 1002 = fun j => (tx 2).getD j 0) ∧ (mm_n σ 204 < 2 ^ 30 ∧ mm_n σ 207 < 2 ^ 30 ∧ mm_n σ 208 < 2 ^ 30) ∧ ∀ i, T.1 i = 6 → ∃ c p l, T.2.1 i = nI c ∧ c < 2 ^ 20 ∧ c < mm_n σ 207 ∧ c < mm_n σ 208 ∧ mm_a σ 208 c = nI l ∧ mm_a σ 207 c = nI p ∧ p + l ≤ mm_n σ 204 ∧ (∀ j, j < l → ∃ x, mm_a σ 204 (p + j) = nI x ∧ x < 65536) ∧ T.2.2.2.2.1 i = (l == 10 && (List.range 10).all (fun j => mm_a σ 204 (p + j) == (tx 2).getD j 0))
/-- the rows of tokens are T; T is short -/
def Tk (T : sT) (σ : mmS) : Prop := mm_a σ 304 = T.1 ∧ mm_a σ 305 = T.2.1 ∧ mm_a σ 308 = T.2.2.1 ∧ mm_n σ 304 = 3002 ∧ mm_n σ 305 = 3002 ∧ mm_n σ 308 = 3002 ∧ mm_f σ 310 = nI (t_e T + 1) ∧ t_e T < 1262 ∧ T.1 (t_e T) = 0 ∧ (tokOK T ∧ uTx T σ) ∧ ∀ i, 1262 ≤ i → T.1 i = 0
section TK
variable {T : sT} {σ : mmS} {i : Nat} {K : Int32 → Prop}
theorem Tk.k (t : Tk T σ) (hi : i < 3002) (h : K (T.1 i)) : mm_L σ 304 (nI i) K := rd t.2.2.2.1 hi (by decide) (by rw [t.1]; exact h)
theorem Tk.v (t : Tk T σ) (hi : i < 3002) (h : K (t_v T i)) : mm_L σ 305 (nI i) K := rd t.2.2.2.2.1 hi (by decide) (by rw [t.2.1]; exact h)
theorem Tk.g (t : Tk T σ) (hi : i < 3002) (h : K (T.2.2.1 i)) : mm_L σ 308 (nI i) K := rd t.2.2.2.2.2.1 hi (by decide) (by rw [t.2.2.1]; exact h)
theorem Tk.setf (t : Tk T σ) {j : Nat} {x : Int32} (hj : j ≠ 310) : Tk T (mm_setf σ j x) := ⟨t.1, t.2.1, t.2.2.1, t.2.2.2.1, t.2.2.2.2.1, t.2.2.2.2.2.1, by rw [f_other hj.symm]; exact t.2.2.2.2.2.2.1, t.2.2.2.2.2.2.2⟩
end TK
theorem b_kd {T : sT} {i : Nat} {k : Int32} : (T.1 i = k) ↔ t_kd T i k = true := by simp [t_kd]
theorem b_nkd {T : sT} {i : Nat} {k : Int32} : ¬ (T.1 i = k) ↔ t_kd T i k = false := by simp [t_kd]
section LEAF
variable {T : sT} {σ : mmS} {i a d : Nat} {K : Int32 → mmS → Prop} {X : Nat → mmS → Prop}
theorem c_isSign {s : Int32} (hd : 1 ≤ d) (t : Tk T σ) (hp : mm_f σ 311 = nI i) (hi : i < 3002) (k : K (bI (t_sg T i s)) σ) : mm_ci (MC d) 3023 [.inr (.inr (3, a)), .inl s] σ K X := by
  obtain ⟨d, rfl, hd⟩ := mc_pos hd
  refine mc_ci (P := mt3023) (L := 2) rfl rfl ⟨by decide, Nat.le_refl _⟩ fun Q hK hX => b3023_0 _ _ _ _ _ ?_
  rw [hp]
  refine t.k hi (br_p (fun h1 => t.v hi (br_p (fun h2 => ⟨Or.inr rfl, hK _ _ ?_⟩) (fun h2 => ⟨Or.inl rfl, hK _ _ ?_⟩))) (fun h1 => ⟨Or.inl rfl, hK _ _ ?_⟩))
  · rw [show t_sg T i s = true by simp [t_sg, h1, show T.2.1 i = s from h2]] at k; exact k
  · rw [show t_sg T i s = false by simp [t_sg, show ¬ T.2.1 i = s from h2]] at k; exact k
  · rw [show t_sg T i s = false by simp [t_sg, h1]] at k; exact k
theorem c_isWord {s : Int32} (hd : 1 ≤ d) (t : Tk T σ) (hp : mm_f σ 311 = nI i) (hi : i < 3002) (k : K (bI (t_wd T i s)) σ) : mm_ci (MC d) 3018 [.inr (.inr (3, a)), .inl s] σ K X := by
  obtain ⟨d, rfl, hd⟩ := mc_pos hd
  refine mc_ci (P := mt3018) (L := 2) rfl rfl ⟨by decide, Nat.le_refl _⟩ fun Q hK hX => b3018_0 _ _ _ _ _ ?_
  rw [hp]
  refine t.k hi (br_p (fun h1 => t.v hi (br_p (fun h2 => ⟨Or.inr rfl, hK _ _ ?_⟩) (fun h2 => ⟨Or.inl rfl, hK _ _ ?_⟩))) (fun h1 => ⟨Or.inl rfl, hK _ _ ?_⟩))
  · rw [show t_wd T i s = true by simp [t_wd, h1, show T.2.1 i = s from h2]] at k; exact k
  · rw [show t_wd T i s = false by simp [t_wd, show ¬ T.2.1 i = s from h2]] at k; exact k
  · rw [show t_wd T i s = false by simp [t_wd, h1]] at k; exact k
theorem c_isName (hd : 1 ≤ d) (t : Tk T σ) (hp : mm_f σ 311 = nI i) (hi : i < 3002) (k : K (bI (t_id T i)) σ) : mm_ci (MC d) 3027 [.inr (.inr (3, a))] σ K X := by
  obtain ⟨d, rfl, hd⟩ := mc_pos hd
  refine mc_ci (P := mt3027) (L := 1) rfl rfl ⟨by decide, Nat.le_refl _⟩ fun Q hK hX => b3027_0 _ _ _ _ ?_
  rw [hp]
  refine t.k hi (br_p (fun h1 => t.v hi (br_p (fun h2 => ⟨Or.inr rfl, hK _ _ ?_⟩) (fun h2 => ⟨Or.inl rfl, hK _ _ ?_⟩))) (fun h1 => ⟨Or.inl rfl, hK _ _ ?_⟩))
  · rw [show t_id T i = true by simp [t_id, h1, show 45 < T.2.1 i from h2]] at k; exact k
  · rw [show t_id T i = false by simp [t_id, show ¬ 45 < T.2.1 i from h2]] at k; exact k
  · rw [show t_id T i = false by simp [t_id, h1]] at k; exact k
theorem c_lineBefore (hd : 1 ≤ d) (t : Tk T σ) (hp : mm_f σ 311 = nI i) (hi : i < 3002) (k : K (bI (t_ln T i)) σ) : mm_ci (MC d) 3024 [.inr (.inr (3, a))] σ K X := by
  obtain ⟨d, rfl, hd⟩ := mc_pos hd
  refine mc_ci (P := mt3024) (L := 1) rfl rfl ⟨by decide, Nat.le_refl _⟩ fun Q hK hX => b3024_0 _ _ _ _ ?_
  rw [hp]
  refine t.g hi (br_p (fun h1 => ⟨Or.inl rfl, hK _ _ ?_⟩) (fun h1 => ⟨Or.inr rfl, hK _ _ ?_⟩))
  · rw [show t_ln T i = false by simp [t_ln, h1]] at k; exact k
  · rw [show t_ln T i = true by simp [t_ln, h1]] at k; exact k
theorem c_lineAt (hd : 1 ≤ d) (t : Tk T σ) (hi : i < 3002) (k : K (bI (t_ln T i)) σ) : mm_ci (MC d) 3042 [.inr (.inr (3, a)), .inl (nI i)] σ K X := by
  obtain ⟨d, rfl, hd⟩ := mc_pos hd
  refine mc_ci (P := mt3042) (L := 2) rfl rfl ⟨by decide, Nat.le_refl _⟩ fun Q hK hX => b3042_0 _ _ _ _ _ ?_
  refine t.g hi (br_p (fun h1 => ⟨Or.inl rfl, hK _ _ ?_⟩) (fun h1 => ⟨Or.inr rfl, hK _ _ ?_⟩))
  · rw [show t_ln T i = false by simp [t_ln, h1]] at k; exact k
  · rw [show t_ln T i = true by simp [t_ln, h1]] at k; exact k
theorem c_signAt {s : Int32} (hd : 1 ≤ d) (t : Tk T σ) (hi : i < 3002) (k : K (bI (t_sg T i s)) σ) : mm_ci (MC d) 3058 [.inr (.inr (3, a)), .inl (nI i), .inl s] σ K X := by
  obtain ⟨d, rfl, hd⟩ := mc_pos hd
  refine mc_ci (P := mt3058) (L := 3) rfl rfl ⟨by decide, Nat.le_refl _⟩ fun Q hK hX => b3058_0 _ _ _ _ _ _ ?_
  refine t.k hi (br_p (fun h1 => t.v hi (br_p (fun h2 => ⟨Or.inr rfl, hK _ _ ?_⟩) (fun h2 => ⟨Or.inl rfl, hK _ _ ?_⟩))) (fun h1 => ⟨Or.inl rfl, hK _ _ ?_⟩))
  · rw [show t_sg T i s = true by simp [t_sg, h1, show T.2.1 i = s from h2]] at k; exact k
  · rw [show t_sg T i s = false by simp [t_sg, show ¬ T.2.1 i = s from h2]] at k; exact k
  · rw [show t_sg T i s = false by simp [t_sg, h1]] at k; exact k
theorem c_isArrow (hd : 2 ≤ d) (t : Tk T σ) (hi : i < 3002) (k : K (bI (t_ar T i)) σ) : mm_ci (MC d) 3057 [.inr (.inr (3, a)), .inl (nI i)] σ K X := by
  obtain ⟨d, rfl, hd⟩ := mc_pos hd
  refine mc_ci (P := mt3057) (L := 2) rfl rfl ⟨by decide, Nat.le_refl _⟩ fun Q hK hX => b3057_0 _ _ _ _ _ ?_
  refine c_signAt (by omega) t hi (br_0 (fun h1 => ⟨Or.inl rfl, hK _ _ ?_⟩) (fun h1 => c_lineAt (by omega) t hi (br_0 (fun h2 => ⟨Or.inr rfl, hK _ _ ?_⟩) (fun h2 => ⟨Or.inl rfl, hK _ _ ?_⟩))))
  · rw [show t_ar T i = false by simp [t_ar, h1]] at k; exact k
  · rw [show t_ar T i = true by simp [t_ar, h1, h2]] at k; exact k
  · rw [show t_ar T i = false by simp [t_ar, h2]] at k; exact k
theorem c_isKey (hd : 2 ≤ d) (t : Tk T σ) (hi : i < 3002) (k : K (bI (t_isk T i)) σ) : mm_ci (MC d) 3081 [.inr (.inr (3, a)), .inl (nI i)] σ K X := by
  obtain ⟨d, rfl, hd⟩ := mc_pos hd
  refine mc_ci (P := mt3081) (L := 2) rfl rfl ⟨by decide, Nat.le_refl _⟩ fun Q hK hX => b3081_0 _ _ _ _ _ ?_
  have y : t_isk T i = true → (((1 : Int32) = 0 ∨ (1 : Int32) = 1) ∧ Q (.inl (some (.inl 1))) σ) := fun h => ⟨Or.inr rfl, hK _ _ (by rw [h] at k; exact k)⟩
  refine t.k hi (br_p (fun h1 => y (by simp [t_isk, t_key, t_kd, h1])) fun h1 => t.k hi (br_p (fun h2 => y (by simp [t_isk, t_key, t_kd, h2])) fun h2 => t.k hi (br_p (fun h3 => y (by simp [t_isk, t_key, t_kd, h3])) fun h3 =>
    t.k hi (br_p (fun h4 => y (by simp [t_isk, t_key, t_kd, h4])) fun h4 => t.k hi (br_p (fun h5 => y (by simp [t_isk, t_key, t_kd, h5])) fun h5 => c_signAt (by omega) t hi (br_0 (fun h6 => ⟨Or.inl rfl, hK _ _ ?_⟩) (fun h6 => y (by simp [t_isk, h6]))))))))
  rw [show t_isk T i = false by simp [t_isk, t_key, t_kd, h1, h2, h3, h4, h5, h6]] at k
  exact k
theorem c_fail (hd : 1 ≤ d) (t : Tk T σ) (k : K 0 (mm_setf (mm_setf σ 303 1) 311 (nI (t_e T)))) : mm_ci (MC d) 3025 [.inr (.inr (3, a))] σ K X := by
  obtain ⟨d, rfl, hd⟩ := mc_pos hd
  refine mc_ci (P := mt3025) (L := 1) rfl rfl ⟨by decide, Nat.le_refl _⟩ fun Q hK hX => b3025_0 _ _ _ _ ⟨Or.inr rfl, hK _ _ ?_⟩
  rw [f_other (by decide), t.2.2.2.2.2.2.1, nI_succ, Int32.add_sub_cancel]
  exact k
theorem c_eat {s : Int32} (hd : 2 ≤ d) (t : Tk T σ) (hp : mm_f σ 311 = nI i) (hi : i < 3002) (k0 : t_sg T i s = false → K 0 σ) (k1 : t_sg T i s = true → K 1 (mm_setf σ 311 (nI (i + 1)))) : mm_ci (MC d) 3022 [.inr (.inr (3, a)), .inl s] σ K X := by
  obtain ⟨d, rfl, hd⟩ := mc_pos hd
  refine mc_ci (P := mt3022) (L := 2) rfl rfl ⟨by decide, Nat.le_refl _⟩ fun Q hK hX => b3022_0 _ _ _ _ _ ?_
  refine c_isSign (by omega) t hp hi (br_0 (fun h => ⟨Or.inl rfl, hK _ _ (k0 h)⟩) (fun h => ⟨Or.inr rfl, hK _ _ ?_⟩))
  rw [hp, ← nI_succ]
  exact k1 h
theorem c_eatWord {s : Int32} (hd : 2 ≤ d) (t : Tk T σ) (hp : mm_f σ 311 = nI i) (hi : i < 3002) (k0 : t_wd T i s = false → K 0 σ) (k1 : t_wd T i s = true → K 1 (mm_setf σ 311 (nI (i + 1)))) : mm_ci (MC d) 3035 [.inr (.inr (3, a)), .inl s] σ K X := by
  obtain ⟨d, rfl, hd⟩ := mc_pos hd
  refine mc_ci (P := mt3035) (L := 2) rfl rfl ⟨by decide, Nat.le_refl _⟩ fun Q hK hX => b3035_0 _ _ _ _ _ ?_
  refine c_isWord (by omega) t hp hi (br_0 (fun h => ⟨Or.inl rfl, hK _ _ (k0 h)⟩) (fun h => ⟨Or.inr rfl, hK _ _ ?_⟩))
  rw [hp, ← nI_succ]
  exact k1 h
theorem c_goesOn (hd : 1 ≤ d) (t : Tk T σ) (hi : i < 3002) (k : K (bI (t_on T i)) σ) : mm_ci (MC d) 3063 [.inr (.inr (3, a)), .inl (nI i)] σ K X := by
  obtain ⟨d, rfl, hd⟩ := mc_pos hd
  refine mc_ci (P := mt3063) (L := 2) rfl rfl ⟨by decide, Nat.le_refl _⟩ fun Q hK hX => b3063_0 _ _ _ _ _ ?_
  have y : t_on T i = true → (((1 : Int32) = 0 ∨ (1 : Int32) = 1) ∧ Q (.inl (some (.inl 1))) σ) := fun h => ⟨Or.inr rfl, hK _ _ (by rw [h] at k; exact k)⟩
  have n : t_on T i = false → (((0 : Int32) = 0 ∨ (0 : Int32) = 1) ∧ Q (.inl (some (.inl 0))) σ) := fun h => ⟨Or.inl rfl, hK _ _ (by rw [h] at k; exact k)⟩
  refine t.k hi (br_p (fun h1 => y (by simp [t_on, t_kd, h1])) fun h1 => t.k hi (br_p (fun h2 => t.v hi (br_p (fun h3 => y (by simp [t_on, t_wd, h2, show T.2.1 i = 21 from h3])) fun h3 => t.v hi (br_p (fun h4 => y (by simp [t_on, t_wd, h2, show T.2.1 i = 22 from h4])) fun h4 => n (by simp [t_on, t_wd, t_kd, h2, show ¬ T.2.1 i = 21 from h3, show ¬ T.2.1 i = 22 from h4])))) fun h2 => ?_))
  refine t.k hi (br_p (fun h3 => ?_) fun h3 => n (by simp [t_on, t_wd, t_kd, h1, h2, h3]))
  refine t.v hi (br_p (fun g => n (by simp [t_on, t_wd, t_kd, h3, g])) fun g1 => t.v hi (br_p (fun g => n (by simp [t_on, t_wd, t_kd, h3, g])) fun g2 => t.v hi (br_p (fun g => n (by simp [t_on, t_wd, t_kd, h3, g])) fun g3 => b3063_91 _ _ _ _ _ ?_)))
  refine t.v hi (br_p (fun g => n (by simp [t_on, t_wd, t_kd, h3, g])) fun g4 => t.v hi (br_p (fun g => n (by simp [t_on, t_wd, t_kd, h3, g])) fun g5 => t.v hi (br_p (fun g => n (by simp [t_on, t_wd, t_kd, h3, g])) fun g6 => y (by simp [t_on, t_kd, h3, g1, g2, g3, g4, g5, g6]))))
end LEAF
