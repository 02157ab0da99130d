/-! PHASE 3. Tables of rows that grow together; nodes -/
def fN (σ : mmS) (k : Nat) : Nat := (mm_f σ k).toNatClampNeg
theorem wr' {σ : mmS} {k i n : Nat} {e x : Int32} {K : mmS → Prop} (he : e = nI i) (hn : mm_n σ k = n) (hi : i < n) (hb : n < 2 ^ 31) (h : K (mm_seta σ k i x)) : mm_S σ k e x K := by
  subst he
  exact wr hn hi hb h
theorem rd' {σ : mmS} {k i n : Nat} {e : Int32} {K : Int32 → Prop} (he : e = nI i) (hn : mm_n σ k = n) (hi : i < n) (hb : n < 2 ^ 31) (h : K (mm_a σ k i)) : mm_L σ k e K := by
  subst he
  exact rd hn hi hb h
theorem a_seta_i {σ : mmS} {k j i i' : Nat} {x : Int32} (h : i ≠ i') : mm_a (mm_seta σ j i' x) k i = mm_a σ k i := by
  rw [a_seta]
  by_cases c : k = j
  · subst c; rw [if_pos rfl]; unfold mm_up; rw [if_neg h]
  · rw [if_neg c]
theorem a_seta_k {σ : mmS} {k j i' : Nat} {x : Int32} (h : k ≠ j) : mm_a (mm_seta σ j i' x) k = mm_a σ k := by
  rw [a_seta, if_neg h]
theorem a_seta_s {σ : mmS} {k i : Nat} {x : Int32} : mm_a (mm_seta σ k i x) k i = x := by
  rw [a_seta, if_pos rfl]; unfold mm_up; rw [if_pos rfl]
theorem v_seta {σ : mmS} {k i : Nat} {x : Int32} : mm_v (mm_seta σ k i x) = mm_v σ := rfl
theorem l_seta {σ : mmS} {k i : Nat} {x : Int32} : mm_l (mm_seta σ k i x) = mm_l σ := rfl
theorem v_setf {σ : mmS} {i : Nat} {x : Int32} : mm_v (mm_setf σ i x) = mm_v σ := rfl
theorem l_setf {σ : mmS} {i : Nat} {x : Int32} : mm_l (mm_setf σ i x) = mm_l σ := rfl
/-- slot j is as it was -/
def sam (σ u : mmS) (j : Nat) : Prop := mm_a u j = mm_a σ j ∧ mm_n u j = mm_n σ j ∧ mm_v u j = mm_v σ j ∧ mm_l u j = mm_l σ j
theorem sam.trans {σ u w : mmS} {j : Nat} (h : sam σ u j) (g : sam u w j) : sam σ w j := ⟨g.1.trans h.1, g.2.1.trans h.2.1, g.2.2.1.trans h.2.2.1, g.2.2.2.trans h.2.2.2⟩
theorem sam.rfl' {σ : mmS} {j : Nat} : sam σ σ j := ⟨rfl, rfl, rfl, rfl⟩
/-- no slot of a passing array -/
def lst (j : Nat) : Prop := j < 89 ∨ 95 < j
/-- the rows from b up to m have grown to N places -/
def Gs (σ : mmS) (b m N : Nat) (u : mmS) : Prop :=
  mm_f u = mm_f σ ∧ mm_r u = mm_r σ ∧ (∀ k, b ≤ k → k < m → (∀ i, i < mm_n σ k → mm_a u k i = mm_a σ k i) ∧ mm_n u k = N) ∧
  (∀ j, lst j → ¬ (b ≤ j ∧ j < m) → sam σ u j) ∧ mm_bc u + (m - b) = mm_bc σ ∧ mm_bs u + (m - b) * N = mm_bs σ
theorem Gs.nil {σ : mmS} {b N : Nat} : Gs σ b b N σ := ⟨rfl, rfl, fun k h1 h2 => absurd h2 (by omega), fun j _ _ => sam.rfl', by omega, by rw [Nat.sub_self, Nat.zero_mul]; rfl⟩
theorem Gs.step {σ u w : mmS} {b m N : Nat} (h95 : 95 < b) (hb : b ≤ m) (hm : lst m) (h : Gs σ b m N u) (g : Gr u m N w) : Gs σ b (m + 1) N w := by
  obtain ⟨h1, h2, h3, h4, h5, h6⟩ := h
  obtain ⟨g1, g2, g3, g4, g5, g6, g7⟩ := g
  have hs := h4 m hm (by omega)
  refine ⟨g1.trans h1, g2.trans h2, fun k k1 k2 => ?_, fun j j1 j2 => ?_, by omega, ?_⟩
  · by_cases c : k = m
    · subst c
      exact ⟨fun i hi => by rw [g3 i (by rw [hs.2.1]; exact hi), hs.1], g4⟩
    · obtain ⟨a1, a2⟩ := h3 k k1 (by omega)
      have hl : k < 89 ∨ 95 < k := Or.inr (by omega)
      obtain ⟨e1, e2, -, -⟩ := g5 k c hl
      exact ⟨fun i hi => by rw [e1]; exact a1 i hi, by rw [e2]; exact a2⟩
  · have := h4 j j1 (by omega)
    exact this.trans (g5 j (by omega) j1)
  · rw [show m + 1 - b = m - b + 1 by omega, Nat.add_mul, Nat.one_mul]
    omega
section GROWS
variable {σ u : mmS} {d b m N : Nat} {X : Nat → mmS → Prop} {K : mmS → Prop}
theorem c_grows (hd : 2 ≤ d) (hb : 95 < b) (hbm : b ≤ m) (hk : mm_kd m = 0) (G : Gs σ b m N u) (h0 : 0 < mm_n σ m) (hn : mm_n σ m < N) (hN : N ≤ 1048576) (hc : m - b + 1 ≤ mm_bc σ) (hs : (m - b + 1) * N ≤ mm_bs σ) (h : ∀ w, Gs σ b (m + 1) N w → K w) :
    mm_cr (MC d) 10002 [.inr (.inr (m, mm_v u m)), .inl (nI N)] u (fun k2 q2 w => mm_pa w m 90 k2 q2 K) X := by
  have hl : lst m := Or.inr (by omega)
  have hsm := G.2.2.2.1 m hl (by omega)
  have h5 := G.2.2.2.2.1
  have h6 := G.2.2.2.2.2
  rw [Nat.add_mul, Nat.one_mul] at hs
  refine c_grow hd hk hl (by rw [hsm.2.1]; exact h0) (by rw [hsm.2.1]; exact hn) hN (by omega) (by omega) (fun w g => h w (G.step hb hbm hl g))
end GROWS
/-- the table of nodes -/
def cN (σ : mmS) : Prop := mm_f σ 315 = nI (fN σ 315) ∧ 1 ≤ fN σ 315 ∧ fN σ 315 ≤ mm_n σ 316 ∧ 4096 ≤ mm_n σ 316 ∧ mm_n σ 316 ≤ 170000 ∧ (∀ k, 316 ≤ k → k ≤ 323 → mm_n σ k = mm_n σ 316) ∧ ∀ i, i < fN σ 315 → mm_a σ 323 i = 0 ∨ mm_a σ 323 i = 1
/-- no slot of the table, nor a passing one -/
def lsN (k : Nat) : Prop := lst k ∧ ¬ (316 ≤ k ∧ k ≤ 323)
/-- a node more -/
def NS (σ : mmS) (w x y z : Int32) (u : mmS) : Prop :=
  cN u ∧ fN u 315 = fN σ 315 + 1 ∧ (∀ k, k ≠ 315 → mm_f u k = mm_f σ k) ∧ mm_r u = mm_r σ ∧ (∀ k, 316 ≤ k → k ≤ 323 → ∀ i, i < fN σ 315 → mm_a u k i = mm_a σ k i) ∧
  (mm_a u 316 (fN σ 315) = w ∧ mm_a u 317 (fN σ 315) = x ∧ mm_a u 318 (fN σ 315) = y ∧ mm_a u 319 (fN σ 315) = z ∧ mm_a u 320 (fN σ 315) = 0 ∧ mm_a u 321 (fN σ 315) = 0 ∧ mm_a u 322 (fN σ 315) = 0 ∧ mm_a u 323 (fN σ 315) = 0) ∧
  (∀ k, lsN k → sam σ u k) ∧ mm_bs σ + 16 * mm_n σ 316 ≤ mm_bs u + 16 * mm_n u 316 ∧ 64 * mm_bc σ + mm_n σ 316 ≤ 64 * mm_bc u + mm_n u 316 ∧ mm_n σ 316 ≤ mm_n u 316 ∧ (mm_n u 316 = mm_n σ 316 ∨ mm_n u 316 = 2 * fN σ 315)
theorem node_end {σ : mmS} {d a : Nat} {w x y z : Int32} {w5 w6 : Option mmV} {Q : mmQ} (h : cN σ) (hn : fN σ 315 < mm_n σ 316) (k : ∀ u, NS σ w x y z u → Q (.inl (some (.inl (nI (fN σ 315))))) u) :
    mm_W mt3051 (MC d) Q (140, [some (.inr (.inr (3, a))), some (.inl w), some (.inl x), some (.inl y), some (.inl z), w5, w6], []) σ := by
  obtain ⟨h1, h2, h3, h4, h5, h6, h7⟩ := h
  have hb : mm_n σ 316 < 2 ^ 31 := by omega
  have e (k : Nat) (a1 : 316 ≤ k) (a2 : k ≤ 323) : mm_n σ k = mm_n σ 316 := h6 k a1 a2
  refine b3051_140 _ _ _ _ _ _ _ _ _ _ ?_
  refine wr' h1 rfl hn hb (wr' h1 (e 317 (by decide) (by decide)) hn hb (wr' h1 (e 318 (by decide) (by decide)) hn hb (wr' h1 (e 319 (by decide) (by decide)) hn hb (wr' h1 (e 320 (by decide) (by decide)) hn hb (wr' h1 (e 321 (by decide) (by decide)) hn hb ?_)))))
  refine b3051_201 _ _ _ _ _ _ _ _ _ _ ?_
  refine wr' h1 (e 322 (by decide) (by decide)) hn hb (wr' h1 (e 323 (by decide) (by decide)) hn hb ?_)
  have hf : mm_f σ 315 + 1 = nI (fN σ 315 + 1) := by rw [h1, nI_succ]
  have z0 : vp_nar .boolean 0 = 0 := by decide
  rw [z0]
  generalize hτ : mm_seta (mm_seta (mm_seta (mm_seta (mm_seta (mm_seta (mm_seta (mm_seta σ 316 (fN σ 315) w) 317 (fN σ 315) x) 318 (fN σ 315) y) 319 (fN σ 315) z) 320 (fN σ 315) 0) 321 (fN σ 315) 0) 322 (fN σ 315) 0) 323 (fN σ 315) 0 = τ
  have tf : mm_f τ = mm_f σ := by rw [← hτ]; rfl
  have tr : mm_r τ = mm_r σ := by rw [← hτ]; rfl
  have tn : mm_n τ = mm_n σ := by rw [← hτ]; rfl
  have tv : mm_v τ = mm_v σ := by rw [← hτ]; rfl
  have tl : mm_l τ = mm_l σ := by rw [← hτ]; rfl
  have tc : mm_bc τ = mm_bc σ := by rw [← hτ]; rfl
  have ts : mm_bs τ = mm_bs σ := by rw [← hτ]; rfl
  have ti : ∀ k i, i ≠ fN σ 315 → mm_a τ k i = mm_a σ k i := fun k i c => by
    rw [← hτ, a_seta_i c, a_seta_i c, a_seta_i c, a_seta_i c, a_seta_i c, a_seta_i c, a_seta_i c, a_seta_i c]
  have tk : ∀ k, ¬ (316 ≤ k ∧ k ≤ 323) → mm_a τ k = mm_a σ k := fun k hk => by
    rw [← hτ, a_seta_k (by omega), a_seta_k (by omega), a_seta_k (by omega), a_seta_k (by omega), a_seta_k (by omega), a_seta_k (by omega), a_seta_k (by omega), a_seta_k (by omega)]
  have tw : mm_a τ 316 (fN σ 315) = w ∧ mm_a τ 317 (fN σ 315) = x ∧ mm_a τ 318 (fN σ 315) = y ∧ mm_a τ 319 (fN σ 315) = z ∧ mm_a τ 320 (fN σ 315) = 0 ∧ mm_a τ 321 (fN σ 315) = 0 ∧ mm_a τ 322 (fN σ 315) = 0 ∧ mm_a τ 323 (fN σ 315) = 0 := by
    rw [← hτ]
    refine ⟨?_, ?_, ?_, ?_, ?_, ?_, ?_, ?_⟩
    · rw [a_seta_k (by decide), a_seta_k (by decide), a_seta_k (by decide), a_seta_k (by decide), a_seta_k (by decide), a_seta_k (by decide), a_seta_k (by decide), a_seta_s]
    · rw [a_seta_k (by decide), a_seta_k (by decide), a_seta_k (by decide), a_seta_k (by decide), a_seta_k (by decide), a_seta_k (by decide), a_seta_s]
    · rw [a_seta_k (by decide), a_seta_k (by decide), a_seta_k (by decide), a_seta_k (by decide), a_seta_k (by decide), a_seta_s]
    · rw [a_seta_k (by decide), a_seta_k (by decide), a_seta_k (by decide), a_seta_k (by decide), a_seta_s]
    · rw [a_seta_k (by decide), a_seta_k (by decide), a_seta_k (by decide), a_seta_s]
    · rw [a_seta_k (by decide), a_seta_k (by decide), a_seta_s]
    · rw [a_seta_k (by decide), a_seta_s]
    · rw [a_seta_s]
  clear hτ
  rw [f_same, tf, hf, nI_pred]
  refine k _ ?_
  have fv : fN (mm_setf τ 315 (nI (fN σ 315 + 1))) 315 = fN σ 315 + 1 := by
    show (mm_f (mm_setf τ 315 (nI (fN σ 315 + 1))) 315).toNatClampNeg = _
    rw [f_same, nI_clamp (by omega)]
  refine ⟨⟨by rw [fv, f_same], by omega, by rw [fv, n_setf, tn]; exact hn, by rw [n_setf, tn]; exact h4, by rw [n_setf, tn]; exact h5, by rw [n_setf, tn]; exact h6, fun i hi => ?_⟩, fv, fun k hk => by rw [f_other hk, tf], tr, fun k k1 k2 i hi => by rw [a_setf]; exact ti k i (by omega), by rw [a_setf]; exact tw, fun k hk => ⟨by rw [a_setf]; exact tk k hk.2, by rw [n_setf, tn], by rw [v_setf, tv], by rw [l_setf, tl]⟩, ?_, ?_, ?_, Or.inl (by rw [n_setf, tn])⟩
  · rw [fv] at hi
    rw [a_setf]
    by_cases c : i = fN σ 315
    · rw [c]; exact Or.inl tw.2.2.2.2.2.2.2
    · rw [ti 323 i c]; exact h7 i (by omega)
  · rw [n_setf, tn]
    show _ ≤ mm_bs τ + _
    rw [ts]
    exact Nat.le_refl _
  · rw [n_setf, tn]
    show _ ≤ 64 * mm_bc τ + _
    rw [tc]
    exact Nat.le_refl _
  · rw [n_setf, tn]
    exact Nat.le_refl _
