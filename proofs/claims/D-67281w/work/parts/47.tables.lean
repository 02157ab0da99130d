/-! PHASE 3. Rows of ints: functions and scopes -/
/-- some rows are written at one place -/
def Rw (n : Nat) (L : List (Nat × Int32)) (σ : mmS) : mmS := L.foldl (fun s x => mm_seta s x.1 n x.2) σ
theorem Rw_same (n : Nat) : ∀ (L : List (Nat × Int32)) (σ : mmS), mm_f (Rw n L σ) = mm_f σ ∧ mm_r (Rw n L σ) = mm_r σ ∧ mm_n (Rw n L σ) = mm_n σ ∧ mm_v (Rw n L σ) = mm_v σ ∧ mm_l (Rw n L σ) = mm_l σ ∧ mm_bc (Rw n L σ) = mm_bc σ ∧ mm_bs (Rw n L σ) = mm_bs σ
  | [], _ => ⟨rfl, rfl, rfl, rfl, rfl, rfl, rfl⟩
  | x :: L, σ => Rw_same n L (mm_seta σ x.1 n x.2)
theorem Rw_i {n : Nat} : ∀ {L : List (Nat × Int32)} {σ : mmS} {k i : Nat}, i ≠ n → mm_a (Rw n L σ) k i = mm_a σ k i
  | [], _, _, _, _ => rfl
  | x :: L, σ, k, i, h => by
    show mm_a (Rw n L (mm_seta σ x.1 n x.2)) k i = _
    rw [Rw_i h, a_seta_i h]
theorem Rw_k {n : Nat} : ∀ {L : List (Nat × Int32)} {σ : mmS} {k : Nat}, (∀ x ∈ L, k ≠ x.1) → mm_a (Rw n L σ) k = mm_a σ k
  | [], _, _, _ => rfl
  | x :: L, σ, k, h => by
    show mm_a (Rw n L (mm_seta σ x.1 n x.2)) k = _
    rw [Rw_k (fun y hy => h y (List.mem_cons_of_mem _ hy)), a_seta_k (h x List.mem_cons_self)]
theorem Rw_v {n : Nat} : ∀ {L : List (Nat × Int32)} {σ : mmS}, (L.map (·.1)).Nodup → ∀ x ∈ L, mm_a (Rw n L σ) x.1 n = x.2
  | [], _, _, x, hx => nomatch hx
  | y :: L, σ, h, x, hx => by
    have h : ¬ y.1 ∈ L.map (·.1) ∧ (L.map (·.1)).Nodup := List.nodup_cons.mp h
    show mm_a (Rw n L (mm_seta σ y.1 n y.2)) x.1 n = x.2
    rcases List.mem_cons.mp hx with rfl | hx
    · rw [Rw_k (fun z hz c => h.1 (List.mem_map.mpr ⟨z, hz, c.symm⟩)), a_seta_s]
    · exact Rw_v h.2 x hx
/-- a table of ints: its count, its rows b .. e, how long they are at least -/
def cT (σ : mmS) (c b e lo : Nat) : Prop := mm_f σ c = nI (fN σ c) ∧ fN σ c ≤ mm_n σ b ∧ lo ≤ mm_n σ b ∧ mm_n σ b ≤ 262144 ∧ ∀ k, b ≤ k → k ≤ e → mm_n σ k = mm_n σ b
/-- there is room for a row -/
def TG (σ : mmS) (c b e : Nat) (τ : mmS) : Prop :=
  mm_f τ = mm_f σ ∧ mm_r τ = mm_r σ ∧ (∀ k, b ≤ k → k ≤ e → ∀ i, i < fN σ c → mm_a τ k i = mm_a σ k i) ∧ (∀ k, b ≤ k → k ≤ e → mm_n τ k = mm_n τ b) ∧ (∀ k, lst k → ¬ (b ≤ k ∧ k ≤ e) → sam σ τ k) ∧
  fN σ c < mm_n τ b ∧ mm_n σ b ≤ mm_n τ b ∧ (mm_n τ b = mm_n σ b ∨ mm_n τ b = 2 * fN σ c)
theorem TG.of {σ τ : mmS} {c b e lo : Nat} (h : cT σ c b e lo) (h0 : 0 < lo) (hf : fN σ c = mm_n σ b) (hbe : b ≤ e) (G : Gs σ b (e + 1) (2 * fN σ c) τ) : TG σ c b e τ := by
  obtain ⟨h1, h2, h3, h4, h5⟩ := h
  obtain ⟨G1, G2, G3, G4, G5, G6⟩ := G
  have gb := (G3 b (Nat.le_refl _) (by omega)).2
  exact ⟨G1, G2, fun k k1 k2 i hi => (G3 k k1 (by omega)).1 i (by rw [h5 k k1 k2]; omega), fun k k1 k2 => by rw [(G3 k k1 (by omega)).2, gb], fun k hk hn => G4 k hk (fun q => hn ⟨q.1, by omega⟩), by omega, by omega, Or.inr gb⟩
theorem TG.id {σ : mmS} {c b e lo : Nat} (h : cT σ c b e lo) (hl : fN σ c < mm_n σ b) : TG σ c b e σ :=
  ⟨rfl, rfl, fun _ _ _ _ _ => rfl, h.2.2.2.2, fun _ _ _ => sam.rfl', hl, Nat.le_refl _, Or.inl rfl⟩
/-- a row more in a table -/
def TS (σ : mmS) (c b e lo : Nat) (L : List (Nat × Int32)) (u : mmS) : Prop :=
  cT u c b e lo ∧ fN u c = fN σ c + 1 ∧ (∀ k, b ≤ k → k ≤ e → ∀ i, i < fN σ c → mm_a u k i = mm_a σ k i) ∧ (∀ x ∈ L, mm_a u x.1 (fN σ c) = x.2) ∧ (∀ k, lst k → ¬ (b ≤ k ∧ k ≤ e) → sam σ u k) ∧ mm_r u = mm_r σ
section FN
variable {σ : mmS} {d a : Nat} {x y z : Int32} {K : Int32 → mmS → Prop} {X : Nat → mmS → Prop}
def fnL (σ : mmS) (x y z : Int32) : List (Nat × Int32) := [(337, x), (338, y ||| 4), (339, mm_f σ 347), (342, 0), (343, 0), (344, z), (345, 0)]
/-- a function more -/
def FS (σ : mmS) (x y z : Int32) (u : mmS) : Prop :=
  TS σ 336 337 345 256 (fnL σ x y z) u ∧ (∀ k, k ≠ 336 → mm_f u k = mm_f σ k) ∧ mm_bs σ + 18 * mm_n σ 337 ≤ mm_bs u + 18 * mm_n u 337 ∧ 64 * mm_bc σ + 3 * mm_n σ 337 ≤ 64 * mm_bc u + 3 * mm_n u 337 ∧ (mm_n u 337 = mm_n σ 337 ∨ mm_n u 337 = 2 * fN σ 336)
theorem fn_end {τ : mmS} {w4 : Option mmV} {Q : mmQ} (h : cT σ 336 337 345 256) (hn : fN σ 336 ≤ 100000) (g : TG σ 336 337 345 τ) (hs : mm_bs σ + 18 * mm_n σ 337 ≤ mm_bs τ + 18 * mm_n τ 337) (hc : 64 * mm_bc σ + 3 * mm_n σ 337 ≤ 64 * mm_bc τ + 3 * mm_n τ 337)
    (k : ∀ u, FS σ x y z u → Q (.inl (some (.inl (nI (fN σ 336))))) u) :
    mm_W mt3016 (MC d) Q (137, [some (.inr (.inr (3, a))), some (.inl x), some (.inl y), some (.inl z), w4], []) τ := by
  obtain ⟨h1, h2, h3, h4, h5⟩ := h
  obtain ⟨g1, g2, g3, g4, g5, g6, g7, g8⟩ := g
  have hb : mm_n τ 337 < 2 ^ 31 := by omega
  have e (k : Nat) (a1 : 337 ≤ k) (a2 : k ≤ 345) : mm_n τ k = mm_n τ 337 := g4 k a1 a2
  have f1 : mm_f τ 336 = nI (fN σ 336) := by rw [g1]; exact h1
  refine b3016_137 _ _ _ _ _ _ _ _ ?_
  refine wr' f1 rfl g6 hb (wr' f1 (e 338 (by decide) (by decide)) g6 hb (wr' f1 (e 339 (by decide) (by decide)) g6 hb (wr' f1 (e 342 (by decide) (by decide)) g6 hb (wr' f1 (e 343 (by decide) (by decide)) g6 hb ?_))))
  refine b3016_192 _ _ _ _ _ _ _ _ ?_
  refine wr' f1 (e 344 (by decide) (by decide)) g6 hb (wr' f1 (e 345 (by decide) (by decide)) g6 hb ?_)
  have e47 : mm_f τ 347 = mm_f σ 347 := by rw [g1]
  have hw : mm_seta (mm_seta (mm_seta (mm_seta (mm_seta (mm_seta (mm_seta τ 337 (fN σ 336) x) 338 (fN σ 336) (y ||| 4)) 339 (fN σ 336) (mm_f τ 347)) 342 (fN σ 336) 0) 343 (fN σ 336) 0) 344 (fN σ 336) z) 345 (fN σ 336) 0 = Rw (fN σ 336) (fnL σ x y z) τ := by
    rw [e47]; rfl
  show Q (.inl (some (.inl (mm_f (mm_setf (mm_seta (mm_seta (mm_seta (mm_seta (mm_seta (mm_seta (mm_seta τ 337 (fN σ 336) x) 338 (fN σ 336) (y ||| 4)) 339 (fN σ 336) (mm_f τ 347)) 342 (fN σ 336) 0) 343 (fN σ 336) 0) 344 (fN σ 336) z) 345 (fN σ 336) 0) 336 (mm_f τ 336 + 1)) 336 - 1)))) (mm_setf (mm_seta (mm_seta (mm_seta (mm_seta (mm_seta (mm_seta (mm_seta τ 337 (fN σ 336) x) 338 (fN σ 336) (y ||| 4)) 339 (fN σ 336) (mm_f τ 347)) 342 (fN σ 336) 0) 343 (fN σ 336) 0) 344 (fN σ 336) z) 345 (fN σ 336) 0) 336 (mm_f τ 336 + 1))
  rw [hw, f_same, f1, nI_s1, nI_pred]
  obtain ⟨r1, r2, r3, r4, r5, r6, r7⟩ := Rw_same (fN σ 336) (fnL σ x y z) τ
  have ri : ∀ k i, i ≠ fN σ 336 → mm_a (Rw (fN σ 336) (fnL σ x y z) τ) k i = mm_a τ k i := fun k i c => Rw_i c
  have rv := Rw_v (n := fN σ 336) (L := fnL σ x y z) (σ := τ) (show ([337, 338, 339, 342, 343, 344, 345] : List Nat).Nodup by decide)
  have rk : ∀ k, ¬ (337 ≤ k ∧ k ≤ 345) → mm_a (Rw (fN σ 336) (fnL σ x y z) τ) k = mm_a τ k := fun k c => Rw_k (fun x hx => by
    simp only [fnL, List.mem_cons, List.not_mem_nil, or_false] at hx
    rcases hx with rfl | rfl | rfl | rfl | rfl | rfl | rfl <;> (show k ≠ _; omega))
  generalize Rw (fN σ 336) (fnL σ x y z) τ = ω at r1 r2 r3 r4 r5 r6 r7 ri rv rk
  have fv : fN (mm_setf ω 336 (nI (fN σ 336 + 1))) 336 = fN σ 336 + 1 := by
    show (mm_f (mm_setf ω 336 (nI (fN σ 336 + 1))) 336).toNatClampNeg = _
    rw [f_same, nI_clamp (by omega)]
  refine k _ ⟨⟨⟨by rw [fv, f_same], by rw [fv, n_setf, r3]; exact g6, by rw [n_setf, r3]; omega, by rw [n_setf, r3]; omega, fun k k1 k2 => by rw [n_setf, r3]; exact e k k1 k2⟩, fv, fun k k1 k2 i hi => by rw [a_setf, ri k i (by omega)]; exact g3 k k1 k2 i hi, fun x hx => by rw [a_setf]; exact rv x hx, fun k hk hk2 => ?_, ?_⟩, fun k hk => by rw [f_other hk, r1, g1], ?_, ?_, by rw [n_setf, r3]; exact g8⟩
  · obtain ⟨s1, s2, s3, s4⟩ := g5 k hk hk2
    exact ⟨by rw [a_setf, rk k hk2]; exact s1, by rw [n_setf, r3]; exact s2, by rw [v_setf, r4]; exact s3, by rw [l_setf, r5]; exact s4⟩
  · show mm_r ω = _
    rw [r2]; exact g2
  · rw [n_setf, r3]
    show _ ≤ mm_bs ω + _
    rw [r7]; exact hs
  · rw [n_setf, r3]
    show _ ≤ 64 * mm_bc ω + _
    rw [r6]; exact hc
end FN
