/-! PHASE 3. The component's state: good, bad; what stays; what a method answers for -/
/-- what is gathered: the chain of scopes, covers, private names asked for, functions, classes -/
abbrev cA : Type := hC × Int × List Int32 × Nat × Nat
/-- where one is: context, within a class, nest that is left, scopes up to the top at most, scope, function, the labels' base, loops and breaks, classes -/
abbrev cW : Type := sX × Bool × Nat × Nat × Nat × Nat × Nat × (Nat × Nat) × Nat
abbrev w_x (w : cW) : sX := w.1
abbrev w_in (w : cW) : Bool := w.2.1
abbrev w_nu (w : cW) : Nat := w.2.2.1
abbrev w_B (w : cW) : Nat := w.2.2.2.1
abbrev w_sc (w : cW) : Nat := w.2.2.2.2.1
abbrev w_hr (w : cW) : Nat := w.2.2.2.2.2.1
abbrev w_lb (w : cW) : Nat := w.2.2.2.2.2.2.1
abbrev w_lk (w : cW) : Nat × Nat := w.2.2.2.2.2.2.2.1
abbrev w_cl (w : cW) : Nat := w.2.2.2.2.2.2.2.2
def A_st (inn : Bool) (A : cA) (α : sA) : Option cA :=
  bif α.2.2.2.2.1 && (inn || α.2.1.isEmpty) then (match h_run α.2.2.2.2.2 A.1 with
    | none => none
    | some L => some (L, A.2.1 + α.1, A.2.2.1 ++ α.2.1, A.2.2.2.1 + α.2.2.1, A.2.2.2.2 + α.2.2.2.1)) else none
theorem A_st_0 {inn : Bool} {A : cA} : A_st inn A sA0 = some A := by
  obtain ⟨L, c, u, f, k⟩ := A
  simp [A_st, sA0, h_run]
theorem A_st_m {inn : Bool} {A : cA} {α δ : sA} : A_st inn A (sA_m α δ) = match A_st inn A α with | none => none | some B => A_st inn B δ := by
  obtain ⟨L, c, u, f, k⟩ := A
  obtain ⟨a1, a2, a3, a4, a5, a6⟩ := α
  obtain ⟨d1, d2, d3, d4, d5, d6⟩ := δ
  simp only [A_st, sA_m, h_run_app]
  cases a5 <;> cases d5 <;> cases inn <;> cases a2 <;> cases d2 <;> cases h_run a6 L <;> simp [A_st, Int.add_assoc, Nat.add_assoc]
/-- a reading, run -/
def run {β : Type} (inn : Bool) (A : cA) (r : sR β) : Option (β × Nat × cA) := match r with
  | none => none
  | some (v, j, α) => match A_st inn A α with
    | none => none
    | some B => some (v, j, B)
theorem run_b {β γ : Type} {inn : Bool} {A : cA} {r : sR β} {f : β → Nat → sR γ} : run inn A (s_b r f) = match run inn A r with | none => none | some (v, j, B) => run inn B (f v j) := by
  unfold s_b run
  cases r with
  | none => rfl
  | some x =>
    obtain ⟨v, j, α⟩ := x
    cases hf : f v j with
    | none =>
      simp only [hf]
      cases A_st inn A α <;> simp [hf]
    | some y =>
      obtain ⟨z, k, δ⟩ := y
      simp only [hf, A_st_m]
      cases A_st inn A α <;> simp [hf]
theorem run_r {β : Type} {inn : Bool} {A : cA} {v : β} {j : Nat} : run inn A (s_r v j) = some (v, j, A) := by
  unfold s_r run
  simp only [A_st_0]
theorem sA0_m {α : sA} : sA_m sA0 α = α := by
  obtain ⟨a1, a2, a3, a4, a5, a6⟩ := α
  simp [sA_m, sA0]
theorem sA_m0 {α : sA} : sA_m α sA0 = α := by
  obtain ⟨a1, a2, a3, a4, a5, a6⟩ := α
  simp [sA_m, sA0]
theorem sA_mm {α β γ : sA} : sA_m (sA_m α β) γ = sA_m α (sA_m β γ) := by
  simp [sA_m, Int.add_assoc, Nat.add_assoc, Bool.and_assoc]
theorem s_b_r {β γ : Type} {v : β} {j : Nat} {f : β → Nat → sR γ} : s_b (s_r v j) f = f v j := by
  unfold s_b s_r
  simp only
  cases f v j with
  | none => rfl
  | some x => obtain ⟨x1, x2, x3⟩ := x; simp only [sA0_m]
theorem s_b_none {β γ : Type} {f : β → Nat → sR γ} : s_b (none : sR β) f = none := rfl
theorem s_b_b {β γ δ : Type} {r : sR β} {f : β → Nat → sR γ} {F : γ → Nat → sR δ} : s_b (s_b r f) F = s_b r (fun v j => s_b (f v j) F) := by
  unfold s_b
  cases r with
  | none => rfl
  | some x =>
    obtain ⟨v, j, α⟩ := x
    simp only
    cases f v j with
    | none => rfl
    | some y =>
      obtain ⟨z, k, β⟩ := y
      simp only
      cases F z k with
      | none => rfl
      | some q => obtain ⟨q1, q2, q3⟩ := q; simp only [sA_mm]
theorem s_b_if {β γ : Type} {c : Bool} {r1 r2 : sR β} {f : β → Nat → sR γ} : s_b (bif c then r1 else r2) f = bif c then s_b r1 f else s_b r2 f := by cases c <;> rfl
theorem run_none {β : Type} {inn : Bool} {A : cA} : run inn A (none : sR β) = none := rfl
/-! what holds in any mode -/
def GD (σ : mmS) : Prop := mm_f σ 303 = 0
/-- the scopes' parents -/
def upS (σ : mmS) : Prop := ∀ s, s < fN σ 324 → (mm_a σ 326 s = -1 ∧ mm_a σ 327 s = 0) ∨ ∃ k, mm_a σ 326 s = nI k ∧ k < s
/-- the functions: those that are arrows have a function around -/
def fnK (σ : mmS) : Prop := cT σ 336 337 345 256 ∧ (1 ≤ fN σ 336 ∧ ∀ f, f < fN σ 336 → ∃ k, mm_a σ 342 f = nI k ∧ k < fN σ 315) ∧ ∀ f, f < fN σ 336 → mm_a σ 337 f = 1 → ∃ k, mm_a σ 339 f = nI k ∧ k < f
/-- lengths, and what may still be made -/
def lnB (T : sT) (σ : mmS) : Prop := (mm_n σ 361 = 50 ∧ mm_n σ 362 = 50 ∧ mm_n σ 363 = 3002 ∧ mm_n σ 369 = 3000 ∧ mm_n σ 370 = 3000 ∧ mm_n σ 306 = 3002 ∧ (16 ≤ mm_n σ 215 ∧ 16 ≤ mm_n σ 217 ∧ 16 ≤ mm_n σ 219) ∧ mm_n σ 215 ≤ 2700 ∧ mm_n σ 217 ≤ 8000 ∧ mm_n σ 219 ≤ 10600) ∧ mm_n σ 326 ≤ 20000 ∧ mm_n σ 337 ≤ 20000 ∧
  6825000 + T.2.2.2.2.2.1 ≤ mm_bs σ + 16 * mm_n σ 316 + 8 * mm_n σ 332 + 12 * mm_n σ 326 + 18 * mm_n σ 337 + 2 * (mm_n σ 215 + mm_n σ 217 + mm_n σ 219) ∧ 900000 + T.2.2.2.2.2.2 ≤ 64 * mm_bc σ + mm_n σ 316 + mm_n σ 332 + mm_n σ 326 + 3 * mm_n σ 337 + 4 * (mm_n σ 215 + mm_n σ 217 + mm_n σ 219)
/-- the scope and the function where one is -/
def shH (σ : mmS) : Prop := (∃ s, mm_f σ 346 = nI s ∧ s < fN σ 324) ∧ ∃ f, mm_f σ 347 = nI f ∧ f < fN σ 336
/-- a chain's inner node is a node; the first row is none -/
def chN (σ : mmS) : Prop := mm_a σ 316 0 = 0 ∧ ∀ k, k < fN σ 315 → mm_a σ 316 k = 35 → ∃ j, mm_a σ 317 k = nI j ∧ j < fN σ 315
/-- halves of private names: rows of names that are there -/
def hvN (σ : mmS) : Prop := (∀ k, k < fN σ 371 → ∃ r, mm_a σ 369 k = nI r ∧ r < fN σ 325) ∧ ∀ k k', k < fN σ 371 → k' < fN σ 371 → mm_a σ 369 k = mm_a σ 369 k' → k = k'
def cI (T : sT) (σ : mmS) : Prop := Tk T σ ∧ cN σ ∧ (∃ R, stru σ R) ∧ ((upS σ ∧ hvN σ) ∧ chN σ) ∧ fnK σ ∧ shH σ ∧ lnB T σ
/-- where one is, in the fields -/
def cX (ν b : Nat) (lk : Nat × Nat) (x : sX) (σ : mmS) : Prop :=
  (mm_f σ 348 = bI x.1.1 ∧ mm_f σ 349 = bI x.1.2.1 ∧ mm_f σ 350 = bI x.1.2.2.1 ∧ mm_f σ 351 = bI x.1.2.2.2.1 ∧ mm_f σ 352 = bI x.1.2.2.2.2.1 ∧ mm_f σ 353 = bI x.1.2.2.2.2.2) ∧
  (x.2.1 = (!(mm_a σ 337 (fN σ 347) == 9) && !(mm_a σ 337 (fN σ 347) == 8))) ∧
  (mm_f σ 354 = nI lk.1 ∧ lk.1 + ν ≤ 48 ∧ x.2.2.1 = decide (0 < lk.1)) ∧ (mm_f σ 355 = nI lk.2 ∧ lk.2 + ν ≤ 48 ∧ x.2.2.2.1 = decide (0 < lk.2)) ∧
  mm_f σ 357 = nI b ∧ mm_f σ 356 = nI (b + x.2.2.2.2.length) ∧ b + x.2.2.2.2.length + ν ≤ 48 ∧ ∀ k, (h : k < x.2.2.2.2.length) → mm_a σ 361 (b + k) = (x.2.2.2.2[k]).1 ∧ mm_a σ 362 (b + k) = bI (x.2.2.2.2[k]).2 ∧ 45 < (x.2.2.2.2[k]).1
/-- how many functions are counted -/
def cntF (σ : mmS) : Nat → Nat
  | 0 => 0
  | n + 1 => cntF σ n + (if mm_a σ 337 n < 7 then 1 else 0)
/-- the rows of scopes' kinds and names: the chain -/
def cL (L : hC) (B : Nat) (σ : mmS) : Prop := ∃ R b, stru σ R ∧ path σ R L (mm_f σ 346) b ∧ h_ok L = true ∧ hl L ≤ B ∧ ∀ x t, L = x :: t → x.1 = 2 ∨ x.1 = 7 → t ≠ []
/-- counters: m and e are what is put by for nodes (scopes, functions) and for names -/
def cC (m e i : Nat) (σ : mmS) : Prop := fN σ 315 + m ≤ 12 * i + 60 ∧ 4 * fN σ 324 + m ≤ 12 * i + 60 ∧ 8 * fN σ 336 + m ≤ 12 * i + 60 ∧ fN σ 325 + 100 * e ≤ 100 * i + 100 ∧ (∃ n, mm_f σ 371 = nI n ∧ n + e ≤ i + 1)
/-- a good state at token i -/
def cG (T : sT) (w : cW) (A : cA) (m e : Nat) (σ : mmS) (i : Nat) : Prop :=
  cI T σ ∧ GD σ ∧ (mm_f σ 311 = nI i ∧ i ≤ t_e T) ∧ (mm_f σ 312 = nI (48 - w_nu w) ∧ w_nu w ≤ 48 ∧ w_B w ≤ 2 * (48 - w_nu w) + 3) ∧ cX (w_nu w) (w_lb w) (w_lk w) (w_x w) σ ∧ (mm_f σ 346 = nI (w_sc w) ∧ mm_f σ 347 = nI (w_hr w)) ∧
  cL A.1 (w_B w) σ ∧ (mm_f σ 313 = Int32.ofInt A.2.1 ∧ A.2.1 ≤ (i : Int)) ∧
  (mm_f σ 360 = nI A.2.2.1.length ∧ A.2.2.1.length ≤ i ∧ ∀ k, (h : k < A.2.2.1.length) → mm_a σ 363 k = A.2.2.1[k]) ∧ cntF σ (fN σ 336) = A.2.2.2.1 ∧ (mm_f σ 359 = nI A.2.2.2.2 ∧ A.2.2.2.2 + m ≤ 12 * i + 60) ∧
  (mm_f σ 358 = nI (w_cl w) ∧ w_cl w + w_nu w ≤ 48 ∧ w_in w = decide (0 < w_cl w) ∧ (w_in w = false → A.2.2.1 = [])) ∧ cC m e i σ
/-- a bad one: g is what is put by -/
def pot (T : sT) (q : Nat) : Nat := if q = t_e T then 0 else 1262 - q
def cB (T : sT) (g : Nat) (σ : mmS) : Prop :=
  cI T σ ∧ mm_f σ 303 = 1 ∧ (∃ q, mm_f σ 311 = nI q ∧ t_e T ≤ q ∧ (q ≤ 1262 ∨ 1250 * q + g ≤ 1665000) ∧ fN σ 315 + pot T q + g ≤ 85000 ∧ 16 * fN σ 324 + pot T q + g ≤ 140000 ∧ 16 * fN σ 336 + pot T q + g ≤ 140000 ∧ 16 * fN σ 325 + pot T q + g ≤ 2090000) ∧ ∃ n, mm_f σ 360 = nI n ∧ n ≤ 1262
/-- fields that the reading changes; slots -/
def cmf (k : Nat) : Bool := k == 303 || (Nat.ble 311 k && Nat.ble k 315) || k == 324 || k == 325 || k == 336 || (Nat.ble 346 k && Nat.ble k 360) || k == 371
def cms (k : Nat) : Bool := (Nat.ble 316 k && Nat.ble k 323) || (Nat.ble 326 k && Nat.ble k 335) || (Nat.ble 337 k && Nat.ble k 345) || (Nat.ble 361 k && Nat.ble k 363) || k == 369 || k == 370
/-- rows that stay in good mode: of nodes, functions, halves, labels -/
abbrev cTh : Type := Nat × Nat × Nat × Nat
def th (σ : mmS) : cTh := (fN σ 315, fN σ 336, fN σ 371, fN σ 356)
def tle (a b : cTh) : Prop := a.1 ≤ b.1 ∧ a.2.1 ≤ b.2.1 ∧ a.2.2.1 ≤ b.2.2.1 ∧ a.2.2.2 ≤ b.2.2.2
def Fg (θ : cTh) (σ u : mmS) : Prop := fN σ 371 ≤ fN u 371 ∧
  (∀ k, 316 ≤ k → k ≤ 323 → ∀ i, 1 ≤ i → i < θ.1 → mm_a u k i = mm_a σ k i) ∧ (∀ f, f < θ.2.1 → mm_a u 338 f &&& 4 = mm_a σ 338 f &&& 4 ∧ mm_a u 342 f = mm_a σ 342 f) ∧
  (∀ k, k < θ.2.2.1 → mm_a u 369 k = mm_a σ 369 k ∧ mm_a u 370 k = mm_a σ 370 k) ∧ ∀ k, k < θ.2.2.2 → mm_a u 361 k = mm_a σ 361 k ∧ mm_a u 362 k = mm_a σ 362 k
def Fr (θ : cTh) (σ u : mmS) : Prop :=
  (GD u → GD σ) ∧ (∀ k, cmf k = false → mm_f u k = mm_f σ k) ∧ (mm_r u = mm_r σ ∧ gro σ u) ∧ (∀ k, lst k → cms k = false → sam σ u k) ∧
  (fN σ 315 ≤ fN u 315 ∧ fN σ 324 ≤ fN u 324 ∧ fN σ 325 ≤ fN u 325 ∧ fN σ 336 ≤ fN u 336) ∧
  (∀ s, s < fN σ 324 → mm_a u 326 s = mm_a σ 326 s ∧ mm_a u 327 s = mm_a σ 327 s) ∧ (∀ f, f < fN σ 336 → mm_a u 337 f = mm_a σ 337 f ∧ mm_a u 339 f = mm_a σ 339 f) ∧ (GD u → Fg θ σ u)
theorem tle.rfl' {a : cTh} : tle a a := ⟨Nat.le_refl _, Nat.le_refl _, Nat.le_refl _, Nat.le_refl _⟩
theorem Fg.rfl' {θ : cTh} {σ : mmS} : Fg θ σ σ := ⟨Nat.le_refl _, fun _ _ _ _ _ _ => rfl, fun _ _ => ⟨rfl, rfl⟩, fun _ _ => ⟨rfl, rfl⟩, fun _ _ => ⟨rfl, rfl⟩⟩
theorem Fg.trans {θ : cTh} {σ u v : mmS} (h : Fg θ σ u) (g : Fg θ u v) : Fg θ σ v :=
  ⟨Nat.le_trans h.1 g.1, fun k k1 k2 i i1 i2 => (g.2.1 k k1 k2 i i1 i2).trans (h.2.1 k k1 k2 i i1 i2), fun f hf => ⟨(g.2.2.1 f hf).1.trans (h.2.2.1 f hf).1, (g.2.2.1 f hf).2.trans (h.2.2.1 f hf).2⟩, fun k hk => ⟨(g.2.2.2.1 k hk).1.trans (h.2.2.2.1 k hk).1, (g.2.2.2.1 k hk).2.trans (h.2.2.2.1 k hk).2⟩, fun k hk => ⟨(g.2.2.2.2 k hk).1.trans (h.2.2.2.2 k hk).1, (g.2.2.2.2 k hk).2.trans (h.2.2.2.2 k hk).2⟩⟩
theorem Fg.mono {θ θ' : cTh} {σ u : mmS} (h : Fg θ σ u) (l : tle θ' θ) : Fg θ' σ u :=
  ⟨h.1, fun k k1 k2 i i1 i2 => h.2.1 k k1 k2 i i1 (Nat.lt_of_lt_of_le i2 l.1), fun f hf => h.2.2.1 f (Nat.lt_of_lt_of_le hf l.2.1), fun k hk => h.2.2.2.1 k (Nat.lt_of_lt_of_le hk l.2.2.1), fun k hk => h.2.2.2.2 k (Nat.lt_of_lt_of_le hk l.2.2.2)⟩
theorem Fr.rfl' {θ : cTh} {σ : mmS} : Fr θ σ σ := ⟨id, fun _ _ => rfl, ⟨rfl, gro.rfl'⟩, fun _ _ _ => sam.rfl', ⟨Nat.le_refl _, Nat.le_refl _, Nat.le_refl _, Nat.le_refl _⟩, fun _ _ => ⟨rfl, rfl⟩, fun _ _ => ⟨rfl, rfl⟩, fun _ => Fg.rfl'⟩
theorem Fr.trans {θ : cTh} {σ u v : mmS} (h : Fr θ σ u) (g : Fr θ u v) : Fr θ σ v := by
  obtain ⟨h1, h2, h3, h4, h5, h6, h7, h8⟩ := h
  obtain ⟨g1, g2, g3, g4, g5, g6, g7, g8⟩ := g
  refine ⟨fun q => h1 (g1 q), fun k hk => (g2 k hk).trans (h2 k hk), ⟨g3.1.trans h3.1, h3.2.trans g3.2 (by omega) (by omega)⟩, fun k k1 k2 => (h4 k k1 k2).trans (g4 k k1 k2), ⟨by omega, by omega, by omega, by omega⟩, fun s hs => ?_, fun f hf => ?_, fun q => (h8 (g1 q)).trans (g8 q)⟩
  · have a := g6 s (by omega)
    have b := h6 s hs
    exact ⟨a.1.trans b.1, a.2.trans b.2⟩
  · have a := g7 f (by omega)
    have b := h7 f hf
    exact ⟨a.1.trans b.1, a.2.trans b.2⟩
theorem Fr.mono {θ θ' : cTh} {σ u : mmS} (h : Fr θ σ u) (l : GD σ → tle θ' θ) : Fr θ' σ u := by
  obtain ⟨h1, h2, h3, h4, h5, h6, h7, h8⟩ := h
  exact ⟨h1, h2, h3, h4, h5, h6, h7, fun q => (h8 q).mono (l (h1 q))⟩
