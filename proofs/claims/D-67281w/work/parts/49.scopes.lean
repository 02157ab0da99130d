/-! PHASE 3. Scopes and their names -/
/-- kinds of names by roles: 0 var, 1 lexical, 2 function, 3 parameter, 8 passing -/
def cls (r : Int32) : Nat := if r = 0 then 0 else if r = 3 then 2 else if r = 5 then 3 else if r = 8 then 8 else 1
theorem cls_8 {r : Int32} : cls r = 8 ↔ r = 8 := by
  unfold cls
  by_cases h0 : r = 0
  · subst h0; decide
  by_cases h3 : r = 3
  · subst h3; decide
  by_cases h5 : r = 5
  · subst h5; decide
  rw [if_neg h0, if_neg h3, if_neg h5]
  by_cases h8 : r = 8 <;> simp [h8]
theorem cls_0 {r : Int32} : cls r = 0 ↔ r = 0 := by
  unfold cls
  by_cases h0 : r = 0
  · subst h0; decide
  rw [if_neg h0]
  by_cases h3 : r = 3
  · subst h3; decide
  by_cases h5 : r = 5
  · subst h5; decide
  rw [if_neg h3, if_neg h5]
  by_cases h8 : r = 8 <;> simp [h0, h8]
/-- a list of rows, linked -/
def lnk (σ : mmS) : List Nat → Int32 → Prop
  | [], e => e = -1
  | k :: t, e => e = nI k ∧ lnk σ t (mm_a σ 334 k)
/-- scopes and names are well made; R: the rows of each scope -/
def stru (σ : mmS) (R : Nat → List Nat) : Prop :=
  cT σ 324 326 331 512 ∧ cT σ 325 332 335 2048 ∧
  (∀ s, s < fN σ 324 → lnk σ (R s) (mm_a σ 328 s) ∧ (∀ k, (R s).getLast? = some k → mm_a σ 329 s = nI k) ∧ (∀ k ∈ R s, k < fN σ 325) ∧ (R s).Nodup) ∧
  ∀ s s' k, s < fN σ 324 → s' < fN σ 324 → k ∈ R s → k ∈ R s' → s = s'
/-- what a scope has: kinds and names -/
def ens (σ : mmS) (l : List Nat) : List (Nat × Int32) := l.map (fun r => (cls (mm_a σ 333 r), mm_a σ 332 r))
def h_find (es : List (Nat × Int32)) (n : Int32) : Option Nat := (es.find? (fun e => e.2 == n && !(e.1 == 8))).map (·.1)
def h_pass (es : List (Nat × Int32)) (n : Int32) : Bool := es.any (fun e => e.2 == n && (e.1 == 8 || e.1 == 0))
section FIND
variable {σ : mmS} {R : Nat → List Nat} {s a d : Nat} {n : Int32} {K : Int32 → mmS → Prop} {X : Nat → mmS → Prop}
theorem find_loop (h : cT σ 325 332 335 2048) {Q : mmQ} {v1 : Int32} : ∀ (l : List Nat) (e : Int32), lnk σ l e → (∀ k ∈ l, k < fN σ 325) → (h_find (ens σ l) n = none → Q (.inl (some (.inl (-1)))) σ) →
    (∀ r, r ∈ l → h_find (ens σ l) n = some (cls (mm_a σ 333 r)) → Q (.inl (some (.inl (nI r)))) σ) →
    mm_W mt3031 (MC d) Q (7, [some (.inr (.inr (3, a))), some (.inl v1), some (.inl n), some (.inl e)], []) σ
  | [], e, hl, _, h0, _ => by
    rw [show e = -1 from hl]
    exact b3031_7 _ _ _ _ _ _ _ (br_y (by decide) (h0 rfl))
  | k :: t, e, hl, hb, h0, h1 => by
    obtain ⟨rfl, hl⟩ := hl
    have hk := hb k List.mem_cons_self
    have e2 : fN σ 325 ≤ mm_n σ 332 := h.2.1
    have e4 := h.2.2.2.1
    have en (j : Nat) (j1 : 332 ≤ j) (j2 : j ≤ 335) : mm_n σ j = mm_n σ 332 := h.2.2.2.2 j j1 j2
    have ec : ens σ (k :: t) = (cls (mm_a σ 333 k), mm_a σ 332 k) :: ens σ t := rfl
    have go : h_find (ens σ (k :: t)) n = h_find (ens σ t) n → mm_W mt3031 (MC d) Q (7, [some (.inr (.inr (3, a))), some (.inl v1), some (.inl n), some (.inl (mm_a σ 334 k))], []) σ := fun q =>
      find_loop h t _ hl (fun r hr => hb r (List.mem_cons_of_mem _ hr)) (fun z => h0 (q.trans z)) (fun r hr z => h1 r (List.mem_cons_of_mem _ hr) (q.trans z))
    refine b3031_7 _ _ _ _ _ _ _ (br_n (nI_pos (by omega)) (rd rfl (by omega) (by omega) (br_p (fun c => rd (en 333 (by decide) (by decide)) (by omega) (by omega) (br_p (fun g => rd (en 334 (by decide) (by decide)) (by omega) (by omega) (go ?_)) fun g => h1 k List.mem_cons_self ?_)) fun c => rd (en 334 (by decide) (by decide)) (by omega) (by omega) (go ?_))))
    · rw [ec]
      unfold h_find
      rw [List.find?_cons_of_neg (by simp [c, cls_8.mpr g])]
    · rw [ec]
      unfold h_find
      rw [List.find?_cons_of_pos (by simp [c, cls_8, g])]
      rfl
    · rw [ec]
      unfold h_find
      rw [List.find?_cons_of_neg (by simp [c])]
theorem c_find (hd : 1 ≤ d) (h : stru σ R) (hs : s < fN σ 324) (h0 : h_find (ens σ (R s)) n = none → K (-1) σ) (h1 : ∀ r, r ∈ R s → h_find (ens σ (R s)) n = some (cls (mm_a σ 333 r)) → K (nI r) σ) :
    mm_ci (MC d) 3031 [.inr (.inr (3, a)), .inl (nI s), .inl n] σ K X := by
  obtain ⟨d, rfl, hd⟩ := mc_pos hd
  refine mc_ci (P := mt3031) (L := 4) rfl rfl ⟨by decide, Nat.le_of_ble_eq_true rfl⟩ fun Q hK hX => b3031_0 _ _ _ _ _ _ _ ?_
  obtain ⟨g1, g2, g3, g4⟩ := h
  obtain ⟨l1, l2, l3, -⟩ := g3 s hs
  have e2 := g1.2.1
  have e4 := g1.2.2.2.1
  exact rd (g1.2.2.2.2 328 (by decide) (by decide)) (by omega) (by omega) (find_loop g2 (R s) _ l1 l3 (fun q => hK _ _ (h0 q)) (fun r hr q => hK _ _ (h1 r hr q)))
theorem pass_loop (h : cT σ 325 332 335 2048) {Q : mmQ} {v1 : Int32} : ∀ (l : List Nat) (e : Int32), lnk σ l e → (∀ k ∈ l, k < fN σ 325) → Q (.inl (some (.inl (bI (h_pass (ens σ l) n))))) σ →
    mm_W mt3032 (MC d) Q (7, [some (.inr (.inr (3, a))), some (.inl v1), some (.inl n), some (.inl e)], []) σ
  | [], e, hl, _, h0 => by
    rw [show e = -1 from hl]
    exact b3032_7 _ _ _ _ _ _ _ (br_y (by decide) ⟨Or.inl rfl, h0⟩)
  | k :: t, e, hl, hb, h0 => by
    obtain ⟨rfl, hl⟩ := hl
    have hk := hb k List.mem_cons_self
    have e2 : fN σ 325 ≤ mm_n σ 332 := h.2.1
    have e4 := h.2.2.2.1
    have en (j : Nat) (j1 : 332 ≤ j) (j2 : j ≤ 335) : mm_n σ j = mm_n σ 332 := h.2.2.2.2 j j1 j2
    have ec : h_pass (ens σ (k :: t)) n = ((mm_a σ 332 k == n && (cls (mm_a σ 333 k) == 8 || cls (mm_a σ 333 k) == 0)) || h_pass (ens σ t) n) := rfl
    have go : h_pass (ens σ (k :: t)) n = h_pass (ens σ t) n → mm_W mt3032 (MC d) Q (7, [some (.inr (.inr (3, a))), some (.inl v1), some (.inl n), some (.inl (mm_a σ 334 k))], []) σ := fun q =>
      pass_loop h t _ hl (fun r hr => hb r (List.mem_cons_of_mem _ hr)) (by rw [q] at h0; exact h0)
    have yes : h_pass (ens σ (k :: t)) n = true → Q (.inl (some (.inl 1))) σ := fun q => by rw [q] at h0; exact h0
    refine b3032_7 _ _ _ _ _ _ _ (br_n (nI_pos (by omega)) (rd rfl (by omega) (by omega) (br_p (fun c => rd (en 333 (by decide) (by decide)) (by omega) (by omega) (br_p (fun g => ⟨Or.inr rfl, yes ?_⟩) fun g => rd (en 333 (by decide) (by decide)) (by omega) (by omega) (br_p (fun g2 => ⟨Or.inr rfl, yes ?_⟩) fun g2 => rd (en 334 (by decide) (by decide)) (by omega) (by omega) (go ?_)))) fun c => rd (en 334 (by decide) (by decide)) (by omega) (by omega) (go ?_))))
    · rw [ec]; simp [c, cls_8.mpr g]
    · rw [ec]; simp [c, cls_0.mpr g2]
    · rw [ec]; simp [c, cls_8, cls_0, g, g2]
    · rw [ec]; simp [c]
theorem c_passes (hd : 1 ≤ d) (h : stru σ R) (hs : s < fN σ 324) (h0 : K (bI (h_pass (ens σ (R s)) n)) σ) : mm_ci (MC d) 3032 [.inr (.inr (3, a)), .inl (nI s), .inl n] σ K X := by
  obtain ⟨d, rfl, hd⟩ := mc_pos hd
  refine mc_ci (P := mt3032) (L := 4) rfl rfl ⟨by decide, Nat.le_of_ble_eq_true rfl⟩ fun Q hK hX => b3032_0 _ _ _ _ _ _ _ ?_
  obtain ⟨g1, g2, g3, g4⟩ := h
  obtain ⟨l1, l2, l3, -⟩ := g3 s hs
  have e2 := g1.2.1
  have e4 := g1.2.2.2.1
  exact rd (g1.2.2.2.2 328 (by decide) (by decide)) (by omega) (by omega) (pass_loop g2 (R s) _ l1 l3 (hK _ _ h0))
def h_top (w : Int32) : Bool := w == 2 || w == 0 || w == 1
theorem c_isTop (hd : 1 ≤ d) (h : cT σ 324 326 331 512) (hs : s < fN σ 324) (h0 : K (bI (h_top (mm_a σ 327 s))) σ) : mm_ci (MC d) 3030 [.inr (.inr (3, a)), .inl (nI s)] σ K X := by
  obtain ⟨d, rfl, hd⟩ := mc_pos hd
  refine mc_ci (P := mt3030) (L := 2) rfl rfl ⟨by decide, Nat.le_of_ble_eq_true rfl⟩ fun Q hK hX => b3030_0 _ _ _ _ _ ?_
  have e2 := h.2.1
  have e4 := h.2.2.2.1
  have rd7 {V : Int32 → Prop} (v : V (mm_a σ 327 s)) : mm_L σ 327 (nI s) V := rd (h.2.2.2.2 327 (by decide) (by decide)) (by omega) (by omega) v
  have y : h_top (mm_a σ 327 s) = true → (((1 : Int32) = 0 ∨ (1 : Int32) = 1) ∧ Q (.inl (some (.inl 1))) σ) := fun q => ⟨Or.inr rfl, hK _ _ (by rw [q] at h0; exact h0)⟩
  refine rd7 (br_p (fun c => y (by simp [h_top, c])) fun c1 => rd7 (br_p (fun c => y (by simp [h_top, c])) fun c2 => rd7 (br_p (fun c => y (by simp [h_top, c])) fun c3 => ⟨Or.inl rfl, hK _ _ ?_⟩)))
  rw [show h_top (mm_a σ 327 s) = false by simp [h_top, c1, c2, c3]] at h0
  exact h0
end FIND
