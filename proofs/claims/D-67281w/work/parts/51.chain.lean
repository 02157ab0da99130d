/-! PHASE 3. The chain of scopes: sort and names of each, the one here first -/
abbrev hC : Type := List (Int32 × List (Nat × Int32))
/-- the chain from the scope e on; places fall -/
def path (σ : mmS) (R : Nat → List Nat) : hC → Int32 → Nat → Prop
  | [], e, _ => e = -1
  | x :: t, e, b => ∃ k, e = nI k ∧ k < b ∧ k < fN σ 324 ∧ mm_a σ 327 k = x.1 ∧ ens σ (R k) = x.2 ∧ path σ R t (mm_a σ 326 k) k
/-- a var: through all scopes up to the top -/
def h_var (n : Int32) : hC → Option hC
  | [] => none
  | (w, es) :: t => bif h_top w then (match h_find es n with
      | none => some ((w, es ++ [(0, n)]) :: t)
      | some r => bif r == 0 || r == 3 || (r == 2 && !(w == 0)) then some ((w, es) :: t) else none)
    else bif (h_find es n).isSome then none else (h_var n t).map (fun t2 => (w, bif h_pass es n then es else es ++ [(8, n)]) :: t2)
def h_has (t : hC) (n : Int32) : Bool := match t with | [] => false | x :: _ => (h_find x.2 n).isSome
/-- a declaration of a kind -/
def h_dec0 (k : Nat) (n : Int32) (L : hC) : Option hC := bif k == 0 then h_var n L else match L with
  | [] => none
  | (w, es) :: t => bif k == 2 && h_top w && !(w == 0) then (match h_find es n with
      | none => some ((w, es ++ [(2, n)]) :: t)
      | some r => bif r == 0 || r == 3 || r == 2 then some ((w, es) :: t) else none)
    else bif (h_find es n).isSome || h_pass es n || ((w == 2 || w == 7) && h_has t n) then none else some ((w, es ++ [(k, n)]) :: t)
def h_dec (k : Nat) (n : Int32) (L : hC) : Option hC := bif n_bad n then none else h_dec0 k n L
/-- a private name; a name that is put there whatever stands there -/
def h_prv (n : Int32) (L : hC) : Option hC := match L with
  | [] => none
  | (w, es) :: t => some ((w, bif (h_find es n).isSome then es else es ++ [(1, n)]) :: t)
def h_add (k : Nat) (n : Int32) (L : hC) : Option hC := match L with
  | [] => none
  | (w, es) :: t => some ((w, es ++ [(k, n)]) :: t)
def h_ev (k : Nat) (n : Int32) (L : hC) : Option hC := bif k == 7 then h_prv n L else bif Nat.ble 9 k then h_add (k - 8) n L else h_dec k n L
theorem h_ev_cls {r n : Int32} {L : hC} : h_ev (cls r) n L = h_dec (cls r) n L := by
  have h : (cls r == 7) = false ∧ Nat.ble 9 (cls r) = false := by
    unfold cls
    split
    · exact ⟨rfl, rfl⟩
    · split
      · exact ⟨rfl, rfl⟩
      · split
        · exact ⟨rfl, rfl⟩
        · split <;> exact ⟨rfl, rfl⟩
  rw [h_ev, h.1, h.2]; rfl
def h_run : List (Nat × Int32) → hC → Option hC
  | [], L => some L
  | x :: t, L => match h_ev x.1 x.2 L with | none => none | some L2 => h_run t L2
theorem h_run_app (a b : List (Nat × Int32)) (L : hC) : h_run (a ++ b) L = match h_run a L with | none => none | some L2 => h_run b L2 := by
  induction a generalizing L with
  | nil => rfl
  | cons x t ih =>
    simp only [List.cons_append, h_run]
    cases h_ev x.1 x.2 L with
    | none => rfl
    | some L2 => exact ih L2
/-- how many scopes up to the top -/
def hl : hC → Nat
  | [] => 0
  | x :: t => bif h_top x.1 then 1 else hl t + 1
theorem hl_pos {x : Int32 × List (Nat × Int32)} {t : hC} : 1 ≤ hl (x :: t) := by
  unfold hl
  cases h_top x.1 with
  | true => exact Nat.le_refl _
  | false => exact Nat.le_add_left _ _
/-- a chain has a top -/
def h_ok (L : hC) : Bool := L.any (fun x => h_top x.1)
theorem path_add {σ u : mmS} {R : Nat → List Nat} {s : Nat} {n r : Int32} (h : AS σ R s n r u) : ∀ {L : hC} {e : Int32} {b : Nat}, path σ R L e b → b ≤ s → path u (Rad R s (fN σ 325)) L e b
  | [], _, _, p, _ => p
  | x :: t, e, b, p, hb => by
    obtain ⟨k, p1, p2, p3, p4, p5, p6⟩ := p
    obtain ⟨h1, h2, h3, h4, h5, h6, -⟩ := id h
    have f : fN u 324 = fN σ 324 := by unfold fN; rw [h3 324 (by decide)]
    have g (j : Nat) (j1 : j = 326 ∨ j = 327) : mm_a u j = mm_a σ j := (h6 j ⟨Or.inr (by omega), by omega, by omega, by omega, by omega⟩).1
    refine ⟨k, p1, p2, by rw [f]; exact p3, by rw [g 327 (Or.inr rfl)]; exact p4, ?_, ?_⟩
    · rw [h5 k p3, if_neg (by omega)]; exact p5
    · rw [g 326 (Or.inl rfl)]
      exact path_add h p6 (by omega)
/-- the scope that gets the name -/
theorem path_top {σ u : mmS} {R : Nat → List Nat} {s b : Nat} {n r w : Int32} {es : List (Nat × Int32)} {t : hC} (h : AS σ R s n r u) (hs : s < b) (hs2 : s < fN σ 324) (p4 : mm_a σ 327 s = w) (p5 : ens σ (R s) = es) (p6 : path σ R t (mm_a σ 326 s) s) :
    path u (Rad R s (fN σ 325)) ((w, es ++ [(cls r, n)]) :: t) (nI s) b := by
  obtain ⟨h1, h2, h3, h4, h5, h6, -⟩ := id h
  have f : fN u 324 = fN σ 324 := by unfold fN; rw [h3 324 (by decide)]
  have g (j : Nat) (j1 : j = 326 ∨ j = 327) : mm_a u j = mm_a σ j := (h6 j ⟨Or.inr (by omega), by omega, by omega, by omega, by omega⟩).1
  refine ⟨s, rfl, hs, by rw [f]; exact hs2, by rw [g 327 (Or.inr rfl)]; exact p4, ?_, ?_⟩
  · rw [h5 s hs2, if_pos rfl, p5]
  · rw [g 326 (Or.inl rfl)]
    exact path_add h p6 (Nat.le_refl _)
/-- a scope further up keeps what stands before it -/
theorem path_same {σ u : mmS} {R R2 : Nat → List Nat} (f : fN u 324 = fN σ 324) (g : mm_a u 326 = mm_a σ 326 ∧ mm_a u 327 = mm_a σ 327) {c : Nat} (hR : ∀ k, k < c → k < fN σ 324 → ens u (R2 k) = ens σ (R k)) : ∀ {L : hC} {e : Int32} {b : Nat}, path σ R L e b → b ≤ c → path u R2 L e b
  | [], _, _, p, _ => p
  | x :: t, e, b, p, hb => by
    obtain ⟨k, p1, p2, p3, p4, p5, p6⟩ := p
    exact ⟨k, p1, p2, by rw [f]; exact p3, by rw [g.2]; exact p4, by rw [hR k (by omega) p3]; exact p5, by rw [g.1]; exact path_same f g hR p6 (by omega)⟩
