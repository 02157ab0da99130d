/-! PHASE 4. The program's rows: requests, what is brought, what is told -/
def prR (rq : List Int32) (ni : Nat) (o : List (Int32 × Int32 × Int32)) (σ : mmS) : Prop := (mm_f σ 216 = nI rq.length ∧ rq.length ≤ mm_n σ 215 ∧ ∀ k, (h : k < rq.length) → mm_a σ 215 k = rq[k]) ∧ (mm_f σ 218 = nI ni ∧ 3 * ni ≤ mm_n σ 217) ∧
  mm_f σ 220 = nI o.length ∧ 4 * o.length ≤ mm_n σ 219 ∧ ∀ k, (h : k < o.length) → mm_a σ 219 (4 * k) = (o[k]).1 ∧ mm_a σ 219 (4 * k + 1) = (o[k]).2.1 ∧ mm_a σ 219 (4 * k + 2) = (o[k]).2.2
/-- the reader leaves them alone -/
theorem prR.mono {rq : List Int32} {ni : Nat} {o : List (Int32 × Int32 × Int32)} {σ u : mmS} {θ : cTh} (h : prR rq ni o σ) (f : Fr θ σ u) : prR rq ni o u := by
  obtain ⟨⟨h1, h2, h3⟩, ⟨h4, h5⟩, h6, h7, h8⟩ := h
  have ff (k : Nat) (hk : cmf k = false) : mm_f u k = mm_f σ k := f.2.1 k hk
  have fs (k : Nat) (hk : cms k = false) (hl : lst k) : sam σ u k := f.2.2.2.1 k hl hk
  have s5 := fs 215 rfl (Or.inr (by decide))
  have s7 := fs 217 rfl (Or.inr (by decide))
  have s9 := fs 219 rfl (Or.inr (by decide))
  refine ⟨⟨(ff 216 rfl).trans h1, by rw [s5.2.1]; exact h2, fun k hk => by rw [s5.1]; exact h3 k hk⟩, ⟨(ff 218 rfl).trans h4, by rw [s7.2.1]; exact h5⟩, (ff 220 rfl).trans h6, by rw [s9.2.1]; exact h7, fun k hk => by rw [s9.1]; exact h8 k hk⟩
theorem mc_cr_mono {d y : Nat} {as : List mmV} {σ : mmS} {K K' : Nat → Nat → mmS → Prop} {X X' : Nat → mmS → Prop} (h : mm_cr (MC d) y as σ K X) (hK : ∀ k q u, K k q u → K' k q u) (hX : ∀ e u, X e u → X' e u) : mm_cr (MC d) y as σ K' X' :=
  mm_call_mono h (fun o u ho => by
    rcases o with (_ | (x | (l | ⟨k, q⟩))) | e
    · exact ho
    · exact ho
    · exact ho
    · exact hK k q u ho
    · exact hX e u ho)
section PROG
variable {T : sT} {σ u : mmS} {d : Nat} {X : Nat → mmS → Prop} {V : mmS → Prop}
/-- a row of the program, with room for n -/
def gwn (σ : mmS) (k n : Nat) (u : mmS) : Prop := (u = σ ∧ n ≤ mm_n σ k) ∨ (mm_n σ k < n ∧ Gr σ k (2 * mm_n σ k) u)
theorem c_grown {a2 k n : Nat} (hd : 3 ≤ d) (hk : k = 215 ∨ k = 217 ∨ k = 219) (h0 : 16 ≤ mm_n σ k) (hn : n ≤ 2 * mm_n σ k) (hN : mm_n σ k ≤ 10600) (hc : 1 ≤ mm_bc σ) (hs : 21200 ≤ mm_bs σ) (h : ∀ u, gwn σ k n u → V u) :
    mm_cr (MC d) 2006 [.inr (.inr (2, a2)), .inr (.inr (k, mm_v σ k)), .inl (nI n)] σ (fun k2 q2 u => mm_pa u k 90 k2 q2 V) X := by
  obtain ⟨d, rfl, hd⟩ := mc_pos hd
  have kd : mm_kd k = 0 := by rcases hk with rfl | rfl | rfl <;> rfl
  refine mc_cr (P := mt2006) (L := 3) rfl rfl ⟨by decide, Nat.le_of_ble_eq_true rfl⟩ fun Q hK hX => b2006_0 _ _ _ _ _ _ _ ?_
  refine bif_t (by rw [kd]; rfl) ⟨rfl, Or.inl (by omega), br_p (fun c => ?_) (fun c => ?_)⟩
  · have c : mm_n σ k < n := (nI_lt_iff (by omega) (by omega)).mp c
    refine bif_t (by rw [kd]; rfl) ⟨rfl, Or.inl (by omega), ?_⟩
    rw [show (2 : Int32) * (Int32.ofNat (mm_n σ k)) = nI (2 * mm_n σ k) from nI_dbl _]
    exact mc_cr_mono (c_grow (X := fun _ _ => False) (by omega) kd (by omega) (by omega) (by omega) (by omega) hc (by omega) (fun u g => h u (Or.inr ⟨c, g⟩))) (fun k2 q2 u hp => hK _ _ _ hp) (fun _ _ z => z.elim)
  · have c2 : n ≤ mm_n σ k := by
      rcases Nat.lt_or_ge (mm_n σ k) n with z | z
      · exact absurd ((nI_lt_iff (by omega) (by omega)).mpr z) c
      · exact z
    exact hK _ _ _ (Or.inr ⟨rfl, rfl, by omega, h σ (Or.inl ⟨rfl, c2⟩)⟩)
theorem gwn_f {k n : Nat} (g : gwn σ k n u) (h2 : n ≤ 2 * mm_n σ k) : mm_f u = mm_f σ ∧ n ≤ mm_n u k ∧ mm_n σ k ≤ mm_n u k ∧ ∀ i, i < mm_n σ k → mm_a u k i = mm_a σ k i := by
  rcases g with ⟨rfl, g⟩ | ⟨g0, g1, g2, g3, g4, -⟩
  · exact ⟨rfl, g, Nat.le_refl _, fun _ _ => rfl⟩
  · exact ⟨g1, by omega, by omega, g3⟩
end PROG
