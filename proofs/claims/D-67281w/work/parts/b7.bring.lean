/-! PHASE 4. bring() and tell(): the program's side -/
theorem nI_3 {n : Nat} : 3 * nI n = nI (3 * n) := (Int32.ofNat_mul 3 n).symm
theorem nI_4 {n : Nat} : 4 * nI n = nI (4 * n) := (Int32.ofNat_mul 4 n).symm
section BRG
variable {T : sT} {σ u : mmS} {d a : Nat} {Q : mmQ}
theorem brg_tail {v1 v2 : Int32} {rq : List Int32} {ni : Nat} {o : List (Int32 × Int32 × Int32)} (hd : 4 ≤ d) (I : cI T σ) (p : prR rq ni o σ) (hn : ni ≤ 1312) (k : ∀ u, pgR σ u → cI T u → prR rq (ni + 1) o u → Q (.inl none) u) :
    (mm_r σ 302).1 = 2 ∧ (mm_r σ 302).1 = 2 ∧ (mm_r σ 302).1 = 2 ∧ (mm_r σ 302).1 = 2 ∧ mm_R (MC d) Q 2006 [.inr (.inr (2, (mm_r σ 302).2)), .inr (.inr (217, mm_v σ 217)), .inl ((3 * (mm_f σ 218)) + 3)] σ (fun k3 q4 σ2 => mm_pa σ2 217 90 k3 q4 (fun σ5 => (mm_r σ5 302).1 = 2 ∧ (mm_r σ5 302).1 = 2 ∧ mm_S σ5 217 (3 * (mm_f σ5 218)) (-1) (fun σ6 => mm_W mt3028 (MC d) Q (65, [some (.inr (.inr (3, a))), some (.inl v1), some (.inl v2)], []) σ6))) := by
  obtain ⟨⟨p1, p2, p3⟩, ⟨p4, p4b⟩, p5, p6, p7⟩ := id p
  have lb := lnB.use I
  have hr : (mm_r σ 302).1 = 2 := I.1.2.2.2.2.2.2.2.2.2.1.2.1
  have l0 := I.2.2.2.2.2.2
  obtain ⟨-, -, -, -, -, -, ⟨b1, b2, b3⟩, b4, b5, b6⟩ := l0.1
  refine ⟨hr, hr, hr, hr, ?_⟩
  rw [p4, nI_3, show nI (3 * ni) + 3 = nI (3 * ni + 3) from nI_add _ 3]
  refine c_grown (by omega) (Or.inr (Or.inl rfl)) b2 (by omega) (by omega) (by omega) (by omega) (fun u2 g2 => ?_)
  have pg := pgR.gwn (Or.inr (Or.inl rfl)) g2
  have I2 : cI T u2 := I.pg pg (lnB.gwn l0 (Or.inr (Or.inl ⟨rfl, by omega⟩)) g2)
  have hr2 : (mm_r u2 302).1 = 2 := by rw [pg.2.1.1]; exact hr
  obtain ⟨f1, f2, f3, f4⟩ := gwn_f g2 (by omega)
  have n2 : mm_n u2 217 < 2 ^ 31 := by have := I2.2.2.2.2.2.2.1.2.2.2.2.2.2.2.2.1; omega
  have s5 : sam σ u2 215 ∧ sam σ u2 219 := by
    rcases g2 with ⟨rfl, -⟩ | ⟨-, -, -, -, -, g5, -⟩
    · exact ⟨sam.rfl', sam.rfl'⟩
    · exact ⟨g5 215 (by decide) (Or.inr (by decide)), g5 219 (by decide) (Or.inr (by decide))⟩
  refine ⟨hr2, hr2, ?_⟩
  rw [f1, p4, nI_3]
  refine wr rfl (by omega) n2 (b3028_65 _ _ _ _ _ _ ⟨hr2, hr2, ?_⟩)
  rw [show mm_f (mm_seta u2 217 (3 * ni) (-1)) 218 = nI ni by show mm_f u2 218 = _; rw [f1, p4], nI_3, show nI (3 * ni) + 1 = nI (3 * ni + 1) from nI_add _ 1]
  refine wr (σ := mm_seta u2 217 (3 * ni) (-1)) (n := mm_n u2 217) rfl (by omega) n2 ⟨hr2, hr2, ?_⟩
  rw [show mm_f (mm_seta (mm_seta u2 217 (3 * ni) (-1)) 217 (3 * ni + 1) v1) 218 = nI ni by show mm_f u2 218 = _; rw [f1, p4], nI_3, show nI (3 * ni) + 2 = nI (3 * ni + 2) from nI_add _ 2]
  refine wr (σ := mm_seta (mm_seta u2 217 (3 * ni) (-1)) 217 (3 * ni + 1) v1) (n := mm_n u2 217) rfl (by omega) n2 ⟨hr2, ?_⟩
  generalize mm_f (mm_seta (mm_seta u2 217 (3 * ni) (-1)) 217 (3 * ni + 1) v1) 325 - 1 = z
  have ef : mm_f (mm_seta (mm_seta (mm_seta u2 217 (3 * ni) (-1)) 217 (3 * ni + 1) v1) 217 (3 * ni + 2) z) = mm_f σ := f1
  have ea : ∀ s, s ≠ 217 → mm_a (mm_seta (mm_seta (mm_seta u2 217 (3 * ni) (-1)) 217 (3 * ni + 1) v1) 217 (3 * ni + 2) z) s = mm_a u2 s := fun s hs => (a_seta_n hs).trans ((a_seta_n hs).trans (a_seta_n hs))
  refine k _ (pg.trans ((((pgR.seta (s := 217) rfl).trans (pgR.seta (s := 217) rfl)).trans (pgR.seta (s := 217) rfl)).trans (pgR.setf (by decide)))) ((((I2.seta rfl).seta rfl).seta rfl).setf rfl) ?_
  have e16 : mm_f (mm_setf (mm_seta (mm_seta (mm_seta u2 217 (3 * ni) (-1)) 217 (3 * ni + 1) v1) 217 (3 * ni + 2) z) 218 (mm_f (mm_seta (mm_seta (mm_seta u2 217 (3 * ni) (-1)) 217 (3 * ni + 1) v1) 217 (3 * ni + 2) z) 218 + 1)) 218 = nI (ni + 1) := by
    rw [f_same, ef, p4, nI_1]
  have ef2 : ∀ j, j ≠ 218 → mm_f (mm_setf (mm_seta (mm_seta (mm_seta u2 217 (3 * ni) (-1)) 217 (3 * ni + 1) v1) 217 (3 * ni + 2) z) 218 (mm_f (mm_seta (mm_seta (mm_seta u2 217 (3 * ni) (-1)) 217 (3 * ni + 1) v1) 217 (3 * ni + 2) z) 218 + 1)) j = mm_f σ j := fun j hj => by rw [f_other hj, ef]
  refine ⟨⟨(ef2 216 (by decide)).trans p1, ?_, fun j hj => ?_⟩, ⟨e16, ?_⟩, (ef2 220 (by decide)).trans p5, ?_, fun j hj => ?_⟩
  · show rq.length ≤ mm_n u2 215
    rw [s5.1.2.1]; exact p2
  · show mm_a (mm_seta (mm_seta (mm_seta u2 217 (3 * ni) (-1)) 217 (3 * ni + 1) v1) 217 (3 * ni + 2) z) 215 j = _
    rw [ea 215 (by decide), s5.1.1]; exact p3 j hj
  · show 3 * (ni + 1) ≤ mm_n u2 217
    omega
  · show 4 * o.length ≤ mm_n u2 219
    rw [s5.2.2.1]; exact p6
  · have e9 : mm_a (mm_setf (mm_seta (mm_seta (mm_seta u2 217 (3 * ni) (-1)) 217 (3 * ni + 1) v1) 217 (3 * ni + 2) z) 218 (mm_f (mm_seta (mm_seta (mm_seta u2 217 (3 * ni) (-1)) 217 (3 * ni + 1) v1) 217 (3 * ni + 2) z) 218 + 1)) 219 = mm_a σ 219 := (ea 219 (by decide)).trans s5.2.1
    rw [e9]
    exact p7 j hj
end BRG
