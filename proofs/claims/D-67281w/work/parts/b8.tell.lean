/-! PHASE 4. tell(): its last part -/
section TEL
variable {T : sT} {σ u : mmS} {d a : Nat} {Q : mmQ}
theorem tel_tail {v1 v2 v3 v4 : Int32} {rq : List Int32} {ni : Nat} {o : List (Int32 × Int32 × Int32)} (hd : 4 ≤ d) (I : cI T σ) (p : prR rq ni o σ) (hn : o.length ≤ 1312) (k : ∀ u, pgR σ u → cI T u → prR rq ni (o ++ [(v1, v3, v2)]) u → Q (.inl none) u) :
    (mm_r σ 302).1 = 2 ∧ (mm_r σ 302).1 = 2 ∧ (mm_r σ 302).1 = 2 ∧ (mm_r σ 302).1 = 2 ∧ mm_R (MC d) Q 2006 [.inr (.inr (2, (mm_r σ 302).2)), .inr (.inr (219, mm_v σ 219)), .inl ((4 * (mm_f σ 220)) + 4)] σ (fun k5 q6 σ4 => mm_pa σ4 219 90 k5 q6 (fun σ7 => (mm_r σ7 302).1 = 2 ∧ (mm_r σ7 302).1 = 2 ∧ mm_S σ7 219 (4 * (mm_f σ7 220)) v1 (fun σ8 => mm_W mt3040 (MC d) Q (104, [some (.inr (.inr (3, a))), some (.inl v1), some (.inl v2), some (.inl v3), some (.inl v4)], []) σ8))) := by
  obtain ⟨⟨p1, p2, p3⟩, ⟨p4, p4b⟩, p5, p6, p7⟩ := id p
  have lb := lnB.use I
  have hr : (mm_r σ 302).1 = 2 := I.1.2.2.2.2.2.2.2.2.2.1.2.1
  have l0 := I.2.2.2.2.2.2
  obtain ⟨-, -, -, -, -, -, ⟨b1, b2, b3⟩, b4, b5, b6⟩ := l0.1
  generalize hln : o.length = n at hn p5 p6
  refine ⟨hr, hr, hr, hr, ?_⟩
  rw [p5, nI_4, show nI (4 * n) + 4 = nI (4 * n + 4) from nI_add _ 4]
  refine c_grown (by omega) (Or.inr (Or.inr rfl)) b3 (by omega) (by omega) (by omega) (by omega) (fun u2 g2 => ?_)
  have pg := pgR.gwn (Or.inr (Or.inr rfl)) g2
  have I2 : cI T u2 := I.pg pg (lnB.gwn l0 (Or.inr (Or.inr ⟨rfl, by omega⟩)) g2)
  have hr2 : (mm_r u2 302).1 = 2 := by rw [pg.2.1.1]; exact hr
  obtain ⟨f1, f2, f3, f4⟩ := gwn_f g2 (by omega)
  have n2 : mm_n u2 219 < 2 ^ 31 := by have := I2.2.2.2.2.2.2.1.2.2.2.2.2.2.2.2.2; omega
  have s5 : sam σ u2 215 ∧ sam σ u2 217 := by
    rcases g2 with ⟨rfl, -⟩ | ⟨-, -, -, -, -, g5, -⟩
    · exact ⟨sam.rfl', sam.rfl'⟩
    · exact ⟨g5 215 (by decide) (Or.inr (by decide)), g5 217 (by decide) (Or.inr (by decide))⟩
  refine ⟨hr2, hr2, ?_⟩
  rw [f1, p5, nI_4]
  refine wr rfl (by omega) n2 (b3040_104 _ _ _ _ _ _ _ _ ⟨hr2, hr2, ?_⟩)
  rw [show mm_f (mm_seta u2 219 (4 * n) v1) 220 = nI n by show mm_f u2 220 = _; rw [f1, p5], nI_4, show nI (4 * n) + 1 = nI (4 * n + 1) from nI_add _ 1]
  refine wr (σ := mm_seta u2 219 (4 * n) v1) (n := mm_n u2 219) rfl (by omega) n2 ⟨hr2, hr2, ?_⟩
  rw [show mm_f (mm_seta (mm_seta u2 219 (4 * n) v1) 219 (4 * n + 1) v3) 220 = nI n by show mm_f u2 220 = _; rw [f1, p5], nI_4, show nI (4 * n) + 2 = nI (4 * n + 2) from nI_add _ 2]
  refine wr (σ := mm_seta (mm_seta u2 219 (4 * n) v1) 219 (4 * n + 1) v3) (n := mm_n u2 219) rfl (by omega) n2 ⟨hr2, hr2, ?_⟩
  rw [show mm_f (mm_seta (mm_seta (mm_seta u2 219 (4 * n) v1) 219 (4 * n + 1) v3) 219 (4 * n + 2) v2) 220 = nI n by show mm_f u2 220 = _; rw [f1, p5], nI_4, show nI (4 * n) + 3 = nI (4 * n + 3) from nI_add _ 3]
  refine wr (σ := mm_seta (mm_seta (mm_seta u2 219 (4 * n) v1) 219 (4 * n + 1) v3) 219 (4 * n + 2) v2) (n := mm_n u2 219) rfl (by omega) n2 (b3040_164 _ _ _ _ _ _ _ _ ⟨hr2, ?_⟩)
  generalize hw : mm_seta (mm_seta (mm_seta (mm_seta u2 219 (4 * n) v1) 219 (4 * n + 1) v3) 219 (4 * n + 2) v2) 219 (4 * n + 3) (-1) = w
  have ef : mm_f w = mm_f σ := by rw [← hw]; exact f1
  have en : mm_n w = mm_n u2 := by rw [← hw]; rfl
  have ea : ∀ s, s ≠ 219 → mm_a w s = mm_a u2 s := fun s hs => by rw [← hw]; exact (a_seta_n hs).trans ((a_seta_n hs).trans ((a_seta_n hs).trans (a_seta_n hs)))
  have eo : ∀ i, i < 4 * n → mm_a w 219 i = mm_a u2 219 i := fun i hi => by rw [← hw, a_seta_i (by omega), a_seta_i (by omega), a_seta_i (by omega), a_seta_i (by omega)]
  have e0 : mm_a w 219 (4 * n) = v1 := by rw [← hw, a_seta_i (by omega), a_seta_i (by omega), a_seta_i (by omega), a_seta_s]
  have e1 : mm_a w 219 (4 * n + 1) = v3 := by rw [← hw, a_seta_i (by omega), a_seta_i (by omega), a_seta_s]
  have e2 : mm_a w 219 (4 * n + 2) = v2 := by rw [← hw, a_seta_i (by omega), a_seta_s]
  have pw : pgR u2 w := by rw [← hw]; exact (((pgR.seta (s := 219) rfl).trans (pgR.seta (s := 219) rfl)).trans (pgR.seta (s := 219) rfl)).trans (pgR.seta (s := 219) rfl)
  have Iw : cI T w := by rw [← hw]; exact (((I2.seta rfl).seta rfl).seta rfl).seta rfl
  refine k _ ((pg.trans pw).trans (pgR.setf (by decide))) (Iw.setf rfl) ?_
  have ef2 : ∀ j, j ≠ 220 → mm_f (mm_setf w 220 (mm_f w 220 + 1)) j = mm_f σ j := fun j hj => by rw [f_other hj, ef]
  have el : (o ++ [(v1, v3, v2)]).length = n + 1 := by simp [hln]
  refine ⟨⟨(ef2 216 (by decide)).trans p1, ?_, fun j hj => ?_⟩, ⟨(ef2 218 (by decide)).trans p4, ?_⟩, ?_, ?_, fun j hj => ?_⟩
  · show rq.length ≤ mm_n w 215
    rw [en, s5.1.2.1]; exact p2
  · show mm_a w 215 j = _
    rw [ea 215 (by decide), s5.1.1]; exact p3 j hj
  · show 3 * ni ≤ mm_n w 217
    rw [en, s5.2.2.1]; exact p4b
  · rw [el, f_same, ef, p5, nI_1]
  · rw [el]
    show 4 * (n + 1) ≤ mm_n w 219
    rw [en]
    omega
  · show mm_a w 219 (4 * j) = _ ∧ mm_a w 219 (4 * j + 1) = _ ∧ mm_a w 219 (4 * j + 2) = _
    rw [el] at hj
    by_cases c : j = n
    · subst c
      rw [e0, e1, e2]
      have : (o ++ [(v1, v3, v2)])[j]'(by rw [el]; omega) = (v1, v3, v2) := List.getElem_concat_length hln.symm _
      rw [this]
      exact ⟨rfl, rfl, rfl⟩
    · have hj2 : j < o.length := by omega
      rw [List.getElem_append_left hj2, eo _ (by omega), eo _ (by omega), eo _ (by omega), f4 _ (by omega), f4 _ (by omega), f4 _ (by omega)]
      exact p7 j hj2
end TEL
