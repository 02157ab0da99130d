/-! PHASE 4. request(): a text is asked for once -/
section REQ
variable {T : sT} {σ u : mmS} {d a : Nat} {Q : mmQ}
theorem s_rq1_l {l : List Int32} {x : Int32} : (s_rq1 l x).length ≤ l.length + 1 := by
  unfold s_rq1
  cases l.any (fun y => y == x) with
  | true => exact Nat.le_succ _
  | false => rw [cond_false, List.length_append]; exact Nat.le_refl _
/-- what is brought and told stays while the row of requests grows -/
theorem prR.mono2 {rq : List Int32} {ni n : Nat} {o : List (Int32 × Int32 × Int32)} (h : prR rq ni o σ) (g : gwn σ 215 n u) : (mm_f u 218 = nI ni ∧ 3 * ni ≤ mm_n u 217) ∧ mm_f u 220 = nI o.length ∧ 4 * o.length ≤ mm_n u 219 ∧ ∀ k, (h : k < o.length) → mm_a u 219 (4 * k) = (o[k]).1 ∧ mm_a u 219 (4 * k + 1) = (o[k]).2.1 ∧ mm_a u 219 (4 * k + 2) = (o[k]).2.2 := by
  obtain ⟨-, ⟨h4, h5⟩, h6, h7, h8⟩ := h
  rcases g with ⟨rfl, -⟩ | ⟨-, g1, -, -, -, g5, -⟩
  · exact ⟨⟨h4, h5⟩, h6, h7, h8⟩
  · have s7 := g5 217 (by decide) (Or.inr (by decide))
    have s9 := g5 219 (by decide) (Or.inr (by decide))
    exact ⟨⟨by rw [g1]; exact h4, by rw [s7.2.1]; exact h5⟩, by rw [g1]; exact h6, by rw [s9.2.1]; exact h7, fun k hk => by rw [s9.1]; exact h8 k hk⟩
theorem c_request {v1 : Int32} {rq : List Int32} {ni : Nat} {o : List (Int32 × Int32 × Int32)} {K : Int32 → mmS → Prop} {X : Nat → mmS → Prop} (hd : 5 ≤ d) (I : cI T σ) (p : prR rq ni o σ) (hb : rq.length ≤ 1312) (k : ∀ n u, pgR σ u → cI T u → prR (s_rq1 rq v1) ni o u → (∃ j, n = nI j ∧ j < 2 ^ 31) → K n u) :
    mm_ci (MC d) 3020 [.inr (.inr (3, a)), .inl v1] σ K X := by
  obtain ⟨d, rfl, hd⟩ := mc_pos hd
  obtain ⟨⟨p1, p2, p3⟩, p4, p5, p6, p7⟩ := id p
  have lb := lnB.use I
  have hr : (mm_r σ 302).1 = 2 := I.1.2.2.2.2.2.2.2.2.2.1.2.1
  have l0 := I.2.2.2.2.2.2
  obtain ⟨-, -, -, -, -, -, ⟨b1, b2, b3⟩, b4, b5, b6⟩ := l0.1
  refine mc_ci (P := mt3020) (L := 3) rfl rfl ⟨by decide, Nat.le_of_ble_eq_true rfl⟩ fun Q hK hX => b3020_0 _ _ _ _ _ _ ?_
  have go : ∀ (n q : Nat), q + n = rq.length → (rq.take q).any (fun y => y == v1) = false → mm_W mt3020 (MC d) Q (2, [some (.inr (.inr (3, a))), some (.inl v1), some (.inl (nI q))], []) σ := by
    intro n
    induction n with
    | zero =>
      intro q hq ht
      have hno : rq.any (fun y => y == v1) = false := by
        rw [List.take_of_length_le (by omega)] at ht
        exact ht
      refine b3020_2 _ _ _ _ _ _ ⟨hr, br_n (fun c => ?_) ⟨hr, hr, hr, hr, ?_⟩⟩
      · rw [p1] at c
        have := (nI_lt_iff (by omega) (by omega)).mp c
        omega
      · rw [p1, nI_1]
        refine c_grown (by omega) (Or.inl rfl) b1 (by omega) (by omega) (by omega) (by omega) (fun u2 g2 => ?_)
        have pg := pgR.gwn (Or.inl rfl) g2
        have I2 : cI T u2 := I.pg pg (lnB.gwn l0 (Or.inl ⟨rfl, by omega⟩) g2)
        have hr2 : (mm_r u2 302).1 = 2 := by rw [pg.2.1.1]; exact hr
        obtain ⟨f1, f2, f3, f4⟩ := gwn_f g2 (by omega)
        have n2 : mm_n u2 215 < 2 ^ 31 := by have := I2.2.2.2.2.2.2.1.2.2.2.2.2.2.2.1; omega
        refine ⟨hr2, hr2, ?_⟩
        rw [f1, p1]
        refine wr rfl (by omega) n2 ⟨hr2, hr2, hK _ _ (k _ _ ((pg.trans (pgR.seta (s := 215) (k := rq.length) (x := v1) rfl)).trans (pgR.setf (k := 216) (x := mm_f (mm_seta u2 215 rq.length v1) 216 + 1) (by decide))) ((I2.seta rfl).setf rfl) ?_ ⟨rq.length, ?_, by omega⟩)⟩
        · have e16 : mm_f (mm_setf (mm_seta u2 215 rq.length v1) 216 (mm_f (mm_seta u2 215 rq.length v1) 216 + 1)) 216 = nI (rq.length + 1) := by
            rw [f_same]
            show mm_f u2 216 + 1 = _
            rw [f1, p1, nI_1]
          have es : s_rq1 rq v1 = rq ++ [v1] := by
            unfold s_rq1
            rw [hno]; rfl
          have el : (rq ++ [v1]).length = rq.length + 1 := by simp
          have p2' := p.mono2 g2
          rw [es]
          refine ⟨⟨by rw [e16, el], by rw [el]; show rq.length + 1 ≤ mm_n u2 215; exact f2, fun j hj => ?_⟩, ?_⟩
          · rw [el] at hj
            show mm_a (mm_seta u2 215 rq.length v1) 215 j = _
            by_cases c : j = rq.length
            · subst c
              rw [a_seta_s]
              simp
            · rw [a_seta_i c, f4 j (by omega), List.getElem_append_left (by omega)]
              exact p3 j (by omega)
          · have q5 : mm_f (mm_setf (mm_seta u2 215 rq.length v1) 216 (mm_f (mm_seta u2 215 rq.length v1) 216 + 1)) 218 = mm_f u2 218 := f_other (by decide)
            have q6 : mm_f (mm_setf (mm_seta u2 215 rq.length v1) 216 (mm_f (mm_seta u2 215 rq.length v1) 216 + 1)) 220 = mm_f u2 220 := f_other (by decide)
            rw [q5, q6]
            exact p2'
        · rw [f_same]
          show mm_f u2 216 + 1 - 1 = _
          rw [f1, p1, nI_1, nI_pred]
    | succ n ih =>
      intro q hq ht
      have hlt : q < rq.length := by omega
      refine b3020_2 _ _ _ _ _ _ ⟨hr, br_y (by rw [p1]; exact (nI_lt_iff (by omega) (by omega)).mpr hlt) ⟨hr, rd rfl (by omega) (by omega) ?_⟩⟩
      rw [p3 q hlt]
      refine br_p (fun c => ?_) (fun c => ?_)
      · refine hK _ _ (k _ _ pgR.rfl' I ?_ ⟨q, rfl, by omega⟩)
        have : s_rq1 rq v1 = rq := by
          unfold s_rq1
          rw [List.any_eq_true.mpr ⟨rq[q], List.getElem_mem _, by rw [c]; exact beq_self_eq_true _⟩]
          rfl
        rw [this]
        exact p
      · rw [nI_1]
        refine ih (q + 1) (by omega) ?_
        rw [List.take_add_one, List.any_append, ht, List.getElem?_eq_getElem hlt]
        simp [c]
  rw [show (0 : Int32) = nI 0 from nI_0.symm]
  exact go rq.length 0 (by omega) (by simp)
end REQ
