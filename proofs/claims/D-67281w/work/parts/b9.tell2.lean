/-! PHASE 4. tell() -/
section TEL2
variable {T : sT} {σ u : mmS} {d a : Nat} {Q : mmQ}
theorem fl_fl : fl T (fl T σ) = fl T σ := by
  unfold fl
  rw [setf_comm (σ := mm_setf σ 303 1) (k := 311) (j := 303) (by decide), setf_setf, setf_setf]
/-- may x be told behind o? -/
def nwT (o : List (Int32 × Int32 × Int32)) (x : Int32) : Bool := decide (x < 0) || !(o.any (fun y => y.1 == x))
theorem c_tell {v1 v2 v3 : Int32} {rq : List Int32} {ni : Nat} {o : List (Int32 × Int32 × Int32)} {K : mmS → Prop} {X : Nat → mmS → Prop} (hd : 6 ≤ d) (I : cI T σ) (p : prR rq ni o σ) (hn : o.length ≤ 1312) (k0 : ¬ GD σ → K σ)
    (k1 : GD σ → nwT o v1 = true → ∀ u, pgR σ u → cI T u → prR rq ni (o ++ [(v1, v3, v2)]) u → K u) (k2 : GD σ → nwT o v1 = false → ∀ u, pgR (fl T σ) u → cI T u → prR rq ni (o ++ [(v1, v3, v2)]) u → K u) :
    mm_cv (MC d) 3040 [.inr (.inr (3, a)), .inl v1, .inl v2, .inl v3] σ K X := by
  obtain ⟨d, rfl, hd⟩ := mc_pos hd
  refine mc_cv (P := mt3040) (L := 5) rfl rfl ⟨by decide, Nat.le_of_ble_eq_true rfl⟩ fun Q hK hX => b3040_0 _ _ _ _ _ _ _ _ (br_p (fun gd => ?_) (fun ng => hK _ (k0 ng)))
  have gd : GD σ := gd
  have hfl : prR rq ni o (fl T σ) := p.mono (θ := (0, 0, 0, 0)) Fr_fl
  have Ifl : cI T (fl T σ) := (I.setf rfl).setf rfl
  have go : ∀ (n q : Nat) (τ : mmS), q + n = o.length → ((τ = σ ∧ (decide (v1 < 0) || !((o.take q).any (fun y => y.1 == v1))) = true) ∨ (τ = fl T σ ∧ nwT o v1 = false)) → mm_W mt3040 (MC d) Q (11, [some (.inr (.inr (3, a))), some (.inl v1), some (.inl v2), some (.inl v3), some (.inl (nI q))], []) τ := by
    intro n
    induction n with
    | zero =>
      intro q τ hq ht
      have hx : cI T τ ∧ prR rq ni o τ := by
        rcases ht with ⟨rfl, -⟩ | ⟨rfl, -⟩
        · exact ⟨I, p⟩
        · exact ⟨Ifl, hfl⟩
      have hr : (mm_r τ 302).1 = 2 := hx.1.1.2.2.2.2.2.2.2.2.2.1.2.1
      refine b3040_11 _ _ _ _ _ _ _ _ ⟨hr, br_n (fun c => ?_) (tel_tail (by omega) hx.1 hx.2 hn (fun u q1 q2 q3 => hK _ ?_))⟩
      · rw [hx.2.2.2.1] at c
        have := (nI_lt_iff (by omega) (by omega)).mp c
        omega
      · rcases ht with ⟨rfl, h⟩ | ⟨rfl, h⟩
        · rw [List.take_of_length_le (by omega)] at h
          exact k1 gd h u q1 q2 q3
        · exact k2 gd h u q1 q2 q3
    | succ n ih =>
      intro q τ hq ht
      have hx : cI T τ ∧ prR rq ni o τ := by
        rcases ht with ⟨rfl, -⟩ | ⟨rfl, -⟩
        · exact ⟨I, p⟩
        · exact ⟨Ifl, hfl⟩
      have hr : (mm_r τ 302).1 = 2 := hx.1.1.2.2.2.2.2.2.2.2.2.1.2.1
      have hlt : q < o.length := by omega
      have p6 := hx.2.2.2.2.1
      have n9 : mm_n τ 219 < 2 ^ 31 := by have := hx.1.2.2.2.2.2.2.1.2.2.2.2.2.2.2.2.2; omega
      have tk : (o.take (q + 1)).any (fun y => y.1 == v1) = ((o.take q).any (fun y => y.1 == v1) || o[q].1 == v1) := by
        rw [List.take_add_one, List.any_append, List.getElem?_eq_getElem hlt]
        simp
      refine b3040_11 _ _ _ _ _ _ _ _ ⟨hr, br_y (by rw [hx.2.2.2.1]; exact (nI_lt_iff (by omega) (by omega)).mpr hlt) (br_p (fun c => ?_) (fun c => ⟨hr, ?_⟩))⟩
      · rw [nI_1]
        refine ih (q + 1) τ (by omega) (ht.imp (fun h => ⟨h.1, by rw [decide_eq_true c]; rfl⟩) id)
      · rw [nI_4]
        refine rd (σ := τ) (n := mm_n τ 219) rfl (by omega) n9 ?_
        rw [(hx.2.2.2.2.2 q hlt).1]
        refine br_p (fun c2 => ?_) (fun c2 => ?_)
        · have hnw : nwT o v1 = false := by
            unfold nwT
            rw [decide_eq_false c, List.any_eq_true.mpr ⟨o[q], List.getElem_mem _, by rw [c2]; exact beq_self_eq_true _⟩]
            rfl
          refine c_fail (by omega) hx.1.1 ⟨rfl, ?_⟩
          rw [nI_1]
          refine ih (q + 1) _ (by omega) (Or.inr ⟨?_, hnw⟩)
          rcases ht with ⟨rfl, -⟩ | ⟨rfl, -⟩
          · rfl
          · exact fl_fl
        · rw [nI_1]
          refine ih (q + 1) τ (by omega) (ht.imp (fun h => ⟨h.1, ?_⟩) id)
          rw [tk, beq_eq_false_iff_ne.mpr c2, Bool.or_false]
          exact h.2
  rw [show (0 : Int32) = nI 0 from nI_0.symm]
  exact go o.length 0 σ (by omega) (Or.inl ⟨rfl, by simp⟩)
end TEL2
