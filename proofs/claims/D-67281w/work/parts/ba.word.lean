/-! PHASE 4. word() -/
section WORD
variable {β : Type} {T : sT} {Sh : β → Nat → Int32 → mmS → Prop} {N : Int32 → mmS → Prop} {g : Nat} {w0 : cW} {m0 e0 : Nat} {θ : cTh} {l0 : Nat} {Z : Int32 → mmS → Prop} {b : Bool} {h : Nat} {w : cW} {A : cA} {m e : Nat} {σ u : mmS} {i : Nat}
variable {d a : Nat} {Q : mmQ}
/-- word(), as a rule -/
theorem St.wordAt {f : Int32 → Nat → sR β} {C : Int32 → mmS → Prop} (st : St T Sh N g w0 m0 e0 θ l0 Z b h w A m e (s_b (s_word T i) f) σ i) (hd : 2 ≤ d) (k : ∀ x u, St T Sh N g w0 m0 e0 θ l0 Z true h w A (m + 12) (e + 1) (f x (i + 1)) u (i + 1) → Fr (th σ) σ u → (GD u → x = t_v T i ∧ T.1 i = 1) → C x u) : mm_I (MC d) Q 3037 [.inr (.inr (3, a))] σ C := by
  obtain ⟨d, rfl, hd⟩ := mc_pos hd
  refine mc_ci (P := mt3037) (L := 1) rfl rfl ⟨by decide, Nat.le_of_ble_eq_true rfl⟩ fun Q2 hK hX => b3037_0 _ _ _ _ (st.rdk (fun x1 h1 nz => br_p (fun c => ?_) (fun c => ?_)))
  · have st1 := (st.advE (nz (by rw [c]; decide))).rw (r' := f (t_v T i) (i + 1)) (fun gd => by
      have gd : GD σ := gd
      unfold s_word t_kd
      rw [h1 gd, c]
      exact s_b_r)
    obtain ⟨q, q1, q2, q3⟩ := st.p
    have e1 : mm_f (mm_setf σ 311 (mm_f σ 311 + 1)) 311 - 1 = nI q := by rw [f_same, q1, nI_1, nI_pred]
    rw [e1]
    refine st1.ci.1.v (by omega) (hK _ _ (k _ _ ((st1.rw fun gd => ?_).tt) Fr_adv (fun gd => ?_)))
    · have gd : GD σ := gd
      rw [q3 gd]
    · have gd : GD σ := gd
      rw [q3 gd]
      exact ⟨rfl, (h1 gd).trans c⟩
  · exact st.fail (by omega) (fun gd => by
      unfold s_word t_kd
      rw [h1 gd, beq_eq_false_iff_ne.mpr c]; rfl) (fun u5 ng st5 hf5 => hK _ _ (k _ _ (St.bd (β' := Unit) st5 ng Fr.rfl' id).tt hf5 (fun gd => absurd gd ng)))
end WORD
