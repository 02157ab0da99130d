/-! PHASE 3. Patterns: what tellAll will find; named() -/
/-- a number, none if it is below nothing -/
def tN (x : Int32) : Nat := if x < 0 then 2 ^ 31 else x.toNatClampNeg
theorem nI_nn {x : Int32} (h : ¬ x < 0) : x = nI x.toNatClampNeg ∧ x.toNatClampNeg < 2 ^ 31 := ⟨(Int32.ofNat_toNatClampNeg x (Int32.not_lt.mp h)).symm, Int32.toNatClampNeg_lt x⟩
theorem tN_nI {k : Nat} (h : k < 2 ^ 31) : tN (nI k) = k := by
  unfold tN
  rw [if_neg (nI_pos (by omega)), nI_clamp h]
theorem tN_back {x : Int32} (h : tN x < 2 ^ 31) : x = nI (tN x) := by
  unfold tN at h ⊢
  by_cases c : x < 0
  · rw [if_pos c] at h; omega
  · rw [if_neg c] at h ⊢
    exact (Int32.ofNat_toNatClampNeg x (Int32.not_lt.mp c)).symm
/-- the names under a node (false) or a row of nodes (true), within the rows [lo, hi) -/
def tlR (u : mmS) (lo hi : Nat) : Nat → Nat → Bool → Nat → Option (List Int32)
  | _, 0, _, _ => none
  | D, f + 1, false, x => if lo ≤ x ∧ x < hi then (if mm_a u 316 x = 4 then some [mm_a u 317 x] else if mm_a u 316 x = 52 ∨ mm_a u 316 x = 53 then (if D = 0 then none else tlR u lo hi (D - 1) f false (tN (mm_a u 317 x))) else if mm_a u 316 x = 50 ∨ mm_a u 316 x = 51 then (if D = 0 then none else tlR u lo hi (D - 1) f true (tN (mm_a u 317 x))) else some []) else none
  | D, f + 1, true, x => if x = 0 then some [] else match tlR u lo hi D f false x with
    | none => none
    | some l => match tlR u lo hi D f true (tN (mm_a u 322 x)) with
      | none => none
      | some l2 => some (l ++ l2)
theorem tlR_same {u v : mmS} {lo hi lo' hi' : Nat} (h1 : lo' ≤ lo) (h2 : hi ≤ hi') (hr : ∀ s, 316 ≤ s → s ≤ 323 → ∀ j, lo ≤ j → j < hi → mm_a v s j = mm_a u s j) : ∀ (D D' f f' : Nat) (b : Bool) (x : Nat) (l : List Int32), D ≤ D' → f ≤ f' → tlR u lo hi D f b x = some l → tlR v lo' hi' D' f' b x = some l
  | _, _, 0, _, _, _, _, _, _, h => nomatch h
  | _, _, f + 1, 0, _, _, _, _, hf, _ => absurd hf (by omega)
  | D, D', f + 1, f' + 1, false, x, l, hD, hf, h => by
    rw [tlR] at h ⊢
    by_cases c : lo ≤ x ∧ x < hi
    · rw [if_pos c] at h
      rw [if_pos ⟨by omega, by omega⟩, hr 316 (by decide) (by decide) x c.1 c.2, hr 317 (by decide) (by decide) x c.1 c.2]
      by_cases c4 : mm_a u 316 x = 4
      · rw [if_pos c4] at h ⊢; exact h
      · rw [if_neg c4] at h ⊢
        by_cases c5 : mm_a u 316 x = 52 ∨ mm_a u 316 x = 53
        · rw [if_pos c5] at h ⊢
          by_cases cD : D = 0
          · rw [if_pos cD] at h; exact nomatch h
          · rw [if_neg cD] at h
            rw [if_neg (by omega)]
            exact tlR_same h1 h2 hr (D - 1) (D' - 1) f f' _ _ _ (by omega) (by omega) h
        · rw [if_neg c5] at h ⊢
          by_cases c6 : mm_a u 316 x = 50 ∨ mm_a u 316 x = 51
          · rw [if_pos c6] at h ⊢
            by_cases cD : D = 0
            · rw [if_pos cD] at h; exact nomatch h
            · rw [if_neg cD] at h
              rw [if_neg (by omega)]
              exact tlR_same h1 h2 hr (D - 1) (D' - 1) f f' _ _ _ (by omega) (by omega) h
          · rw [if_neg c6] at h ⊢; exact h
    · rw [if_neg c] at h; exact nomatch h
  | D, D', f + 1, f' + 1, true, x, l, hD, hf, h => by
    rw [tlR] at h ⊢
    by_cases c : x = 0
    · rw [if_pos c] at h ⊢; exact h
    · rw [if_neg c] at h ⊢
      cases h3 : tlR u lo hi D f false x with
      | none => rw [h3] at h; exact nomatch h
      | some l1 =>
        rw [h3] at h
        rw [tlR_same h1 h2 hr D D' f f' _ _ _ hD (by omega) h3]
        have hx : lo ≤ x ∧ x < hi := by
          cases f with
          | zero => exact nomatch h3
          | succ f =>
            rw [tlR] at h3
            by_cases c : lo ≤ x ∧ x < hi
            · exact c
            · rw [if_neg c] at h3; exact nomatch h3
        rw [hr 322 (by decide) (by decide) x hx.1 hx.2]
        simp only at h ⊢
        cases h4 : tlR u lo hi D f true (tN (mm_a u 322 x)) with
        | none => rw [h4] at h; exact nomatch h
        | some l2 =>
          rw [h4] at h
          rw [tlR_same h1 h2 hr D D' f f' _ _ _ hD (by omega) h4]
          exact h
/-- a pattern's node -/
def shBd (D : Nat) (σ : mmS) (b : Bool × List Int32) (_ : Nat) (n : Int32) (u : mmS) : Prop := ∃ k, n = nI k ∧ 1 ≤ fN σ 315 ∧ fN σ 315 ≤ k ∧ k < fN u 315 ∧ (mm_a u 316 k = 4 ↔ b.1 = true) ∧ mm_a u 322 k = 0 ∧ ∃ f, tlR u (fN σ 315) (fN u 315) D f false k = some b.2
section NAMED
variable {β : Type} {T : sT} {Sh : β → Nat → Int32 → mmS → Prop} {N : Int32 → mmS → Prop} {g : Nat} {w0 : cW} {m0 e0 : Nat} {θ : cTh} {l0 : Nat} {Z : Int32 → mmS → Prop} {b : Bool} {h : Nat} {w : cW} {A : cA} {m e : Nat} {r r' : sR β} {σ σ0 : mmS} {i : Nat}
variable {ν a d : Nat} {Q : mmQ}
theorem h_dec_bad {k : Nat} {n : Int32} {L : hC} (h : n_bad n = true) : h_dec k n L = none := by rw [h_dec, h]; rfl
theorem c_named {D : Nat} {ro : Int32} {as : Nat} {K : Int32 → mmS → Prop} {X : Nat → mmS → Prop} (hd : 6 ≤ d) (hq : g + 4 ≤ GQ (w_nu w)) (hm : 12 ≤ m) (hc : cls ro = as) (en : cG T w A m e σ i ∨ (true = true ∧ cB T (g + 1) σ)) (k : ∀ n u, Rs T (shBd D σ) nid g w (m + 8) e (th σ) (i + 1) A (s_named T as i) σ n u → K n u) :
    mm_ci (MC d) 3061 [.inr (.inr (3, a)), .inl ro] σ K X := by
  obtain ⟨d, rfl, hd⟩ := mc_pos (c := 5) (by omega)
  refine mc_ci (P := mt3061) (L := 3) rfl rfl ⟨by decide, Nat.le_of_ble_eq_true rfl⟩ fun Q hK hX => b3061_0 _ _ _ _ _ _ ?_
  have st := St.startM (q := 4) (K := fun n u => Q (.inl (some (.inl n))) u) hq (by decide) en (fun n u rs => hK _ _ (k n u rs))
  have n1 := st.ci.2.1.2.1
  have st : St T (shBd D σ) nid g w (m + 8) e (th σ) (i + 1) (fun n u => Q (.inl (some (.inl n))) u) true 1 w A m e (s_b (s_ident T i) (fun x k => bif n_bad x then none else s_w (sA_ev as x) (true, [x]) k)) σ i := st
  refine st.ident (by omega) (fun x u st hf hx _ => st.wrong (fun gd st2 => ?_) (fun ng => ?_))
  · have st3 := st2.rwR (r' := s_b (s_w (sA_ev as x) () (i + 1)) (fun _ k => s_r (true, [x]) k)) (fun _ => by
      rw [run_b, run_ev, ← hc, h_ev_cls]
      cases hb : n_bad x with
      | true => rw [h_dec_bad hb]; rfl
      | false =>
        obtain ⟨L, cv, us, f, kk⟩ := A
        simp only [cond_false, run, s_w, s_r, sA_ev, A_st, h_run, sA0, h_ev_cls]
        cases h_dec (cls ro) x L <;> simp [h_run])
    refine St.declare rfl st3 (by omega) hc (fun u2 B st4 hf2 _ => ?_)
    refine St.node (h := 0) st4 (by omega) (by omega) (fun n5 u5 st5 hf5 nw => ?_)
    have l5 : fN σ 315 ≤ fN u2 315 := by have := hf.nn; have := hf2.nn; omega
    obtain ⟨y1, y2, y3, y4, y5, y6, y7, y8, y9, -⟩ := id nw
    exact st5.ret (fun _ => rfl) (fun _ => rfl) (fun _ => Nat.le_refl _) 0 (fun _ => by omega) (fun _ => Nat.le_refl _) (fun _ => ⟨_, y1, n1, l5, by omega, ⟨fun _ => rfl, fun _ => y3⟩, y8, 1, by rw [tlR, if_pos ⟨l5, by omega⟩, if_pos y3, y4]⟩) (fun _ => nw.nid)
  · refine St.node (h := 0) st (by omega) (by omega) (fun n5 u5 st5 hf5 nw => ?_)
    exact st5.bad (fun z => ng (hf5.1 z)) nw.nid
end NAMED
