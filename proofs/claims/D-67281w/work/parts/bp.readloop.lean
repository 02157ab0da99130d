/-! PHASE 4. read(): the module's items one by one -/
section RDL
variable {β : Type} {T : sT} {g : Nat} {A0 : cA} {r0 : sR β} {NG : Prop × mmS} {b : Bool} {h : Nat} {A : cA} {m e : Nat} {r r' : sR β} {σ u : mmS} {i c n : Nat} {RQ : List Int32} {LO : List sO} {θ : cTh}
variable {d a av1 av2 : Nat} {Q : mmQ}
theorem SM.rise (s : SM T g A0 r0 NG b h A m e r σ i) (gd : GD σ) {h' : Nat} (hg : g + h' ≤ 69500) : SM T g A0 r0 NG false h' A m e r σ i := by
  rcases s.1 with ⟨q1, q2, q3, q4⟩ | ⟨q1, q2, q3⟩
  · exact ⟨Or.inl ⟨q1, q2, hg, q4⟩, s.2.1, s.2.2.1, s.2.2.2⟩
  · exact absurd gd q2.no
theorem SM.reb (s : SM T g A0 r0 NG b h A m e r σ i) : SM T g A0 r0 (NG.1, σ) b h A m e r σ i := ⟨s.1, s.2.1, s.2.2.1, FRM.rfl'⟩
theorem SM.unb {τ : mmS} (s : SM T g A0 r0 (NG.1, τ) b h A m e r u i) (F : FRM NG.2 τ) : SM T g A0 r0 NG b h A m e r u i := ⟨s.1, s.2.1, s.2.2.1, F.trans s.2.2.2⟩
theorem PM.z (p : PM c n RQ LO σ) (gd : GD σ) (hn : n ≤ 1300) : PM 0 n RQ LO σ := by
  obtain ⟨rq, ni, o, z1, z2, z3⟩ := p
  have := z3 gd
  exact ⟨rq, ni, o, z1, ⟨by omega, z2.2⟩, z3⟩
theorem nid.frm {x : Int32} (hx : nid x σ) (F : FRM σ u) : nid x u := by
  obtain ⟨k, k1, k2⟩ := hx
  exact ⟨k, k1, Nat.lt_of_lt_of_le k2 F.2.2.2⟩
/-- an item's node goes into the row -/
theorem rd_384 {v3 v4 v6 v7 : Int32} (s0 : SM T g A0 r0 NG b h A m e r σ i) (p : PM c i RQ LO σ) (n6 : nid v6 σ) (n7 : GD σ → nid v7 σ)
    (kk : ∀ (u : mmS) (w6 w7 : Int32), SM T g A0 r0 NG b h A m e r u i → PM c i RQ LO u → (GD u → GD σ ∧ nid w6 u) → mm_W mt3002 (MC d) Q (322, [some (.inr (.inr (3, a))), some (.inr (.inr (2, av1))), some (.inr (.inr (100, av2))), some (.inl v3), some (.inl v4), some (.inl (nI 0)), some (.inl w6), some (.inl w7)], []) u) :
    mm_W mt3002 (MC d) Q (384, [some (.inr (.inr (3, a))), some (.inr (.inr (2, av1))), some (.inr (.inr (100, av2))), some (.inl v3), some (.inl v4), some (.inl (nI 0)), some (.inl v6), some (.inl v7)], []) σ := by
  refine b3002_384 _ _ _ _ _ _ _ _ _ _ _ (br_p (fun _ => kk σ v6 v7 s0 p (fun gd => ⟨gd, n6⟩)) (fun _ => br_p (fun _ => ?_) (fun _ => ?_)))
  · exact s0.1.free (f := 0) (Or.inr (Or.inr (Or.inl rfl))) s0.ci.2.2.2.2.1.2.1.1 (fun st fr => kk _ v7 v7 (s0.to st fr (fun _ => rfl)) (p.mono fr (fun _ => Nat.le_refl _)) (fun gu => ⟨fr.1 gu, (n7 (fr.1 gu)).mono fr⟩))
  · obtain ⟨k, rfl, hk⟩ := n6
    have fr : Fr (0, 0, 0, 0) σ (mm_seta σ 322 k v7) := Fr.seta (by decide) (fun _ => Nat.zero_le _)
    exact s0.1.setn (s := 322) (by decide) (Or.inl (by decide)) rfl hk (fun _ => Nat.zero_le _) (Or.inl ⟨by decide, by decide⟩) (fun st => kk _ v7 v7 (s0.to st fr (fun _ => rfl)) (p.mono fr (fun _ => Nat.le_refl _)) (fun gu => ⟨fr.1 gu, (n7 (fr.1 gu)).mono fr⟩))
theorem rd_loop {A0 : cA} {r0 : sR sM} {v3 v4 : Int32} (hd : 2440 ≤ d)
    (kz : ∀ (u : mmS) (i : Nat) (A : cA) (v : sM) (w6 : Int32), SM T 0 A0 r0 NG true 0 A 24 e (s_r v i) u i → PM 1 i v.1 v.2 u → mm_W mt3002 (MC d) Q (428, [some (.inr (.inr (3, a))), some (.inr (.inr (2, av1))), some (.inr (.inr (100, av2))), some (.inl v3), some (.inl v4), some (.inl (nI 0)), some (.inl w6), some (.inl 0)], []) u) :
    ∀ (q : Nat) (v : sM) (A : cA) (i : Nat) (τ : mmS) (w6 : Int32) (wv7 : Option mmV), (GD τ → t_e T < q + i) → SM T 0 A0 r0 NG true 0 A 24 e (s_modL T q v i) τ i → PM 1 i v.1 v.2 τ → (GD τ → nid w6 τ) →
    mm_W mt3002 (MC d) Q (322, [some (.inr (.inr (3, a))), some (.inr (.inr (2, av1))), some (.inr (.inr (100, av2))), some (.inl v3), some (.inl v4), some (.inl (nI 0)), some (.inl w6), wv7], []) τ := by
  intro q
  induction q with
  | zero =>
    intro v A i τ w6 wv7 hq s0 p n6
    refine b3002_322 _ _ _ _ _ _ _ _ _ _ _ (br_p (fun gd => ?_) (fun ng => kz τ i A v w6 (s0.any ng _ _ _ _ _) p))
    have := (s0.le gd).1
    have := hq gd
    omega
  | succ q ih =>
    intro v A i τ w6 wv7 hq s0 p n6
    refine b3002_322 _ _ _ _ _ _ _ _ _ _ _ (br_p (fun gd => ?_) (fun ng => kz τ i A v w6 (s0.any ng _ _ _ _ _) p))
    have gd : GD τ := gd
    have hle := s0.le gd
    have hqq := hq gd
    have p0 := p.z gd (by omega)
    have n6 := n6 gd
    have F := s0.2.2.2
    have s1 := (s0.reb).rise gd (h' := 1360) (by omega)
    refine s1.1.rdk (fun x1 h1 nz => br_p (fun c0 => ?_) (fun c0 => ?_))
    · refine kz τ i A v w6 (s0.rw fun gd => ?_) p
      rw [s_modL, t_kd, h1 gd, c0]; rfl
    · let F1 : sM → Nat → sR sM := fun u k => bif s_newL v.2 u.2 then s_modL T q (u.1.foldl s_rq1 v.1, v.2 ++ u.2) k else none
      have hf : ∀ w j, s_newL v.2 w.2 = false → F1 w j = none := fun w j hw => by show (bif s_newL v.2 w.2 then _ else _) = _; rw [hw]; rfl
      have s2 := s1.rw (r' := s_b (s_mitem T i) F1) (fun gd => by
        show s_modL T (q + 1) v i = _
        rw [s_modL, t_kd, h1 gd, beq_eq_false_iff_ne.mpr c0]; rfl)
      refine s2.word (by omega) (fun z20 => s2.word (by omega) (fun z13 => ?_) (fun z13 nz13 => ?_)) (fun z20 nz20 => ?_)
      · -- an item
        have s3 := s2.rw (r' := s_b ((s_lv T 48).2.2.2.2.2.2.1 x_top i) (fun _ k => s_modL T q (v.1, v.2) k)) (fun gd => by
          unfold s_mitem
          rw [z20 gd, z13 gd, cond_false, cond_false, s_b_b]
          refine congrArg _ (funext fun l => funext fun k => ?_)
          rw [s_b_r]
          show s_modL T q (v.1, v.2 ++ []) k = _
          rw [List.append_nil])
        refine s3.item (h := 1360) (by omega) (by decide) (by omega) (fun l j B n u s4 f4 hj hr hs hn => ?_)
        have s5 := (s4.weak (h' := 0) (Nat.zero_le _) (Nat.le_refl _) (Nat.le_refl _)).unb F
        refine rd_384 s5 (p0.mono f4 (n' := j) (fun gu => by have := hj gu; omega)) (n6.mono f4) (fun gu => ?_) (fun w w6' w7' s6 p6 hn6 => ih (v.1, v.2) B j w w6' _ (fun gw => ?_) s6 ?_ (fun gw => (hn6 gw).2))
        · obtain ⟨q, k, k1, k2, k3, k4, -⟩ := hs gu
          exact ⟨k, k1, k4⟩
        · have := hj (hn6 gw).1
          omega
        · exact p6.up
      · -- export
        have s3 := s2.rw (r' := s_b (s_exp T (i + 1)) F1) (fun gd => by
          unfold s_mitem
          rw [z20 gd, z13 gd, cond_false, cond_true])
        refine SM.exp (h := 1350) hf s3 nz13 p0 (by omega) (by omega) (by omega) (by decide) (fun w n u j B s4 hg p4 hn => ?_)
        have s5 := (s4.weak (h' := 0) (Nat.zero_le _) (Nat.le_refl _) (Nat.le_refl _)).unb F
        have s6 := s5.rw (r' := s_modL T q (w.1.foldl s_rq1 v.1, v.2 ++ w.2) j) (fun gu => by
          show (bif s_newL v.2 w.2 then _ else _) = _
          rw [(hg gu).2.2]; rfl)
        refine rd_384 s6 p4 (n6.frm s4.2.2.2) (fun _ => hn) (fun w' w6' w7' s7 p7 hn7 => ih _ B j w' w6' _ (fun gw => ?_) s7 p7 (fun gw => (hn7 gw).2))
        have := (hg (hn7 gw).1).2.1
        omega
      · -- import
        have s3 := s2.rw (r' := s_b (s_imp T (i + 1)) (fun w k => s_modL T q (w.1.foldl s_rq1 v.1, v.2 ++ w.2) k)) (fun gd => by
          unfold s_mitem
          rw [z20 gd, cond_true]
          refine s_b_cong fun w j α hw => ?_
          show (bif s_newL v.2 w.2 then _ else _) = _
          rw [imp_told _ _ _ hw]; rfl)
        refine s3.imp nz20 p0 (by omega) (by omega) (fun w u j B s4 hg p4 => ?_)
        have s5 := (s4.weak (h' := 0) (Nat.zero_le _) (Nat.le_refl _) (Nat.le_refl _)).unb F
        refine rd_384 s5 p4 (n6.frm s4.2.2.2) (fun _ => nid_0 s4.ci) (fun w' w6' w7' s7 p7 hn7 => ih _ B j w' w6' _ (fun gw => ?_) s7 p7 (fun gw => (hn7 gw).2))
        have := (hg (hn7 gw).1).2
        omega
end RDL
