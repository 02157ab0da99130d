/-! PHASE 4. bring(), fromAt(), importAt() -/
def tdm (y : Int32 × Int32 × Int32) : sO := (y.1, decide (y.2.1 < 0), y.2.2)
/-- the program's rows, in any mode; n: how many there may be by now -/
def PM (c n : Nat) (RQ : List Int32) (LO : List sO) (σ : mmS) : Prop := ∃ rq ni o, prR rq ni o σ ∧ (rq.length ≤ 1300 + c ∧ ni ≤ 1300 ∧ o.length ≤ 1300) ∧ (GD σ → rq = RQ ∧ rq.length ≤ n ∧ ni ≤ n ∧ o.length ≤ n ∧ o.map tdm = LO)
section IMP
variable {β : Type} {T : sT} {g : Nat} {A0 : cA} {r0 : sR β} {NG : Prop × mmS} {b : Bool} {h : Nat} {A : cA} {m e : Nat} {r r' : sR β} {σ u : mmS} {i c n : Nat} {RQ : List Int32} {LO : List sO} {θ : cTh}
variable {d a : Nat} {Q : mmQ} {Ak Bk : mmS → Prop}
theorem PM.mono (p : PM c n RQ LO σ) (f : Fr θ σ u) {n' : Nat} (hn : GD u → n ≤ n') : PM c n' RQ LO u := by
  obtain ⟨rq, ni, o, p1, p2, p3⟩ := p
  refine ⟨rq, ni, o, p1.mono f, p2, fun gd => ?_⟩
  have h2 := hn gd
  have := p3 (f.1 gd)
  exact ⟨this.1, by omega, by omega, by omega, this.2.2.2.2⟩
theorem SM.needWord {s : Int32} {f : Unit → Nat → sR β} {V : mmS → Prop} (s0 : SM T g A0 r0 NG b h A m e (s_b (s_nw T s i) f) σ i) (hd : 3 ≤ d) (k : ∀ u, SM T g A0 r0 NG true h A (m + 12) e (f () (i + 1)) u (i + 1) → Fr (th σ) σ u → V u) : mm_V (MC d) Q 3034 [.inr (.inr (3, a)), .inl s] σ V :=
  s0.1.needWord hd fun u st hf hs => k u (s0.to st hf fun gd => by rw [s_nw, hs gd, cond_true, s_b_r]) hf
/-- any reading, where it is bad -/
theorem SM.any (s0 : SM T g A0 r0 NG b h A m e r σ i) (ng : ¬ GD σ) (A' : cA) (m' e' : Nat) (r' : sR β) (i' : Nat) : SM T g A0 r0 NG true h A' m' e' r' σ i' :=
  s0.to (St.bd (β' := Unit) s0.1.tt ng Fr.rfl' id) (Fr.rfl' (θ := (0, 0, 0, 0))) fun gd => absurd gd ng
theorem SM.declare {k : Nat} {x ro : Int32} {f : Unit → Nat → sR β} {C : mmS → Prop} (gd : GD σ) (s0 : SM T g A0 r0 NG b h A m (e + 1) (s_b (s_w (sA_ev k x) () i) f) σ i) (hd : 4 ≤ d) (hk : cls ro = k)
    (kk : ∀ u B, SM T g A0 r0 NG true h B m e (f () i) u i → Fr (th σ) σ u → C u) : mm_V (MC d) Q 3029 [.inr (.inr (3, a)), .inl x, .inl ro] σ C := by
  have q := s0.gd gd
  obtain ⟨R, b', y1, y2, y3, y4, y5⟩ := q.2.2.2.2.2.2.1
  have lb := lnB.use q.1
  have hlen := y2.len2
  have cp := q.caps
  have hc : hl A.1 ≤ 99 := by
    have := q.2.2.2.1.2.2
    omega
  have hB := s0.bnd gd
  subst hk
  refine c_declare hd q.1.1 y1 lb.2.2 y2 y3 (by omega) y5 (fun u R2 L2 z1 z2 z3 z4 => ?_) (fun u R2 L2 z1 z2 z3 z4 => ?_)
  · have g2 := q.DV z1 z2 (h_dec_map z3) z4
    have fr := Fr.DV z1
    refine kk u (L2, A.2) ⟨Or.inl ⟨g2, tle0, hB, fun n v rs ng => ?_⟩, fun gu => ?_, s0.2.2.1, s0.2.2.2.trans (FRM.fr fr)⟩ fr
    · rcases rs.2 with ⟨w, j, B, q, x1, x2, x3, x4⟩ | ⟨x1 | x1, x2, x3⟩
      · exact absurd x2.2.1 ng
      · exact s0.2.2.1 ((s0.2.1 gd).trans (by rw [run_b, run_ev, h_ev_cls, z3]; exact x1))
      · exact absurd g2.2.1 x1
    · rw [s0.2.1 gd, run_b, run_ev, h_ev_cls, z3]
  · have fr := Fr.DV z1
    have hr : run false A (s_b (s_w (sA_ev (cls ro) x) () i) f) = none := by rw [run_b, run_ev, h_ev_cls, z3]
    have cb := cB.DV (g := g + h) q z1 (by omega) z2 (by omega)
    have hN := s0.2.2.1 ((s0.2.1 gd).trans hr)
    exact kk u A ⟨Or.inr ⟨rfl, cb, fun _ _ _ _ _ _ => hN⟩, fun z => absurd z cb.no, s0.2.2.1, s0.2.2.2.trans (FRM.fr fr)⟩ fr
/-- bring() -/
theorem SM.bring {x y : Int32} {f : Unit → Nat → sR β} {C : mmS → Prop} (s0 : SM T g A0 r0 NG b h A m (e + 1) (s_b (s_w (sA_ev 1 x) () i) f) σ i) (p : PM c n RQ LO σ) (hd : 6 ≤ d) (hn : GD σ → n + 1 ≤ 1300) (hc : c ≤ 5)
    (kk : ∀ u B, SM T g A0 r0 NG true h B m e (f () i) u i → (GD u → GD σ) → PM c (n + 1) RQ LO u → C u) : mm_V (MC d) Q 3028 [.inr (.inr (3, a)), .inl y, .inl x] σ C := by
  obtain ⟨d, rfl, hd⟩ := mc_pos hd
  refine mc_cv (P := mt3028) (L := 3) rfl rfl ⟨by decide, Nat.le_of_ble_eq_true rfl⟩ fun Q2 hK hX => b3028_0 _ _ _ _ _ _ (br_p (fun gd => ?_) (fun ng => ?_))
  · refine SM.declare gd s0 (by omega) rfl (fun u B s1 hf => ?_)
    have pu := p.mono hf (n' := n) (fun _ => Nat.le_refl _)
    obtain ⟨rq, ni, o, p1, p2, p3⟩ := pu
    refine brg_tail (by omega) s1.ci p1 (by omega) (fun v q1 q2 q3 => hK _ (kk v B (s1.pg q1 q2) (fun gv => gd) ⟨rq, ni + 1, o, q3, ⟨by omega, ?_, by omega⟩, fun gv => ?_⟩))
    · obtain ⟨rq', ni', o', p1', p2', p3'⟩ := p
      have h1 := (p3' gd).2.2.1
      have e1 : mm_f u 218 = mm_f σ 218 := hf.2.1 218 rfl
      have : ni = ni' := nI_inj (by omega) (by omega) (p1.2.1.1.symm.trans (e1.trans p1'.2.1.1))
      have := hn gd
      omega
    · have e3 : mm_f v 303 = mm_f u 303 := q1.1 303 (by decide)
      have := p3 (by unfold GD at gv ⊢; rw [← e3]; exact gv)
      exact ⟨this.1, by omega, by omega, by omega, this.2.2.2.2⟩
  · obtain ⟨rq, ni, o, p1, p2, p3⟩ := p
    exact hK _ (kk σ A (s0.any ng _ _ _ _ _) id ⟨rq, ni, o, p1, p2, fun gd => absurd gd ng⟩)
/-- request(), the program's side -/
theorem SM.request {x : Int32} {C : Int32 → mmS → Prop} (s0 : SM T g A0 r0 NG b h A m e r σ i) (p : PM c n RQ LO σ) (hd : 5 ≤ d) (hc : c ≤ 5) (hn : GD σ → n + 1 ≤ 1300)
    (kk : ∀ v u, SM T g A0 r0 NG b h A m e r u i → (GD u → GD σ) → PM (c + 1) (n + 1) (s_rq1 RQ x) LO u → (∃ j, v = nI j ∧ j < 2 ^ 31) → C v u) : mm_I (MC d) Q 3020 [.inr (.inr (3, a)), .inl x] σ C := by
  obtain ⟨rq, ni, o, p1, p2, p3⟩ := p
  refine c_request hd s0.ci p1 (by omega) (fun v u q1 q2 q3 q4 => ?_)
  have e3 : mm_f u 303 = mm_f σ 303 := q1.1 303 (by decide)
  have gg : GD u → GD σ := fun z => by unfold GD at z ⊢; rw [← e3]; exact z
  have hl := s_rq1_l (l := rq) (x := x)
  refine kk v u (s0.pg q1 q2) gg ⟨s_rq1 rq x, ni, o, q3, ⟨by omega, by omega, by omega⟩, fun gu => ?_⟩ q4
  have := p3 (gg gu)
  exact ⟨by rw [this.1], by omega, by omega, by omega, this.2.2.2.2⟩
/-- fromAt() -/
theorem SM.fromA {f : Int32 → Nat → sR β} {C : Int32 → mmS → Prop} (s0 : SM T g A0 r0 NG b h A m e (s_b (s_from T i) f) σ i) (p : PM c n RQ LO σ) (hd : 7 ≤ d) (hc : c ≤ 4) (hn : GD σ → n + 1 ≤ 1300)
    (kk : ∀ x v u j, SM T g A0 r0 NG true h A m e (f x j) u j → (GD u → GD σ ∧ i + 2 ≤ j) → PM (c + 1) (n + 1) (s_rq1 RQ x) LO u → (GD u → ¬ v < 0) → C v u) : mm_I (MC d) Q 3038 [.inr (.inr (3, a))] σ C := by
  obtain ⟨d, rfl, hd⟩ := mc_pos hd
  refine mc_ci (P := mt3038) (L := 2) rfl rfl ⟨by decide, Nat.le_of_ble_eq_true rfl⟩ fun Q2 hK hX => b3038_0 _ _ _ _ _ ?_
  have s0 : SM T g A0 r0 NG b h A m e (s_b (s_nw T 48 i) (fun _ k => s_b (bif t_kd T k 6 then s_b (s_semi T (k + 1)) (fun _ q => s_r (t_v T k) q) else none) f)) σ i := s0.rw fun _ => by unfold s_from; rw [s_b_b]
  refine s0.needWord (by omega) (fun u1 s1 f1 => ?_)
  have p1 := p.mono f1 (n' := n) (fun _ => Nat.le_refl _)
  refine s1.1.rdk (fun x2 h2 nz => br_p (fun c6 => ?_) (fun c6 => ?_))
  · have s2 := (s1.adv (nz (by rw [c6]; decide))).rw (r' := s_b (s_semi T (i + 1 + 1)) (fun _ q => f (t_v T (i + 1)) q)) (fun gd => by
      have gd : GD u1 := gd
      unfold t_kd
      rw [h2 gd, c6, s_b_if, s_b_b]
      show s_b (s_semi T (i + 1 + 1)) (fun v j => s_b (s_r (t_v T (i + 1)) j) f) = _
      exact congrArg _ (funext fun _ => funext fun q => s_b_r))
    obtain ⟨q, q1, q2, q3⟩ := s1.1.p
    have e1 : mm_f (mm_setf u1 311 (mm_f u1 311 + 1)) 311 - 1 = nI q := by rw [f_same, q1, nI_1, nI_pred]
    rw [e1]
    refine s2.ci.1.v (by omega) ?_
    have p2 := p1.mono (Fr_adv (x := mm_f u1 311 + 1)) (n' := n) (fun _ => Nat.le_refl _)
    refine s2.request p2 (by omega) (by omega) (fun gd => hn (f1.1 (Fr_adv.1 gd))) (fun v u3 s3 g3 p3 hv => ?_)
    refine s3.semi (by omega) (fun u4 j s4 f4 hj => hK _ _ (kk (t_v T (i + 1)) v u4 j (s4.weak (Nat.le_refl _) (by omega) (Nat.le_refl _)) (fun gd => ⟨f1.1 (Fr_adv.1 (g3 (f4.1 gd))), by have := hj gd; omega⟩) ?_ (fun gd => ?_)))
    · have p4 := p3.mono f4 (n' := n + 1) (fun _ => Nat.le_refl _)
      obtain ⟨rq, ni, o, z1, z2, z3⟩ := p4
      refine ⟨rq, ni, o, z1, z2, fun gd => ?_⟩
      have e : q = i + 1 := q3 (Fr_adv.1 (g3 (f4.1 gd)))
      have := z3 gd
      rw [e] at this
      exact this
    · obtain ⟨j, rfl, hj2⟩ := hv
      exact nI_pos (by omega)
  · refine s1.fail (by omega) (fun gd => ?_) (fun u4 ng s4 f4 => hK _ _ (kk 0 0 u4 0 (s4.any ng _ _ _ _ _) (fun gd => absurd gd ng) ?_ (fun gd => absurd gd ng)))
    · unfold t_kd
      rw [h2 gd, beq_eq_false_iff_ne.mpr c6]
      exact run_none
    · obtain ⟨rq, ni, o, z1, z2, z3⟩ := p1.mono f4 (n' := n) (fun _ => Nat.le_refl _)
      exact ⟨rq, ni, o, z1, by omega, fun gd => absurd gd ng⟩
end IMP
