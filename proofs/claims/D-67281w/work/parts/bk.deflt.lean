/-! PHASE 4. defaultAt() -/
section DEFL
variable {β : Type} {T : sT} {g : Nat} {A0 : cA} {r0 : sR β} {NG : Prop × mmS} {b : Bool} {h : Nat} {A : cA} {m e : Nat} {r r' : sR β} {σ u : mmS} {i c n : Nat} {RQ : List Int32} {LO : List sO} {θ : cTh}
variable {d a : Nat} {Q : mmQ} {Ak Bk : mmS → Prop}
theorem nid.pgX {x : Int32} (h : nid x σ) (p : pgX σ u) : nid x u := by
  obtain ⟨k, k1, k2⟩ := h
  exact ⟨k, k1, by rw [fN_eq (p.1 315 (by decide))]; exact k2⟩
theorem PM.rw {LO' : List sO} {RQ' : List Int32} {n' : Nat} (p : PM c n RQ LO σ) (hr : GD σ → RQ = RQ' ∧ LO = LO' ∧ n ≤ n') : PM c n' RQ' LO' σ := by
  obtain ⟨rq, ni, o, p1, p2, p3⟩ := p
  refine ⟨rq, ni, o, p1, p2, fun gd => ?_⟩
  have h1 := hr gd
  have h2 := p3 gd
  exact ⟨h2.1.trans h1.1, by omega, by omega, by omega, h2.2.2.2.2.trans h1.2.1⟩
/-- a word on, that may be a name's -/
theorem SM.advE (s0 : SM T g A0 r0 NG b h A m e r σ i) (z : NZ T σ) : SM T g A0 r0 NG b h A (m + 12) (e + 1) r (mm_setf σ 311 (mm_f σ 311 + 1)) (i + 1) := s0.to (s0.1.advE z) Fr_adv fun _ => rfl
theorem SM.eatWordE {s : Int32} {C : Int32 → mmS → Prop} (s0 : SM T g A0 r0 NG b h A m e r σ i) (hd : 2 ≤ d) (k0 : (GD σ → t_wd T i s = false) → C 0 σ) (k1 : ∀ u, (GD σ → t_wd T i s = true) → SM T g A0 r0 NG b h A (m + 12) (e + 1) r u (i + 1) → Fr (th σ) σ u → C 1 u) : mm_I (MC d) Q 3035 [.inr (.inr (3, a)), .inl s] σ C := by
  obtain ⟨q, q1, q2, q3⟩ := s0.1.p
  refine c_eatWord hd s0.ci.1 q1 (by omega) (fun z => k0 fun gd => by rw [← q3 gd]; exact z) (fun z => ?_)
  have := s0.advE (NZ_wd s0.ci q1 z)
  rw [q1, ← nI_succ] at this
  exact k1 _ (fun gd => by rw [← q3 gd]; exact z) this Fr_adv
theorem SM.addD {f : Unit → Nat → sR β} {C : Int32 → mmS → Prop} {ro : Int32} (hro : cls ro = 1) (s0 : SM T g A0 r0 NG false h A m (e + 1) (s_b (s_w (sA_ev 9 59) () i) f) σ i) (hd : 3 ≤ d)
    (kk : ∀ x u B, SM T g A0 r0 NG false h B m e (f () i) u i → Fr (th σ) σ u → C x u) : mm_I (MC d) Q 3033 [.inr (.inr (3, a)), .inl (mm_f σ 346), .inl 59, .inl ro] σ C := by
  have hG := s0.1.good
  have gd := hG.2.1
  obtain ⟨sc, y1, y2⟩ := s0.ci.2.2.2.2.2.1.1
  rw [y1]
  obtain ⟨R0, b0, q1, q2, q3, q4, q5⟩ := hG.2.2.2.2.2.2.1
  cases hA : A.1 with
  | nil => rw [hA] at q3; exact nomatch q3
  | cons xe L =>
    obtain ⟨x, es⟩ := xe
    have hA' : A = ((x, es) :: L, A.2) := Prod.ext hA rfl
    refine c_AS (g := 0) (w := wT) (m := m) (e := e) (i := i) (x := x) (es := es) (L := L) (A2 := A.2) (by omega) (Or.inl (by rw [← hA']; exact hG)) y2 (fun _ => y1) (fun u5 f5 e24 e46 en5 => ?_)
    have g5 : cG T wT ((x, es ++ [(cls ro, 59)]) :: L, A.2) m e u5 i := by
      rcases en5 with ⟨-, z⟩ | ⟨z, -⟩
      · exact z
      · exact absurd gd z.no
    have hr : run false A (s_b (s_w (sA_ev 9 59) () i) f) = run false ((x, es ++ [(cls ro, 59)]) :: L, A.2) (f () i) := by
      rw [run_b, run_ev, hA, hro]; rfl
    refine kk _ u5 ((x, es ++ [(cls ro, 59)]) :: L, A.2) ⟨Or.inl ⟨g5, tle0, s0.bnd gd, fun n v rs ng => ?_⟩, fun _ => (s0.2.1 gd).trans hr, s0.2.2.1, s0.2.2.2.trans (FRM.fr f5)⟩ f5
    rcases rs.2 with ⟨w, j, B, q, x1, x2, x3, x4⟩ | ⟨x1 | x1, x2, x3⟩
    · exact absurd x2.2.1 ng
    · exact s0.2.2.1 ((s0.2.1 gd).trans (hr.trans x1))
    · exact absurd g5.2.1 x1
theorem SM.node {k x y z : Int32} {C : Int32 → mmS → Prop} (s0 : SM T g A0 r0 NG b (h + 1) A m e r σ i) (hd : 3 ≤ d) (hm : 1 ≤ m) (kk : ∀ n u, SM T g A0 r0 NG b h A (m - 1) e r u i → Fr (th σ) σ u → NwN σ k x y z 0 n u → C n u) (h35 : (k == 35) = false ∨ nid x σ := by exact Or.inl rfl) :
    mm_I (MC d) Q 3051 [.inr (.inr (3, a)), .inl k, .inl x, .inl y, .inl z] σ C :=
  s0.1.node hd hm (fun n u st hf nw => kk n u (s0.to st hf fun _ => rfl) hf nw) h35
/-- telling the default's name -/
theorem SM.tell8 {f : sM → Nat → sR β} {n2 x5 : Int32} (hf : ∀ v j, s_newL LO v.2 = false → f v j = none) (s0 : SM T g A0 r0 NG b h A m e (f ([], [(8, true, n2)]) i) σ i) (p : PM c n RQ LO σ) (hd : 6 ≤ d) (hn : GD σ → n + 1 ≤ 1300)
    (kk : ∀ u, SM T g A0 r0 NG true h A m e (f ([], [(8, true, n2)]) i) u i → (GD u → GD σ ∧ s_newL LO [(8, true, n2)] = true) → PM c (n + 1) RQ (LO ++ [(8, true, n2)]) u → pgX σ u → Q (.inl (some (.inl x5))) u) : mm_V (MC d) Q 3040 [.inr (.inr (3, a)), .inl 8, .inl n2, .inl (-1)] σ (fun σ7 => Q (.inl (some (.inl x5))) σ7) := by
  have e1 : s_newL LO [(8, true, n2)] = s_new1 LO (8, decide ((-1 : Int32) < 0), n2) := by
    show (_ && true) = _
    rw [Bool.and_true]; rfl
  exact s0.tell p hd hn (fun gd hz => by rw [hf ([], [(8, true, n2)]) i (e1.trans hz)]; exact run_none) (fun u q1 q2 q3 q4 => kk u q1 (fun gu => ⟨(q2 gu).1, e1.trans (q2 gu).2⟩) q3 q4)
theorem SM.deflt {f : sM → Nat → sR β} {C : Int32 → mmS → Prop} (hf : ∀ v j, s_newL LO v.2 = false → f v j = none) (s0 : SM T g A0 r0 NG false (h + 10) A (m + 12) (e + 2) (s_b (s_deflt T i) f) σ i) (p : PM c n RQ LO σ) (hd : 2425 ≤ d) (hg : g + h + 10 ≤ 1370) (hm : 24 ≤ m) (hn : n + 1 ≤ i)
    (kk : ∀ v n' u j B, SM T g A0 r0 NG true h B m e (f v j) u j → (GD u → GD σ ∧ i ≤ j ∧ s_newL LO v.2 = true) → PM c i (v.1.foldl s_rq1 RQ) (LO ++ v.2) u → nid n' u → C n' u) : mm_I (MC d) Q 3041 [.inr (.inr (3, a))] σ C := by
  obtain ⟨d, rfl, hd⟩ := mc_pos (c := 2424) hd
  refine mc_ci (P := mt3041) (L := 5) rfl rfl ⟨by decide, Nat.le_of_ble_eq_true rfl⟩ fun Q2 hK hX => b3041_0 _ _ _ _ _ _ _ _ ?_
  have gd : GD σ := s0.1.good.2.1
  have hG := s0.1.good
  have hp := hG.2.2.1.1
  have hle := s0.le gd
  -- a function
  have fn : ∀ (asy : Bool) (j : Nat) (τ : mmS) (wv2 wv3 wv4 : Option mmV) (m2 : Nat), m + 12 ≤ m2 → i ≤ j → Fr (th σ) σ τ → GD τ → SM T g A0 r0 NG false (h + 10) A m2 (e + 2) (s_b (s_hoist T (s_lv T 47) asy true j) (fun l k => f ([], l.map (fun x => (8, true, x))) k)) τ j →
      mm_V (MC d) Q2 3043 [.inr (.inr (3, a))] τ (fun σ1 => mm_br (bI asy = 0) (mm_W mt3041 (MC d) Q2 (104, [some (.inr (.inr (3, a))), some (.inl (bI asy)), wv2, wv3, wv4], [.inl 0, .inr (.inr (3, a))]) σ1) (mm_W mt3041 (MC d) Q2 (104, [some (.inr (.inr (3, a))), some (.inl (bI asy)), wv2, wv3, wv4], [.inl 2, .inr (.inr (3, a))]) σ1)) := fun asy j τ wv2 wv3 wv4 m2 hm2 hj fτ gτ s1 => by
    refine SM.call (h := h + 10) (c := 0) (s := 0) (m' := m2 - 1) (e' := e + 1) (bb := false) (Sh' := fun _ (l : List Int32) _ n _ => l = [n]) (N' := any2) (r1 := s_hoist T (s_lv T 47) asy true) (C := fun x6 u => ∀ x5, nid x5 u → mm_V (MC d) Q2 3040 [.inr (.inr (3, a)), .inl 8, .inl x6, .inl (-1)] u (fun σ7 => Q2 (.inl (some (.inl x5))) σ7)) (fun en kk => def_fn (m := m2) (e := e + 1) (g := g + (h + 10)) (by omega) (by omega) (by omega) en rfl kk (fun x5 x6 u hc hn => hc x5 hn)) [] s1 (fun z => z) (fun v j2 B q n2 u s2 f2 hj2 hr2 hs2 hn2 x5 hx5 => ?_)
    have s3 := s2.rw (r' := f ([], [(8, true, n2)]) j2) (fun gu => by rw [hs2 gu]; rfl)
    have pu := (p.mono fτ (n' := n) (fun _ => Nat.le_refl _)).mono f2 (n' := n) (fun _ => Nat.le_refl _)
    refine SM.tell8 hf s3 pu (by omega) (fun _ => by omega) (fun v s4 g4 p4 x4 => hK _ _ (kk ([], [(8, true, n2)]) x5 v j2 B (s4.weak (by omega) (by omega) (by omega)) (fun gv => ⟨gd, by have := hj2 (g4 gv).1; omega, (g4 gv).2⟩) (p4.rw fun _ => ⟨rfl, rfl, hn⟩) (hx5.pgX x4)))
  have wdk : ∀ s, t_wd T i s = true → NZ T σ := fun s hs => NZ_wd s0.ci hp hs
  have fnW : ∀ (asy : Bool) (wv2 wv3 wv4 : Option mmV), asy = s_afun T i → (s_afun T i || t_wd T i 18) = true → mm_W mt3041 (MC d) Q2 (86, [some (.inr (.inr (3, a))), some (.inl (bI asy)), wv2, wv3, wv4], [.inl (bif asy then 2 else 1), .inl (mm_f σ 311), .inr (.inr (3, a))]) σ := fun asy wv2 wv3 wv4 ha hz => by
    refine b3041_86 _ _ _ _ _ _ _ _ _ _ _ ?_
    have s1 := s0.rw (r' := s_b (s_hoist T (s_lv T 47) asy true (bif asy then i + 2 else i + 1)) (fun l k => f ([], l.map (fun x => (8, true, x))) k)) (fun _ => by
      unfold s_deflt
      rw [hz, cond_true, s_b_b, ha]
      exact congrArg _ (funext fun l => funext fun k => s_b_r))
    cases asy with
    | false =>
      rw [← ha, Bool.false_or] at hz
      exact fn false (i + 1) _ wv2 wv3 wv4 _ (by omega) (by omega) Fr_adv gd (s1.adv (wdk 18 hz))
    | true =>
      have h5 := ha.symm
      unfold s_afun at h5
      rw [Bool.and_eq_true, Bool.and_eq_true] at h5
      have k2 : T.1 (i + 1) ≠ 0 := by
        have := h5.1.2
        unfold t_wd at this
        intro z
        rw [z] at this
        exact absurd this (by simp)
      have s2 := (s1.adv (wdk 47 h5.1.1)).adv ⟨i + 1, by rw [f_same, hp, nI_1], kz_lt s0.ci k2, k2⟩
      rw [adv2] at s2
      exact fn true (i + 2) _ wv2 wv3 wv4 _ (by omega) (by omega) Fr_adv gd s2
  have w58 : ∀ (asy : Bool), asy = s_afun T i → mm_W mt3041 (MC d) Q2 (58, [some (.inr (.inr (3, a))), none, none, none, none], [.inl (bI asy)]) σ := fun asy ha => by
    refine b3041_58 _ _ _ _ _ _ _ _ _ (br_0 (fun z => ?_) (fun z => br_n (by rw [z]; decide) ?_))
    · subst z
      refine s0.word (by omega) (fun z18 => ?_) (fun z18 _ => br_y rfl ?_)
      · have s1 := s0.rw (r' := bif t_wd T i 4 then s_b (s_dcls T (i + 1)) (fun l k => f ([], l.map (fun x => (8, true, x))) k) else s_b (s_w (sA_ev 9 59) () i) (fun _ k => s_b ((s_lv T 48).1 x_top.1 true k) (fun _ q => s_b (s_semi T q) (fun _ p => f ([], [(8, true, 59)]) p)))) (fun _ => by
          unfold s_deflt
          rw [← ha, z18 gd, Bool.false_or, cond_false]
          cases h4 : t_wd T i 4 with
          | true =>
            unfold s_dcls
            cases hi : t_id T (i + 1) with
            | true =>
              simp only [cond_true, s_b_b]
              exact congrArg _ (funext fun b => funext fun k => congrArg _ (funext fun _ => funext fun q => by rw [s_b_r, s_b_r]))
            | false =>
              simp only [cond_true, cond_false, s_b_b]
              exact congrArg _ (funext fun b => funext fun k => congrArg _ (funext fun _ => funext fun q => by rw [s_b_r, s_b_r]; rfl))
          | false =>
            simp only [cond_false, s_b_b]
            exact congrArg _ (funext fun b => funext fun k => congrArg _ (funext fun _ => funext fun q => congrArg _ (funext fun _ => funext fun q => by rw [s_b_r]))))
        refine s1.eatWordE (by omega) (fun z4 => br_y rfl ?_) (fun u1 z4 s2 f1 => br_n (by decide) ?_)
        · -- an expression
          have s2 := s1.f z4
          refine SM.addD (by decide) s2 (by omega) (fun x u B s3 f3 => ⟨rfl, ?_⟩)
          have hA : cAsg T 48 := (all_nu (T := T) 48).1
          refine SM.call (h := h + 10) (c := 0) (s := 1) (m' := m + 12) (e' := e + 1) (bb := true) (Sh' := asN T 48) (N' := nid) (r1 := (s_lv T 48).1 x_top.1 true) (fun en kk => hA a wT true rfl d (g + (h + 10)) B (m + 12) (e + 1) i u _ _ (by omega) (by show _ ≤ GQ 48; unfold GQ; omega) (by omega) en kk) (n_k 0) s3 (fun z => nomatch z) (fun v j B2 q n2 u4 s4 f4 hj4 hr4 hs4 hn4 => ?_)
          refine SM.node (h := h + 9) s4 (by omega) (by omega) (fun n5 u5 s5 f5 nw => ?_)
          refine s5.semi (by omega) (fun u6 j6 s6 f6 hj6 => ?_)
          have pu := (((p.mono f3 (n' := n) (fun _ => Nat.le_refl _)).mono f4 (n' := n) (fun _ => Nat.le_refl _)).mono f5 (n' := n) (fun _ => Nat.le_refl _)).mono f6 (n' := n) (fun _ => Nat.le_refl _)
          refine SM.tell8 hf s6 pu (by omega) (fun _ => by omega) (fun v s7 g7 p7 x7 => hK _ _ (kk ([], [(8, true, 59)]) n5 v j6 B2 (s7.weak (by omega) (by omega) (by omega)) (fun gv => ⟨gd, by have := hj6 (g7 gv).1; have := hj4 (f5.1 (f6.1 (g7 gv).1)); omega, (g7 gv).2⟩) (p7.rw fun _ => ⟨rfl, rfl, hn⟩) ((nid.mono nw.nid f6).pgX x7)))
        · -- a class
          have s2 := s2.t (fun gu => z4 (f1.1 gu))
          refine SM.call (h := h + 10) (c := 0) (s := 0) (m' := m + 12) (e' := e + 1) (bb := false) (Sh' := fun _ (l : List Int32) _ n _ => l = [n]) (N' := any2) (r1 := s_dcls T) (C := fun x6 u => ∀ x5, nid x5 u → mm_V (MC d) Q2 3040 [.inr (.inr (3, a)), .inl 8, .inl x6, .inl (-1)] u (fun σ7 => Q2 (.inl (some (.inl x5))) σ7)) (fun en kk => def_cls (wv2 := none) (m := m + 12) (e := e + 1) (g := g + (h + 10)) (by omega) (by omega) (by omega) en kk (fun x4 v3 u hc hn => hc x4 hn)) [] s2 (fun z => z) (fun v j2 B q n2 u s3 f2 hj2 hr2 hs2 hn2 x5 hx5 => ?_)
          have s3 := s3.rw (r' := f ([], [(8, true, n2)]) j2) (fun gu => by rw [hs2 gu]; rfl)
          have pu := (p.mono f1 (n' := n) (fun _ => Nat.le_refl _)).mono f2 (n' := n) (fun _ => Nat.le_refl _)
          refine SM.tell8 hf s3 pu (by omega) (fun _ => by omega) (fun v s4 g4 p4 x4 => hK _ _ (kk ([], [(8, true, n2)]) x5 v j2 B (s4.weak (by omega) (by omega) (by omega)) (fun gv => ⟨gd, by have := hj2 (g4 gv).1; omega, (g4 gv).2⟩) (p4.rw fun _ => ⟨rfl, rfl, hn⟩) (hx5.pgX x4)))
      · exact fnW false _ _ _ ha (by rw [z18 gd, Bool.or_true])
    · subst z
      exact fnW true _ _ _ ha (by rw [← ha]; rfl)
  refine s0.word (by omega) (fun z47 => w58 false ?_) (fun z47 _ => s0.1.rdk1 (fun x3 h3 _ => br_p (fun c3 => s0.1.rdv1 (fun x4 h4 => br_p (fun d18 => s0.1.lineAt1 (by omega) (fun zl => w58 true ?_) (fun zl => w58 false ?_)) (fun d18 => w58 false ?_))) (fun c3 => w58 false ?_)))
  · unfold s_afun; rw [z47 gd]; rfl
  · unfold s_afun
    rw [z47 gd, zl gd]
    unfold t_wd
    rw [h3 gd, c3, show T.2.1 (i + 1) = x4 from h4 gd, d18]; rfl
  · unfold s_afun
    rw [zl gd]; simp
  · unfold s_afun
    have : t_wd T (i + 1) 18 = false := by
      unfold t_wd
      rw [show T.2.1 (i + 1) = x4 from h4 gd, beq_eq_false_iff_ne.mpr d18, Bool.and_false]
    rw [this]; simp
  · unfold s_afun
    have : t_wd T (i + 1) 18 = false := by
      unfold t_wd
      rw [h3 gd, beq_eq_false_iff_ne.mpr c3]; rfl
    rw [this]; simp
end DEFL
