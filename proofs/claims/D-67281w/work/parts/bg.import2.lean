/-! PHASE 4. importAt() -/
section IMP2
variable {β : Type} {T : sT} {g : Nat} {A0 : cA} {r0 : sR β} {NG : Prop × mmS} {b : Bool} {h : Nat} {A : cA} {m e : Nat} {r r' : sR β} {σ u : mmS} {i c n : Nat} {RQ : List Int32} {LO : List sO} {θ : cTh}
variable {d a : Nat} {Q : mmQ} {Ak Bk : mmS → Prop}
theorem SM.le (s0 : SM T g A0 r0 NG b h A m e r σ i) (gd : GD σ) : i ≤ t_e T ∧ t_e T < 1262 := ⟨(s0.gd gd).2.2.1.2, s0.ci.1.2.2.2.2.2.2.2.1⟩
theorem SM.hr (s0 : SM T g A0 r0 NG b h A m e r σ i) : (mm_r σ 302).1 = 2 := s0.ci.1.2.2.2.2.2.2.2.2.2.1.2.1
theorem PM.pg2 {s k : Nat} {x : Int32} (p : PM c n RQ LO σ) (hs : s = 217) : PM c n RQ LO (mm_seta σ s k x) := by
  subst hs
  obtain ⟨rq, ni, o, ⟨⟨p1, p2, p3⟩, ⟨p4, p5⟩, p6, p7, p8⟩, z2, z3⟩ := p
  exact ⟨rq, ni, o, ⟨⟨p1, p2, fun j hj => by rw [a_seta_n (by decide)]; exact p3 j hj⟩, ⟨p4, p5⟩, p6, p7, fun j hj => by rw [a_seta_n (by decide)]; exact p8 j hj⟩, z2, z3⟩
theorem imp_230 {v1 v2 v3 : Int32} (hc : c ≤ 5) (kk : ∀ u, SM T g A0 r0 NG b h A m e r u i → PM c n RQ LO u → (GD u → GD σ) → Q (.inl none) u) : ∀ (f q : Nat) (τ : mmS), 1310 ≤ f + q → q < 2 ^ 30 → SM T g A0 r0 NG b h A m e r τ i → PM c n RQ LO τ → (GD τ → GD σ) → mm_W mt3019 (MC d) Q (230, [some (.inr (.inr (3, a))), some (.inl v1), some (.inl v2), some (.inl v3), some (.inl (nI q))], []) τ := by
  intro f
  induction f with
  | zero =>
    intro q τ hf hq s0 p hg
    refine b3019_230 _ _ _ _ _ _ _ _ ⟨s0.hr, br_n (fun z => ?_) (kk τ s0 p hg)⟩
    obtain ⟨rq, ni, o, z1, z2, z3⟩ := p
    rw [z1.2.1.1] at z
    have := (nI_lt_iff (by omega) (by omega)).mp z
    omega
  | succ f ih =>
    intro q τ hf hq s0 p hg
    refine b3019_230 _ _ _ _ _ _ _ _ ⟨s0.hr, br_p (fun z => ⟨s0.hr, ?_⟩) (fun _ => kk τ s0 p hg)⟩
    obtain ⟨rq, ni, o, z1, z2, z3⟩ := id p
    rw [z1.2.1.1] at z
    have hlt := (nI_lt_iff (by omega) (by omega)).mp z
    have n7 : mm_n τ 217 < 2 ^ 31 := by have := s0.ci.2.2.2.2.2.2.1.2.2.2.2.2.2.2.2.1; omega
    have hl := z1.2.1.2
    rw [nI_3]
    refine wr (σ := τ) (n := mm_n τ 217) rfl (by omega) n7 ?_
    rw [nI_1]
    exact ih (q + 1) _ (by omega) (by omega) (s0.pg (pgR.seta (s := 217) rfl) (s0.ci.seta rfl)) (p.pg2 rfl) hg
/-- from, and what is asked is told where it comes from -/
theorem imp_from {v2 : Int32} {b0 : Nat} {f : sM → Nat → sR β} (hd : 8 ≤ d) (hc : c ≤ 4) (hb : b0 < 2 ^ 30) (s0 : SM T g A0 r0 NG b h A m e (s_b (s_from T i) (fun x q => f ([x], []) q)) σ i) (p : PM c i RQ LO σ)
    (kk : ∀ v u j, SM T g A0 r0 NG true h A m e (f v j) u j → (GD u → GD σ ∧ i + 1 ≤ j) → PM (c + 1) j (v.1.foldl s_rq1 RQ) (LO ++ v.2) u → Q (.inl none) u) :
    mm_I (MC d) Q 3038 [.inr (.inr (3, a))] σ (fun x1 σ1 => mm_W mt3019 (MC d) Q (230, [some (.inr (.inr (3, a))), some (.inl (nI b0)), some (.inl v2), some (.inl x1), some (.inl (nI b0))], []) σ1) := by
  refine s0.fromA p (by omega) (by omega) (fun gd => by have := s0.le gd; omega) (fun x v u j s1 hg p1 _ => ?_)
  refine imp_230 (σ := u) (A := A) (RQ := s_rq1 RQ x) (LO := LO) (n := i + 1) (c := c + 1) (i := j) (r := f ([x], []) j) (by omega) (fun w s2 p2 gg => kk ([x], []) w j s2 (fun gw => ⟨(hg (gg gw)).1, by have := (hg (gg gw)).2; omega⟩) ?_) 1310 b0 u (by omega) hb s1 p1 id
  rw [List.append_nil]
  refine p2.mono (θ := (0, 0, 0, 0)) Fr.rfl' (fun gw => ?_)
  have := (hg (gg gw)).2
  omega
/-- behind { -/
theorem imp_loop {v2 : Int32} {b0 : Nat} {f : sM → Nat → sR β} (hd : 8 ≤ d) (hc : c ≤ 4) (hb : b0 < 2 ^ 30)
    (kk : ∀ v u j B, SM T g A0 r0 NG true h B m e (f v j) u j → (GD u → GD σ ∧ i + 1 ≤ j) → PM (c + 1) j (v.1.foldl s_rq1 RQ) (LO ++ v.2) u → Q (.inl none) u) : ∀ (q : Nat) (b : Bool) (A : cA) (m' e' j : Nat) (τ : mmS) (wv3 wv4 : Option mmV), (GD τ → t_e T < q + j) → m ≤ m' → e ≤ e' → (GD τ → GD σ ∧ i ≤ j) → PM c j RQ LO τ →
    SM T g A0 r0 NG b h A m' e' (s_b (s_impL T q j) (fun _ k => s_b (s_nd T 1 k) (fun _ k => s_b (s_from T k) (fun x q => f ([x], []) q)))) τ j → mm_W mt3019 (MC d) Q (139, [some (.inr (.inr (3, a))), some (.inl (nI b0)), some (.inl v2), wv3, wv4], []) τ := by
  intro q
  have fin : ∀ (b : Bool) (A : cA) (m' e' j : Nat) (τ : mmS), m ≤ m' → e ≤ e' → (GD τ → GD σ ∧ i ≤ j) → PM c j RQ LO τ → SM T g A0 r0 NG b h A m' e' (s_b (s_nd T 1 j) (fun _ k => s_b (s_from T k) (fun x q => f ([x], []) q))) τ j → mm_V (MC d) Q 3036 [.inr (.inr (3, a)), .inl 1] τ (fun σ16 => mm_I (MC d) Q 3038 [.inr (.inr (3, a))] σ16 (fun x18 σ17 => mm_W mt3019 (MC d) Q (230, [some (.inr (.inr (3, a))), some (.inl (nI b0)), some (.inl v2), some (.inl x18), some (.inl (nI b0))], []) σ17)) := fun b A m' e' j τ hm he hg p s0 => by
    refine s0.need (by omega) (fun u s1 f1 _ => ?_)
    exact imp_from hd hc hb s1 (p.mono f1 (fun _ => Nat.le_succ j)) (fun v w j2 s2 g2 p2 => kk v w j2 A (s2.weak (Nat.le_refl _) (by omega) he) (fun gw => ⟨(hg (f1.1 (g2 gw).1)).1, by have := (hg (f1.1 (g2 gw).1)).2; have := (g2 gw).2; omega⟩) p2)
  induction q with
  | zero =>
    intro b A m' e' j τ wv3 wv4 hq hm he hg p s0
    refine b3019_139 _ _ _ _ _ _ _ _ (br_p (fun gd => ?_) (fun ng => fin true A m' e' j τ hm he hg p (s0.any ng _ _ _ _ _)))
    have := s0.le gd
    have := hq gd
    omega
  | succ q ih =>
    intro b A m' e' j τ wv3 wv4 hq hm he hg p s0
    refine b3019_139 _ _ _ _ _ _ _ _ (br_p (fun gd => ?_) (fun ng => fin true A m' e' j τ hm he hg p (s0.any ng _ _ _ _ _)))
    -- behind a name
    have nx : ∀ (b : Bool) (A : cA) (m2 e2 k : Nat) (v : mmS) (w3 : Option Int32) (wv4 : Option mmV), (GD v → j + 1 ≤ k) → m ≤ m2 → e ≤ e2 → PM c k RQ LO v → SM T g A0 r0 NG b h A m2 e2 (s_b (bif t_sg T k 1 then s_impL T q k else s_b (s_nd T 9 k) (fun _ r => s_impL T q r)) (fun _ k => s_b (s_nd T 1 k) (fun _ k => s_b (s_from T k) (fun x q => f ([x], []) q)))) v k → ∀ x3 : Int32, mm_W mt3019 (MC d) Q (200, [some (.inr (.inr (3, a))), some (.inl (nI b0)), some (.inl v2), some (.inl x3), wv4], []) v := fun b A m2 e2 k v w3 wv4 hk hm2 he2 pv s1 x3 => by
      have s1 := s1.rw (r' := bif t_sg T k 1 then s_b (s_impL T q k) (fun _ k => s_b (s_nd T 1 k) (fun _ k => s_b (s_from T k) (fun x q => f ([x], []) q))) else s_b (s_nd T 9 k) (fun _ r => s_b (s_impL T q r) (fun _ k => s_b (s_nd T 1 k) (fun _ k => s_b (s_from T k) (fun x q => f ([x], []) q))))) (fun _ => by rw [s_b_if, s_b_b])
      have hgv : GD v → GD σ ∧ i ≤ k := fun gv => ⟨(hg gd).1, by have := (hg gd).2; have := hk gv; omega⟩
      refine b3019_200 _ _ _ _ _ _ _ _ (s1.sign (by omega) (fun z => ?_) (fun z _ => ?_))
      · refine (s1.f z).need (by omega) (fun u s2 f2 _ => ?_)
        exact ih true A _ e2 (k + 1) u _ _ (fun gu => by have := hq gd; have := hk (f2.1 gu); omega) (by omega) he2 (fun gu => ⟨(hgv (f2.1 gu)).1, by have := (hgv (f2.1 gu)).2; omega⟩) (pv.mono f2 (fun _ => Nat.le_succ k)) s2
      · exact ih b A m2 e2 k v _ _ (fun gu => by have := hq gd; have := hk gu; omega) hm2 he2 hgv pv (s1.t z)
    refine s0.sign (by omega) (fun z => ?_) (fun z _ => ?_)
    · have s1 := s0.rw (r' := s_b (s_word T j) (fun x k => s_b (bif t_wd T k 46 then s_bring T (k + 1) else bif decide (45 < x) then s_w (sA_ev 1 x) () k else none) (fun _ q' => s_b (bif t_sg T q' 1 then s_impL T q q' else s_b (s_nd T 9 q') (fun _ r => s_impL T q r)) (fun _ k => s_b (s_nd T 1 k) (fun _ k => s_b (s_from T k) (fun x q => f ([x], []) q)))))) (fun gd => by
        rw [s_impL, z gd, cond_false, s_b_b]
        exact congrArg _ (funext fun x => funext fun k => by rw [s_b_b]))
      refine s1.wordAt (by omega) (fun x u s2 f2 _ => ?_)
      have p2 := p.mono f2 (n' := j) (fun _ => Nat.le_refl _)
      refine s2.eatWord (by omega) (fun z46 => ?_) (fun u3 z46 s3 f3 => ?_)
      · have s2 := s2.rw (r' := s_b (bif decide (45 < x) then s_w (sA_ev 1 x) () (j + 1) else none) (fun _ q' => s_b (bif t_sg T q' 1 then s_impL T q q' else s_b (s_nd T 9 q') (fun _ r => s_impL T q r)) (fun _ k => s_b (s_nd T 1 k) (fun _ k => s_b (s_from T k) (fun x q => f ([x], []) q))))) (fun gu => by rw [z46 gu]; rfl)
        refine br_p (fun c45 => ?_) (fun c45 => ?_)
        · have s3 := s2.rw (r' := s_b (s_w (sA_ev 1 x) () (j + 1)) (fun _ q' => s_b (bif t_sg T q' 1 then s_impL T q q' else s_b (s_nd T 9 q') (fun _ r => s_impL T q r)) (fun _ k => s_b (s_nd T 1 k) (fun _ k => s_b (s_from T k) (fun x q => f ([x], []) q))))) (fun gu => by rw [decide_eq_true c45]; rfl)
          refine s3.bring p2 (by omega) (fun gu => by have := s2.le gu; omega) (by omega) (fun u4 B s4 g4 p4 => ?_)
          exact nx true B _ e' (j + 1) u4 none _ (fun _ => Nat.le_refl _) (by omega) he p4 s4 x
        · refine s2.fail (by omega) (fun gu => by rw [decide_eq_false c45]; exact run_none) (fun u4 ng s4 f4 => ⟨rfl, ?_⟩)
          exact nx true A (m' + 12) e' (j + 1) u4 none _ (fun z => absurd z ng) (by omega) he (p2.mono f4 (fun z => absurd z ng)) (s4.any ng _ _ _ _ _) x
      · have s3 := s3.rw (r' := s_b (s_ident T (j + 1 + 1)) (fun y k => s_b (s_w (sA_ev 1 y) () k) (fun _ q' => s_b (bif t_sg T q' 1 then s_impL T q q' else s_b (s_nd T 9 q') (fun _ r => s_impL T q r)) (fun _ k => s_b (s_nd T 1 k) (fun _ k => s_b (s_from T k) (fun x q => f ([x], []) q)))))) (fun gu => by rw [z46 (f3.1 gu), cond_true, s_bring, s_b_b])
        refine s3.ident (by omega) (fun y u4 s4 f4 => ?_)
        have p4 := (p2.mono f3 (n' := j) (fun _ => Nat.le_refl _)).mono f4 (n' := j) (fun _ => Nat.le_refl _)
        refine s4.bring p4 (by omega) (fun gu => by have := s4.le gu; omega) (by omega) (fun u5 B s5 g5 p5 => ?_)
        exact nx true B _ (e' + 1) _ u5 none _ (fun _ => by omega) (by omega) (by omega) (p5.mono (θ := (0, 0, 0, 0)) Fr.rfl' (fun _ => by omega)) s5 x
    · exact fin b A m' e' j τ hm he hg p (s0.rw fun gd => by rw [s_impL, z gd, cond_true, s_b_r])
/-- what is behind the first name, or at once -/
def s_imp2 (T : sT) (f : sM → Nat → sR β) (more : Bool) (j : Nat) : sR β := s_b (bif more && t_sg T j 20 then s_b (s_nw T 46 (j + 1)) (fun _ k => s_bring T k) else
      bif more then s_b (s_nd T 0 j) (fun _ k => s_b (s_impL T (t_e T + 1) k) (fun _ q => s_nd T 1 q)) else s_r () j) (fun _ k => s_b (s_from T k) (fun x q => f ([x], []) q))
theorem imp_99 {more : Bool} {b0 : Nat} {wv3 wv4 : Option mmV} {f : sM → Nat → sR β} (hd : 8 ≤ d) (hc : c ≤ 4) (hb : b0 < 2 ^ 30) (s0 : SM T g A0 r0 NG b h A m e (s_imp2 T f more i) σ i) (p : PM c i RQ LO σ)
    (kk : ∀ v u j B, SM T g A0 r0 NG true h B m e (f v j) u j → (GD u → GD σ ∧ i + 1 ≤ j) → PM (c + 1) j (v.1.foldl s_rq1 RQ) (LO ++ v.2) u → Q (.inl none) u) :
    mm_W mt3019 (MC d) Q (99, [some (.inr (.inr (3, a))), some (.inl (nI b0)), some (.inl (bI more)), wv3, wv4], []) σ := by
  have w130 : (GD σ → (more && t_sg T i 20) = false) → mm_W mt3019 (MC d) Q (130, [some (.inr (.inr (3, a))), some (.inl (nI b0)), some (.inl (bI more)), wv3, wv4], []) σ := fun hz => by
    have s1 := s0.rw (r' := s_b (bif more then s_b (s_nd T 0 i) (fun _ k => s_b (s_impL T (t_e T + 1) k) (fun _ q => s_nd T 1 q)) else s_r () i) (fun _ k => s_b (s_from T k) (fun x q => f ([x], []) q))) (fun gd => by unfold s_imp2; rw [hz gd, cond_false])
    refine b3019_130 _ _ _ _ _ _ _ _ (br_0 (fun z => ?_) (fun z => ?_))
    · exact imp_from hd hc hb (s1.rw fun _ => by rw [z, cond_false, s_b_r]) p (fun v w j2 s2 g2 p2 => kk v w j2 A s2 g2 p2)
    · have s2 := s1.rw (r' := s_b (s_nd T 0 i) (fun _ k => s_b (s_impL T (t_e T + 1) k) (fun _ k => s_b (s_nd T 1 k) (fun _ k => s_b (s_from T k) (fun x q => f ([x], []) q))))) (fun _ => by rw [z, cond_true, s_b_b]; exact congrArg _ (funext fun _ => funext fun k => by rw [s_b_b]))
      refine s2.need (by omega) (fun u s3 f3 _ => ?_)
      exact imp_loop (σ := σ) (i := i) (m := m) (e := e) hd hc hb kk (t_e T + 1) true A _ e (i + 1) u _ _ (fun _ => by omega) (by omega) (Nat.le_refl _) (fun gu => ⟨f3.1 gu, Nat.le_succ i⟩) (p.mono f3 (fun _ => Nat.le_succ i)) s3
  refine b3019_99 _ _ _ _ _ _ _ _ (br_0 (fun z => w130 fun _ => by rw [z]; rfl) (fun z => s0.eat (by omega) (fun z20 => w130 fun gd => by rw [z20 gd, Bool.and_false]) (fun u z20 s1 f1 => ?_)))
  have s2 := s1.rw (r' := s_b (s_nw T 46 (i + 1)) (fun _ k => s_b (s_ident T k) (fun x k => s_b (s_w (sA_ev 1 x) () k) (fun _ k => s_b (s_from T k) (fun x q => f ([x], []) q))))) (fun gu => by
    unfold s_imp2
    rw [z, z20 (f1.1 gu), Bool.true_and, cond_true, s_b_b]
    exact congrArg _ (funext fun _ => funext fun k => by rw [s_bring, s_b_b]))
  refine s2.needWord (by omega) (fun u3 s3 f3 => s3.ident (by omega) (fun x u4 s4 f4 => ?_))
  have p4 := ((p.mono f1 (n' := i) (fun _ => Nat.le_refl _)).mono f3 (n' := i) (fun _ => Nat.le_refl _)).mono f4 (n' := i) (fun _ => Nat.le_refl _)
  refine s4.bring p4 (by omega) (fun gu => by have := s4.le gu; omega) (by omega) (fun u5 B s5 g5 p5 => ?_)
  exact imp_from hd hc hb s5 (p5.mono (θ := (0, 0, 0, 0)) Fr.rfl' (fun _ => by omega)) (fun v w j2 s6 g6 p6 => kk v w j2 B (s6.weak (Nat.le_refl _) (by omega) (Nat.le_refl _)) (fun gw => ⟨f1.1 (f3.1 (f4.1 (g5 (g6 gw).1))), by have := (g6 gw).2; omega⟩) p6)
/-- importAt() -/
theorem SM.imp {f : sM → Nat → sR β} {C : mmS → Prop} (s0 : SM T g A0 r0 NG b h A m e (s_b (s_imp T (i + 1)) f) σ i) (nz : NZ T σ) (p : PM c i RQ LO σ) (hd : 9 ≤ d) (hc : c ≤ 4)
    (kk : ∀ v u j B, SM T g A0 r0 NG true h B m e (f v j) u j → (GD u → GD σ ∧ i + 1 ≤ j) → PM (c + 1) j (v.1.foldl s_rq1 RQ) (LO ++ v.2) u → C u) : mm_V (MC d) Q 3019 [.inr (.inr (3, a))] σ C := by
  obtain ⟨d, rfl, hd⟩ := mc_pos hd
  refine mc_cv (P := mt3019) (L := 5) rfl rfl ⟨by decide, Nat.le_of_ble_eq_true rfl⟩ fun Q2 hK hX => b3019_0 _ _ _ _ _ _ _ _ ?_
  have f1 : Fr (th σ) σ (mm_setf σ 311 (mm_f σ 311 + 1)) := Fr_adv
  have s1 := s0.adv nz
  have p1 := p.mono f1 (n' := i) (fun _ => Nat.le_refl _)
  obtain ⟨rq, ni, o, y1, y2, y3⟩ := id p1
  have hb0 : mm_f (mm_setf σ 311 (mm_f σ 311 + 1)) 218 = nI ni := y1.2.1.1
  generalize mm_setf σ 311 (mm_f σ 311 + 1) = u1 at f1 s1 p1 hb0
  refine s1.1.rdk (fun x1 h1 nz1 => br_p (fun c6 => ?_) (fun c6 => ⟨s1.hr, ?_⟩))
  · have s2 := (s1.adv (nz1 (by rw [c6]; decide))).rw (r' := s_b (s_semi T (i + 1 + 1)) (fun _ k => f ([t_v T (i + 1)], []) k)) (fun gd => by
      have gd : GD u1 := gd
      unfold s_imp t_kd
      rw [h1 gd, c6]
      show s_b (s_b (s_semi T (i + 1 + 1)) (fun _ k => s_r ([t_v T (i + 1)], []) k)) f = _
      rw [s_b_b]
      exact congrArg _ (funext fun _ => funext fun k => s_b_r))
    obtain ⟨q, q1, q2, q3⟩ := s1.1.p
    have e1 : mm_f (mm_setf u1 311 (mm_f u1 311 + 1)) 311 - 1 = nI q := by rw [f_same, q1, nI_1, nI_pred]
    rw [e1]
    refine s2.ci.1.v (by omega) ?_
    have p2 := p1.mono (Fr_adv (x := mm_f u1 311 + 1)) (n' := i) (fun _ => Nat.le_refl _)
    refine s2.request p2 (by omega) (by omega) (fun gd => by have := s2.le gd; omega) (fun v u3 s3 g3 p3 hv => ⟨rfl, ?_⟩)
    refine s3.semi (by omega) (fun u4 j s4 f4 hj => hK _ (kk ([t_v T (i + 1)], []) u4 j A (s4.weak (Nat.le_refl _) (by omega) (Nat.le_refl _)) (fun gd => ⟨f1.1 (Fr_adv.1 (g3 (f4.1 gd))), by have := hj gd; omega⟩) ?_))
    have p4 := p3.mono f4 (n' := j) (fun gd => by have := hj gd; omega)
    rw [List.append_nil]
    obtain ⟨rq, ni, o, z1, z2, z3⟩ := p4
    refine ⟨rq, ni, o, z1, z2, fun gd => ?_⟩
    have e : q = i + 1 := q3 (Fr_adv.1 (g3 (f4.1 gd)))
    have := z3 gd
    rw [e] at this
    exact this
  · have s1 := s1.rw (r' := s_b (bif t_sg T (i + 1) 20 || t_sg T (i + 1) 0 then s_r true (i + 1) else s_b (s_bring T (i + 1)) (fun _ k => bif t_sg T k 9 then s_r true (k + 1) else s_r false k)) (fun more j => s_imp2 T f more j)) (fun gd => by
      unfold s_imp t_kd
      rw [h1 gd, beq_eq_false_iff_ne.mpr c6, cond_false, s_b_b]
      refine congrArg _ (funext fun more => funext fun j => ?_)
      unfold s_imp2
      rw [s_b_b]
      exact congrArg _ (funext fun _ => funext fun k => by rw [s_b_b]; exact congrArg _ (funext fun _ => funext fun q => s_b_r)))
    have w99 : (GD u1 → (t_sg T (i + 1) 20 || t_sg T (i + 1) 0) = true) → mm_W mt3019 (MC d) Q2 (99, [some (.inr (.inr (3, a))), some (.inl (mm_f u1 218)), some (.inl 1), none, none], []) u1 := fun hz => by
      have s2 := s1.rw (r' := s_imp2 T f true (i + 1)) (fun gd => by rw [hz gd, cond_true, s_b_r])
      rw [hb0]
      exact imp_99 (more := true) (by omega) hc (by omega) s2 (p1.mono (θ := (0, 0, 0, 0)) Fr.rfl' (fun _ => Nat.le_succ i)) (fun v w j B s3 g3 p3 => hK _ (kk v w j B (s3.weak (Nat.le_refl _) (by omega) (Nat.le_refl _)) (fun gw => ⟨f1.1 (g3 gw).1, by have := (g3 gw).2; omega⟩) p3))
    refine s1.sign (by omega) (fun z20 => s1.sign (by omega) (fun z0 => ?_) (fun z0 _ => w99 fun gd => by rw [z0 gd, Bool.or_true])) (fun z20 _ => w99 fun gd => by rw [z20 gd]; rfl)
    have s2 := s1.rw (r' := s_b (s_ident T (i + 1)) (fun x k => s_b (s_w (sA_ev 1 x) () k) (fun _ k => s_b (bif t_sg T k 9 then s_r true (k + 1) else s_r false k) (fun more j => s_imp2 T f more j)))) (fun gd => by
      rw [z20 gd, z0 gd]
      show s_b (s_b (s_bring T (i + 1)) _) _ = _
      rw [s_b_b, s_bring, s_b_b])
    refine s2.ident (by omega) (fun x u3 s3 f3 => ?_)
    have p3 := p1.mono f3 (n' := i) (fun _ => Nat.le_refl _)
    refine s3.bring p3 (by omega) (fun gu => by have := s3.le gu; omega) (by omega) (fun u4 B s4 g4 p4 => ?_)
    refine c_eat (by omega) s4.ci.1 s4.1.p.choose_spec.1 (by have := s4.1.p.choose_spec.2.1; omega) (fun z9 => ?_) (fun z9 => ?_)
    · have s5 := s4.rw (r' := s_imp2 T f false (i + 1 + 1)) (fun gd => by
        have := s4.1.p.choose_spec.2.2 gd
        rw [this] at z9
        rw [z9, cond_false, s_b_r])
      rw [hb0]
      exact imp_99 (more := false) (by omega) hc (by omega) s5 (p4.mono (θ := (0, 0, 0, 0)) Fr.rfl' (fun _ => by omega)) (fun v w j B s6 g6 p6 => hK _ (kk v w j B (s6.weak (Nat.le_refl _) (by omega) (by omega)) (fun gw => ⟨f1.1 (f3.1 (g4 (g6 gw).1)), by have := (g6 gw).2; omega⟩) p6))
    · have q1 := s4.1.p.choose_spec.1
      have s5 := s4.adv (NZ_sg s4.ci q1 z9)
      rw [q1, ← nI_succ] at s5
      have s6 := s5.rw (r' := s_imp2 T f true (i + 1 + 1 + 1)) (fun gd => by
        have := s4.1.p.choose_spec.2.2 gd
        rw [this] at z9
        rw [z9, cond_true, s_b_r])
      rw [hb0]
      have f5 : Fr (th u4) u4 (mm_setf u4 311 (nI (s4.1.p.choose + 1))) := Fr_adv
      exact imp_99 (more := true) (by omega) hc (by omega) s6 (p4.mono f5 (fun _ => by omega)) (fun v w j B s7 g7 p7 => hK _ (kk v w j B (s7.weak (Nat.le_refl _) (by omega) (by omega)) (fun gw => ⟨f1.1 (f3.1 (g4 (f5.1 (g7 gw).1))), by have := (g7 gw).2; omega⟩) p7))
end IMP2
