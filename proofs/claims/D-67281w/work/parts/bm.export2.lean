/-! PHASE 4. exportAt() -/
section EXP2
variable {β : Type} {T : sT} {g : Nat} {A0 : cA} {r0 : sR β} {NG : Prop × mmS} {b : Bool} {h : Nat} {A : cA} {m e : Nat} {r r' : sR β} {σ u : mmS} {i c n : Nat} {RQ : List Int32} {LO : List sO} {θ : cTh}
variable {d a : Nat} {Q : mmQ} {Ak Bk : mmS → Prop}
/-- what a module's method answers -/
def MK (T : sT) (g : Nat) (A0 : cA) (r0 : sR β) (NG : Prop × mmS) (h : Nat) (m e : Nat) (f : sM → Nat → sR β) (c : Nat) (RQ : List Int32) (LO : List sO) (P : Prop) (i : Nat) (C : Int32 → mmS → Prop) : Prop :=
  ∀ (v : sM) (n : Int32) (u : mmS) (j : Nat) (B : cA), SM T g A0 r0 NG true h B m e (f v j) u j → (GD u → P ∧ i ≤ j ∧ s_newL LO v.2 = true) → PM c j (v.1.foldl s_rq1 RQ) (LO ++ v.2) u → nid n u → C n u
theorem exp_151 {f : sM → Nat → sR β} {C : Int32 → mmS → Prop} {b0 : Nat} {v : Bool × List (Int32 × Int32)} {wv3 wv4 : Option mmV} {P : Prop} {i0 : Nat} (hd : 8 ≤ d) (hc : c ≤ 4) (hQ : ∀ n u, C n u → Q (.inl (some (.inl n))) u) (hb : b0 < 2 ^ 30) (hlen : GD σ → LO.length = b0 ∧ P ∧ i0 ≤ i) (s0 : SM T g A0 r0 NG b h A m e (s_expB T f v i) σ i) (p : PM c i RQ (LO ++ v.2.map ow1) σ) (hnew : GD σ → s_newL LO (v.2.map ow1) = true)
    (kk : MK T g A0 r0 NG h m e f (c + 1) RQ LO P i0 C) : mm_W mt3039 (MC d) Q (151, [some (.inr (.inr (3, a))), some (.inl (nI b0)), some (.inl (bI v.1)), wv3, wv4], []) σ := by
  refine b3039_151 _ _ _ _ _ _ _ _ ((show SM T g A0 r0 NG b h A m e (s_b (s_nd T 1 i) _) σ i from s0).need (by omega) (fun u s1 f1 _ => ?_))
  have p1 := p.mono f1 (n' := i + 1) (fun _ => Nat.le_succ i)
  have up : ∀ {u : mmS} {n : Nat} {LO : List sO}, PM c n RQ LO u → PM (c + 1) n RQ LO u := fun {u n LO} p => by
    obtain ⟨rq, ni, o, z1, z2, z3⟩ := p
    exact ⟨rq, ni, o, z1, by omega, z3⟩
  refine s1.word (by omega) (fun z48 => ?_) (fun z48 _ => ?_)
  · have s2 := s1.f z48
    refine br_0 (fun zr => ?_) (fun zr => ?_)
    · have s3 := s2.rw (r' := s_b (s_semi T (i + 1)) (fun _ p => f ([], v.2.map ow1) p)) (fun _ => by rw [zr]; rfl)
      refine s3.semi (by omega) (fun u3 j s4 f4 hj => hQ _ _ (kk ([], v.2.map ow1) 0 u3 j A (s4.weak (Nat.le_refl _) (by omega) (Nat.le_refl _)) (fun gu => ?_) (up (p1.mono f4 (fun gu => hj gu))) (nid_0 s4.ci)))
      have gs := f1.1 (f4.1 gu)
      exact ⟨(hlen gs).2.1, by have := hj gu; have := (hlen gs).2.2; omega, hnew gs⟩
    · refine s2.fail (by omega) (fun gu => by rw [zr]; exact run_none) (fun u3 ng s3 f3 => ⟨rfl, ?_⟩)
      have s4 := s3.any ng A (m + 12) e (s_b (s_semi T (i + 1)) (fun _ p => f ([], v.2.map ow1) p)) (i + 1)
      refine s4.semi (by omega) (fun u5 j s5 f5 hj => hQ _ _ (kk ([], v.2.map ow1) 0 u5 j A (s5.weak (Nat.le_refl _) (by omega) (Nat.le_refl _)) (fun gu => absurd (f5.1 gu) ng) (up ((p1.mono f3 (n' := i + 1) (fun _ => Nat.le_refl _)).mono f5 (fun gu => absurd (f5.1 gu) ng))) (nid_0 s5.ci)))
  · have s2 := s1.t z48
    refine s2.fromA p1 (by omega) (by omega) (fun gu => by have := s2.le gu; omega) (fun x w u3 j s3 hg p3 hw => ?_)
    have hno : ¬ GD u3 ∨ GD u3 := (Classical.em (GD u3)).symm
    refine exp_173 (σ := u3) (A := A) (RQ := s_rq1 RQ x) (L1 := LO) (l := v.2) (n := i + 1 + 1) (c := c + 1) (i := j) (b0 := b0) (r := f ([x], v.2.map ow0) j) hw ?_ (fun u4 s4 p4 g4 => hQ _ _ (kk ([x], v.2.map ow0) 0 u4 j A (s4.weak (Nat.le_refl _) (by omega) (Nat.le_refl _)) (fun gu => ?_) (p4.rw fun gu => ⟨rfl, rfl, by have := (hg (g4 gu)).2; omega⟩) (nid_0 s4.ci))) 1310 b0 u3 (by omega) (Or.inl (Nat.le_refl _)) hb s3 ?_ Iff.rfl
    · rcases hno with z | z
      · exact Or.inr z
      · exact Or.inl (hlen (f1.1 (hg z).1)).1
    · have gs := f1.1 (hg (g4 gu)).1
      exact ⟨(hlen gs).2.1, by have := (hg (g4 gu)).2; have := (hlen gs).2.2; omega, by rw [← hnew gs]; exact s_newL_nm (by rw [List.map_map, List.map_map]; rfl) rfl⟩
    · rw [Nat.sub_self, List.take_zero, List.drop_zero, List.map_nil, List.nil_append]
      exact p3
/-- names in brackets -/
theorem exp_loop {f : sM → Nat → sR β} {C : Int32 → mmS → Prop} {b0 : Nat} {P : Prop} {i0 : Nat} (hf : ∀ v j, s_newL LO v.2 = false → f v j = none) (hd : 8 ≤ d) (hc : c ≤ 4) (hQ : ∀ n u, C n u → Q (.inl (some (.inl n))) u) (hb : b0 < 2 ^ 30)
    (kk : MK T g A0 r0 NG h m e f (c + 1) RQ LO P i0 C) : ∀ (q : Nat) (b : Bool) (A : cA) (m' e' j : Nat) (res : Bool) (l : List (Int32 × Int32)) (τ : mmS) (wv3 wv4 : Option mmV), (GD τ → t_e T < q + j) → m ≤ m' → e ≤ e' → (GD τ → LO.length = b0 ∧ P ∧ i0 ≤ j) → (GD τ → s_newL LO (l.map ow1) = true) → PM c j RQ (LO ++ l.map ow1) τ →
    SM T g A0 r0 NG b h A m' e' (s_b (s_expL T q res l j) (fun v k => s_expB T f v k)) τ j → mm_W mt3039 (MC d) Q (77, [some (.inr (.inr (3, a))), some (.inl (nI b0)), some (.inl (bI res)), wv3, wv4], []) τ := by
  intro q
  have fin : ∀ (b : Bool) (A : cA) (m' e' j : Nat) (res : Bool) (l : List (Int32 × Int32)) (τ : mmS) (wv3 wv4 : Option mmV), m ≤ m' → e ≤ e' → (GD τ → LO.length = b0 ∧ P ∧ i0 ≤ j) → (GD τ → s_newL LO (l.map ow1) = true) → PM c j RQ (LO ++ l.map ow1) τ → SM T g A0 r0 NG b h A m' e' (s_expB T f (res, l) j) τ j → mm_W mt3039 (MC d) Q (151, [some (.inr (.inr (3, a))), some (.inl (nI b0)), some (.inl (bI res)), wv3, wv4], []) τ := fun b A m' e' j res l τ wv3 wv4 hm he hl hn p s0 =>
    exp_151 (v := (res, l)) hd hc hQ hb hl s0 p hn (fun v n u j B s1 g1 p1 n1 => kk v n u j B (s1.weak (Nat.le_refl _) hm he) g1 p1 n1)
  induction q with
  | zero =>
    intro b A m' e' j res l τ wv3 wv4 hq hm he hl hn p s0
    refine b3039_77 _ _ _ _ _ _ _ _ (br_p (fun gd => ?_) (fun ng => fin true A m' e' j res l τ _ _ hm he hl hn p (s0.any ng _ _ _ _ _)))
    have := s0.le gd
    have := hq gd
    omega
  | succ q ih =>
    intro b A m' e' j res l τ wv3 wv4 hq hm he hl hn p s0
    refine b3039_77 _ _ _ _ _ _ _ _ (br_p (fun gd => ?_) (fun ng => fin true A m' e' j res l τ _ _ hm he hl hn p (s0.any ng _ _ _ _ _)))
    refine s0.sign (by omega) (fun z => ?_) (fun z _ => fin b A m' e' j res l τ _ _ hm he hl hn p (s0.rw fun gd => by rw [s_expL, z gd, cond_true, s_b_r]))
    -- behind the names
    have w129 : ∀ (x y : Int32) (r2 : Bool) (b : Bool) (m2 e2 k : Nat) (v : mmS) (wv4 : Option mmV), (GD v → j + 1 ≤ k) → m ≤ m2 → e ≤ e2 → PM c j RQ (LO ++ l.map ow1) v → (GD v → r2 = (res || !decide (45 < x))) → SM T g A0 r0 NG b h A m2 e2 (s_b (bif t_sg T k 1 then s_expL T q r2 (l ++ [(y, x)]) k else s_b (s_nd T 9 k) (fun _ r => s_expL T q r2 (l ++ [(y, x)]) r)) (fun v k => s_expB T f v k)) v k →
        mm_W mt3039 (MC d) Q (129, [some (.inr (.inr (3, a))), some (.inl (nI b0)), some (.inl (bI r2)), some (.inl x), wv4], [.inl y, .inr (.inr (3, a))]) v := fun x y r2 b m2 e2 k v wv4 hk hm2 he2 pv hr s1 => by
      refine b3039_129 _ _ _ _ _ _ _ _ _ _ ?_
      have en : s_newL LO ((l ++ [(y, x)]).map ow1) = (s_newL LO (l.map ow1) && s_new1 (LO ++ l.map ow1) (y, decide ((-1 : Int32) < 0), x)) := by
        rw [List.map_append, s_newL_app]
        congr 1
        show (_ && true) = _
        rw [Bool.and_true]; rfl
      refine s1.tell pv (by omega) (fun gv => by have := s1.le gv; have := hk gv; omega) (fun gv hz => ?_) (fun u2 s2 g2 p2 x2 => ?_)
      · have hN : s_newL LO ((l ++ [(y, x)]).map ow1) = false := by rw [en, hz, Bool.and_false]
        have no : ∀ (k : Nat), s_b (s_expL T q r2 (l ++ [(y, x)]) k) (fun v k => s_expB T f v k) = none := fun k => s_b_no fun w k2 α hw => by
          obtain ⟨l', e⟩ := exL_pre _ _ _ _ _ _ _ hw
          exact expB_no hf (by rw [e, List.map_append, s_newL_app, hN]; rfl)
        rw [s_b_if, s_b_b]
        cases t_sg T k 1 with
        | true => rw [cond_true, no]; exact run_none
        | false => rw [cond_false, s_b_no (fun _ k2 _ _ => no k2)]; exact run_none
      · have p3 : PM c (j + 1) RQ (LO ++ (l ++ [(y, x)]).map ow1) u2 := by
          rw [List.map_append, ← List.append_assoc]; exact p2
        have hn3 : GD u2 → s_newL LO ((l ++ [(y, x)]).map ow1) = true := fun gu => by rw [en, hn gd, (g2 gu).2]; rfl
        have hl3 : ∀ k', (GD u2 → k ≤ k') → (GD u2 → LO.length = b0 ∧ P ∧ i0 ≤ k') := fun k' hk' gu => ⟨(hl gd).1, (hl gd).2.1, by have := (hl gd).2.2; have := hk (g2 gu).1; have := hk' gu; omega⟩
        have s3 := s2.rw (r' := bif t_sg T k 1 then s_b (s_expL T q r2 (l ++ [(y, x)]) k) (fun v k => s_expB T f v k) else s_b (s_nd T 9 k) (fun _ r => s_b (s_expL T q r2 (l ++ [(y, x)]) r) (fun v k => s_expB T f v k))) (fun _ => by rw [s_b_if, s_b_b])
        refine s3.sign (by omega) (fun z1 => ?_) (fun z1 _ => ?_)
        · refine (s3.f z1).need (by omega) (fun u4 s4 f4 _ => ?_)
          exact ih true A _ e2 (k + 1) r2 _ u4 _ _ (fun gu => by have := hq gd; have := hk (g2 (f4.1 gu)).1; omega) (by omega) he2 (fun gu => hl3 (k + 1) (fun _ => by omega) (f4.1 gu)) (fun gu => hn3 (f4.1 gu)) (p3.mono f4 (fun gu => by have := hk (g2 (f4.1 gu)).1; omega)) s4
        · exact ih true A m2 e2 k r2 _ u2 _ _ (fun gu => by have := hq gd; have := hk (g2 gu).1; omega) hm2 he2 (hl3 k (fun _ => Nat.le_refl _)) hn3 (p3.rw fun gu => ⟨rfl, rfl, hk (g2 gu).1⟩) (s3.t z1)
    have s1 := s0.rw (r' := s_b (s_word T j) (fun x k => s_b (bif t_wd T k 46 then s_word T (k + 1) else s_r x k) (fun y q' => s_b (bif t_sg T q' 1 then s_expL T q (res || !decide (45 < x)) (l ++ [(y, x)]) q' else s_b (s_nd T 9 q') (fun _ r => s_expL T q (res || !decide (45 < x)) (l ++ [(y, x)]) r)) (fun v k => s_expB T f v k)))) (fun gd => by
      rw [s_expL, z gd, cond_false, s_b_b]
      exact congrArg _ (funext fun x => funext fun k => by rw [s_b_b]))
    refine s1.wordAt (by omega) (fun x u s2 f2 _ => ?_)
    have p2 := p.mono f2 (n' := j) (fun _ => Nat.le_refl _)
    have w109 : ∀ (bb : Bool), bb = !decide (45 < x) → mm_W mt3039 (MC d) Q (109, [some (.inr (.inr (3, a))), some (.inl (nI b0)), some (.inl (bI res)), some (.inl x), wv4], [.inl (bI bb), .inl (bI res)]) u := fun bb hbb => by
      have e1 : bI res ||| bI bb = bI (res || !decide (45 < x)) := by rw [hbb]; cases res <;> cases (!decide (45 < x)) <;> rfl
      refine b3039_109 _ _ _ _ _ _ _ _ _ _ ?_
      rw [e1]
      refine s2.eatWord (by omega) (fun z46 => ?_) (fun u3 z46 s3 f3 => ?_)
      · exact w129 x x _ true _ _ (j + 1) u _ (fun _ => Nat.le_refl _) (by omega) (by omega) p2 (fun _ => rfl) (s2.rw fun gu => by rw [z46 gu, cond_false, s_b_r])
      · have s3 := s3.rw (r' := s_b (s_word T (j + 1 + 1)) (fun y q' => s_b (bif t_sg T q' 1 then s_expL T q (res || !decide (45 < x)) (l ++ [(y, x)]) q' else s_b (s_nd T 9 q') (fun _ r => s_expL T q (res || !decide (45 < x)) (l ++ [(y, x)]) r)) (fun v k => s_expB T f v k))) (fun gu => by rw [z46 (f3.1 gu), cond_true])
        refine s3.wordAt (by omega) (fun y u4 s4 f4 _ => ?_)
        exact w129 x y _ true _ _ (j + 1 + 1 + 1) u4 _ (fun _ => by omega) (by omega) (by omega) ((p2.mono f3 (n' := j) (fun _ => Nat.le_refl _)).mono f4 (fun _ => Nat.le_refl _)) (fun _ => rfl) s4
    refine br_p (fun c45 => w109 false (by rw [decide_eq_true c45]; rfl)) (fun c45 => w109 true (by rw [decide_eq_false c45]; rfl))
end EXP2
