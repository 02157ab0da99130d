/-! PHASE 4. exportAt(): declarations; the whole -/
section EXP3
variable {β : Type} {T : sT} {g : Nat} {A0 : cA} {r0 : sR β} {NG : Prop × mmS} {b : Bool} {h : Nat} {A : cA} {m e : Nat} {r r' : sR β} {σ u : mmS} {i c n : Nat} {RQ : List Int32} {LO : List sO} {θ : cTh}
variable {d a : Nat} {Q : mmQ} {Ak Bk : mmS → Prop}
theorem PM.bd {RQ' : List Int32} {LO' : List sO} {n' : Nat} (p : PM c n RQ LO σ) (ng : ¬ GD σ) : PM c n' RQ' LO' σ := by
  obtain ⟨rq, ni, o, z1, z2, z3⟩ := p
  exact ⟨rq, ni, o, z1, z2, fun gd => absurd gd ng⟩
theorem PM.up (p : PM c n RQ LO σ) : PM (c + 1) n RQ LO σ := by
  obtain ⟨rq, ni, o, z1, z2, z3⟩ := p
  exact ⟨rq, ni, o, z1, by omega, z3⟩
theorem exp_335b {v1 v2 v3 : Int32} {wv4 : Option mmV} (ng : ¬ GD σ) (k : Q (.inl (some (.inl v2))) σ) : mm_W mt3039 (MC d) Q (335, [some (.inr (.inr (3, a))), some (.inl v1), some (.inl v2), some (.inl v3), wv4], []) σ :=
  b3039_335 _ _ _ _ _ _ _ _ (br_p (fun _ => k) (fun _ => br_n ng k))
theorem exp_335 {σ0 : mmS} {lo : Nat} {v1 v2 : Int32} {wv4 : Option mmV} (hlo : 1 ≤ lo) (hd : 108 ≤ d) : ∀ (ds : List (Nat × List Int32)) (x : Int32) (τ : mmS) (LO : List sO) (n : Nat) (b : Bool), rwD σ0 lo ds x → pgX σ0 τ → SM T g A0 r0 NG b h A m e r τ i → PM c n RQ LO τ → (GD τ → n + (ds.flatMap (·.2)).length ≤ 1300) → (GD τ → s_newL LO ((ds.flatMap (·.2)).map tl1) = false → run false A r = none) →
    (∀ u, SM T g A0 r0 NG true h A m e r u i → (GD u → GD τ ∧ s_newL LO ((ds.flatMap (·.2)).map tl1) = true) → PM c (n + (ds.flatMap (·.2)).length) RQ (LO ++ (ds.flatMap (·.2)).map tl1) u → pgX σ0 u → Q (.inl (some (.inl v2))) u) → mm_W mt3039 (MC d) Q (335, [some (.inr (.inr (3, a))), some (.inl v1), some (.inl v2), some (.inl x), wv4], []) τ := by
  intro ds
  induction ds with
  | nil =>
    intro x τ LO n b hr hx s0 p hn hN kk
    refine b3039_335 _ _ _ _ _ _ _ _ (br_y hr (kk τ (s0.weak (Nat.le_refl _) (Nat.le_refl _) (Nat.le_refl _)) (fun gd => ⟨gd, rfl⟩) ?_ hx))
    rw [List.flatMap_nil, List.map_nil, List.append_nil]
    exact p
  | cons y t ih =>
    intro x τ LO n b hr hx s0 p hn hN kk
    obtain ⟨h1, h2, h3, ⟨j, f, h4, h5⟩, h6⟩ := hr
    have f315 : fN τ 315 = fN σ0 315 := fN_eq (hx.1 315 (by decide))
    have hcap := s0.1.cap.1
    have cn := s0.ci.2.1
    by_cases gd : GD τ
    · subst h1
      refine b3039_335 _ _ _ _ _ _ _ _ (br_n (nI_ne0 (by omega) (by omega)) (br_y gd (cn.rdN (by decide) (by omega) ?_)))
      rw [(hx.2 317 (by decide) (Or.inr (by decide))).1, h4]
      rw [List.flatMap_cons, List.length_append] at hn
      refine ((tell_all hlo (Nat.le_refl _) f false 98 j y.2 h5 d τ LO n b (by omega) s0 p hx (fun gd => by have := hn gd; omega) (fun gd hz => hN gd (by rw [List.flatMap_cons, List.map_append, s_newL_app, hz]; rfl))).1 rfl _ _ (fun u q1 q2 q3 q4 => ?_))
      have f315u : fN u 315 = fN σ0 315 := fN_eq (q4.1 315 (by decide))
      refine q1.ci.2.1.rdN (by decide) (by omega) ?_
      rw [(q4.2 322 (by decide) (Or.inr (by decide))).1]
      refine ih _ u (LO ++ y.2.map tl1) (n + y.2.length) true h6 q4 q1 q3 (fun gu => by have := hn (q2 gu).1; omega) (fun gu hz => hN (q2 gu).1 (by rw [List.flatMap_cons, List.map_append, s_newL_app, hz, Bool.and_false])) (fun w z1 z2 z3 z4 => kk w z1 (fun gw => ⟨(q2 (z2 gw).1).1, ?_⟩) ?_ z4)
      · rw [List.flatMap_cons, List.map_append, s_newL_app, (q2 (z2 gw).1).2, (z2 gw).2]; rfl
      · rw [List.flatMap_cons, List.length_append, List.map_append, ← Nat.add_assoc, ← List.append_assoc]; exact z3
    · exact exp_335b gd (kk τ (s0.any gd _ _ _ _ _) (fun z => absurd z gd) (p.bd gd) hx)
/-- how many names an item tells -/
theorem it_len {l : List Int32} {j : Nat} {B : cA} (hr : run false A ((s_lv T 48).2.2.2.2.2.2.1 x_top i) = some (l, j, B)) : l.length + i ≤ j := by
  obtain ⟨α, hα⟩ := run_sm hr
  have := ((gl_lv (T := T) 48).2.2.2.2.2.2.1 x_top i 0 l j α hα).2.2
  simpa using this
theorem fN311 (s0 : SM T g A0 r0 NG b h A m e r σ i) (gd : GD σ) : fN σ 311 = i := by
  show (mm_f σ 311).toNatClampNeg = i
  have := s0.le gd
  rw [(s0.gd gd).2.2.1.1, nI_clamp (by omega)]
theorem SM.item {f : List Int32 → Nat → sR β} {C : Int32 → mmS → Prop} (s0 : SM T g A0 r0 NG false h A m e (s_b ((s_lv T 48).2.2.2.2.2.2.1 x_top i) f) σ i) (hd : 2410 ≤ d) (hm : 24 ≤ m) (hg : g + h ≤ 1370)
    (k : ∀ l j B n u, SM T g A0 r0 NG true h B m e (f l j) u j → Fr (th σ) σ u → (GD u → i + 1 ≤ j) → (GD u → run false A ((s_lv T 48).2.2.2.2.2.2.1 x_top i) = some (l, j, B)) → (GD u → ∃ q, shIt T σ l q n u) → (¬ GD u → nIt T i n u) → C n u) : mm_I (MC d) Q 3065 [.inr (.inr (3, a))] σ C :=
  SM.call (h := h) (c := 0) (s := 1) (m' := m) (e' := e) (bb := false) (Sh' := shIt T) (N' := nIt T i) (r1 := (s_lv T 48).2.2.2.2.2.2.1 x_top) (fun en kk => it48 a d (g + h) A m e i σ C _ hd hg hm en kk) [] s0 (fun z => z) (fun v j B q n u s1 f1 hj hr hs hn => k v j B n u (s1.weak (Nat.le_refl _) (by omega) (Nat.le_refl _)) f1 hj hr (fun gu => ⟨q, hs gu⟩) hn)
/-- an item, and all its names told -/
theorem exp_decl {f : sM → Nat → sR β} {C : Int32 → mmS → Prop} {v1 : Int32} {wv4 : Option mmV} {P : Prop} (hf : ∀ v j, s_newL LO v.2 = false → f v j = none) (hd : 2420 ≤ d) (hm : 24 ≤ m) (hg : g + h ≤ 1370) (hQ : ∀ n u, C n u → Q (.inl (some (.inl n))) u) (hP : GD σ → P)
    (hw : (t_wd T i 33 || t_wd T i 38 || t_wd T i 5) = true) (s0 : SM T g A0 r0 NG false h A m e (s_b ((s_lv T 48).2.2.2.2.2.2.1 x_top i) (fun l k => f (s_told l) k)) σ i) (p : PM c i RQ LO σ)
    (kk : MK T g A0 r0 NG h m e f (c + 1) RQ LO P i C) : mm_I (MC d) Q 3065 [.inr (.inr (3, a))] σ (fun x14 σ13 => mm_L σ13 317 x14 (fun x15 => mm_W mt3039 (MC d) Q (335, [some (.inr (.inr (3, a))), some (.inl v1), some (.inl x14), some (.inl x15), wv4], []) σ13)) := by
  refine s0.item (by omega) hm hg (fun l j B n u s1 f1 hj hr hs hn => ?_)
  have p1 := p.mono f1 (n' := i) (fun _ => Nat.le_refl _)
  by_cases gd : GD u
  · obtain ⟨q, k, k1, k2, k3, k4, k5, k6⟩ := hs gd
    rw [fN311 s0 (f1.1 gd)] at k5
    obtain ⟨ds, d1, d2⟩ := k5 hw
    have hl := it_len (hr gd)
    have hle := s1.le gd
    rw [k1]
    refine s1.ci.2.1.rdN (by decide) k4 ?_
    refine exp_335 (σ0 := u) (lo := fN σ 315) (A := B) (r := f (s_told l) j) k2 (by omega) ds _ u LO i true d1 pgX.rfl' s1 p1 (fun _ => by rw [← d2]; omega) (fun _ hz => by
      rw [← d2] at hz
      rw [hf (s_told l) j hz]; exact run_none) (fun w z1 z2 z3 z4 => ?_)
    rw [← d2] at z2 z3
    refine hQ _ _ (kk (s_told l) (nI k) w j B z1 (fun gw => ⟨hP (f1.1 gd), by have := hj gd; omega, (z2 gw).2⟩) ?_ (nid.pgX (x := nI k) ⟨k, rfl, k4⟩ z4))
    exact (z3.rw fun gw => ⟨rfl, rfl, by omega⟩).up
  · have hnid := hn gd (by rw [hw]; rfl)
    obtain ⟨k, k1, k4⟩ := id hnid
    rw [k1]
    refine s1.ci.2.1.rdN (by decide) k4 (exp_335b gd (hQ _ _ (kk ([], []) (nI k) u j B (s1.any gd _ _ _ _ _) (fun z => absurd z gd) (p1.bd gd).up (by rw [← k1]; exact hnid))))
/-- a function or class of one's own -/
theorem exp_394 {f : sM → Nat → sR β} {C : Int32 → mmS → Prop} {v1 : Int32} {wv2 wv3 wv4 : Option mmV} {P : Prop} (hf : ∀ v j, s_newL LO v.2 = false → f v j = none) (hd : 2420 ≤ d) (hm : 24 ≤ m) (hg : g + h ≤ 1370) (hQ : ∀ n u, C n u → Q (.inl (some (.inl n))) u) (hP : GD σ → P)
    (hw : (t_wd T i 18 || t_wd T i 4 || s_afun T i) = true) (s0 : SM T g A0 r0 NG false h A m e (s_b ((s_lv T 48).2.2.2.2.2.2.1 x_top i) (fun l k => f (s_told l) k)) σ i) (p : PM c i RQ LO σ)
    (kk : MK T g A0 r0 NG h m e f (c + 1) RQ LO P i C) : mm_W mt3039 (MC d) Q (394, [some (.inr (.inr (3, a))), some (.inl v1), wv2, wv3, wv4], []) σ := by
  refine b3039_394 _ _ _ _ _ _ _ _ (s0.item (by omega) hm hg (fun l j B n u s1 f1 hj hr hs hn => ?_))
  have p1 := p.mono f1 (n' := i) (fun _ => Nat.le_refl _)
  have hor : (t_wd T i 33 || t_wd T i 38 || t_wd T i 5 || t_wd T i 18 || t_wd T i 4 || s_afun T i) = true := by
    revert hw
    cases t_wd T i 33 <;> cases t_wd T i 38 <;> cases t_wd T i 5 <;> simp
  refine br_p (fun gd => ?_) (fun gd => ?_)
  · have gd : GD u := gd
    obtain ⟨q, k, k1, k2, k3, k4, k5, k6⟩ := hs gd
    rw [fN311 s0 (f1.1 gd)] at k6
    have k6 := k6 hw
    have hl := it_len (hr gd)
    have hle := s1.le gd
    rw [k1]
    have cn := s1.ci.2.1
    refine cn.rdN (by decide) k4 (cn.rdN (by decide) k4 ?_)
    have e1 : s_newL LO (s_told l).2 = s_new1 LO (mm_a u 317 k, decide ((-1 : Int32) < 0), mm_a u 317 k) := by
      rw [k6]
      show (_ && true) = _
      rw [Bool.and_true]; rfl
    have e2 : (s_told l).2 = [(mm_a u 317 k, decide ((-1 : Int32) < 0), mm_a u 317 k)] := by rw [k6]; rfl
    refine s1.tell p1 (by omega) (fun _ => by omega) (fun _ hz => by rw [hf (s_told l) j (e1.trans hz)]; exact run_none) (fun w z1 z2 z3 z4 => ?_)
    refine hQ _ _ (kk (s_told l) (nI k) w j B z1 (fun gw => ⟨hP (f1.1 gd), by have := hj gd; omega, e1.trans (z2 gw).2⟩) ?_ (nid.pgX (x := nI k) ⟨k, rfl, k4⟩ z4))
    rw [e2]
    exact (z3.rw fun gw => ⟨rfl, rfl, by have := hj gd; omega⟩).up
  · exact hQ _ _ (kk ([], []) n u j B (s1.any gd _ _ _ _ _) (fun z => absurd z gd) (p1.bd gd).up (hn gd hor))
/-- a star -/
theorem exp_37 {f : sM → Nat → sR β} {C : Int32 → mmS → Prop} {v1 v2 : Int32} {wv3 wv4 : Option mmV} {P : Prop} {i0 : Nat} (hf : ∀ v j, s_newL LO v.2 = false → f v j = none) (hd : 8 ≤ d) (hc : c ≤ 4) (hQ : ∀ n u, C n u → Q (.inl (some (.inl n))) u) (hv : v2 = 0 → v1 = -1) (hP : GD σ → P ∧ i0 ≤ i)
    (s0 : SM T g A0 r0 NG b h A m e (s_b (s_from T i) (fun r q => f ([r], [(v1, false, -1)]) q)) σ i) (p : PM c i RQ LO σ) (kk : MK T g A0 r0 NG h m e f (c + 1) RQ LO P i0 C) : mm_W mt3039 (MC d) Q (37, [some (.inr (.inr (3, a))), some (.inl v1), some (.inl v2), wv3, wv4], []) σ := by
  refine b3039_37 _ _ _ _ _ _ _ _ (s0.fromA p (by omega) hc (fun gd => by have := s0.le gd; omega) (fun x w u j s1 hg p1 hw => ?_))
  have tl : mm_V (MC d) Q 3040 [.inr (.inr (3, a)), .inl v1, .inl (-1), .inl w] u (fun σ3 => Q (.inl (some (.inl 0))) σ3) := by
    have ed : GD u → decide (w < 0) = false := fun gu => decide_eq_false (hw gu)
    refine s1.tell p1 (by omega) (fun gu => by have := s1.le gu; have := (hg gu).2; omega) (fun gu hz => ?_) (fun w2 z1 z2 z3 z4 => ?_)
    · rw [ed gu] at hz
      rw [hf ([x], [(v1, false, -1)]) j (by show (s_new1 _ _ && true) = false; rw [hz]; rfl)]
      exact run_none
    · refine hQ _ _ (kk ([x], [(v1, false, -1)]) 0 w2 j A z1 (fun gw => ?_) (z3.rw fun gw => ?_) (nid_0 z1.ci))
      · have := z2 gw
        rw [ed this.1] at this
        exact ⟨(hP (hg this.1).1).1, by have h1 := (hP (hg this.1).1).2; have h2 := (hg this.1).2; omega, by show (s_new1 _ _ && true) = true; rw [this.2]; rfl⟩
      · have := (z2 gw).1
        rw [ed this]
        exact ⟨rfl, rfl, by have := (hg this).2; omega⟩
  refine br_p (fun z => ?_) (fun z => tl)
  have := hv z
  subst this
  exact tl
/-- exportAt() -/
theorem SM.exp {f : sM → Nat → sR β} {C : Int32 → mmS → Prop} (hf : ∀ v j, s_newL LO v.2 = false → f v j = none) (s0 : SM T g A0 r0 NG false (h + 10) A m e (s_b (s_exp T (i + 1)) f) σ i) (nz : NZ T σ) (p : PM c i RQ LO σ) (hd : 2430 ≤ d) (hc : c ≤ 4) (hg : g + h + 10 ≤ 1370) (hm : 24 ≤ m)
    (kk : MK T g A0 r0 NG h m e f (c + 1) RQ LO (GD σ) (i + 1) C) : mm_I (MC d) Q 3039 [.inr (.inr (3, a))] σ C := by
  obtain ⟨d, rfl, hd⟩ := mc_pos (c := 2429) hd
  refine mc_ci (P := mt3039) (L := 5) rfl rfl ⟨by decide, Nat.le_of_ble_eq_true rfl⟩ fun Q2 hK hX => b3039_0 _ _ _ _ _ _ _ _ ?_
  have gd0 : GD σ := s0.1.good.2.1
  have s1 := s0.advE nz
  have f1 : Fr (th σ) σ (mm_setf σ 311 (mm_f σ 311 + 1)) := Fr_adv
  have p1 := p.mono f1 (n' := i + 1) (fun _ => Nat.le_succ i)
  have gd : GD (mm_setf σ 311 (mm_f σ 311 + 1)) := gd0
  generalize mm_setf σ 311 (mm_f σ 311 + 1) = u1 at f1 s1 p1 gd
  have kk1 : ∀ {m' e' h' : Nat}, m ≤ m' → e ≤ e' → h ≤ h' → MK T g A0 r0 NG h' m' e' f (c + 1) RQ LO (GD σ) (i + 1) (fun n u => Q2 (.inl (some (.inl n))) u) := fun hm he hh v n u j B z1 z2 z3 z4 => hK _ _ (kk v n u j B (z1.weak hh hm he) z2 z3 z4)
  refine s1.eat (by omega) (fun z20 => s1.eat (by omega) (fun z0 => ?_) (fun u2 z0 s2 f2 => ⟨s2.hr, ?_⟩)) (fun u2 z20 s2 f2 => ?_)
  · -- default, or a declaration
    have s2 := s1.rw (r' := bif t_wd T (i + 1) 8 then s_b (s_deflt T (i + 1 + 1)) f else bif t_wd T (i + 1) 33 || t_wd T (i + 1) 38 || t_wd T (i + 1) 5 || s_afun T (i + 1) || t_wd T (i + 1) 18 || t_wd T (i + 1) 4 then s_b ((s_lv T 48).2.2.2.2.2.2.1 x_top (i + 1)) (fun l k => f (s_told l) k) else none) (fun _ => by
      unfold s_exp
      rw [z20 gd, z0 gd, cond_false, cond_false, s_b_if, s_b_if, s_b_b]
      congr 2
      exact congrArg _ (funext fun l => funext fun k => s_b_r))
    have c0 : (0 : Int32) = 0 := rfl
    refine s2.eatWordE (by omega) (fun z8 => br_y rfl ?_) (fun u3 z8 s3 f3 => br_n (by decide) ?_)
    · have s3 := s2.f z8
      have w296 : ∀ (asy : Bool), asy = s_afun T (i + 1) → mm_W mt3039 (MC d) Q2 (296, [some (.inr (.inr (3, a))), none, none, none, none], [.inl (bI asy)]) u1 := fun asy ha => by
        have dc : (t_wd T (i + 1) 33 || t_wd T (i + 1) 38 || t_wd T (i + 1) 5) = true → mm_I (MC d) Q2 3065 [.inr (.inr (3, a))] u1 (fun x14 σ13 => mm_L σ13 317 x14 (fun x15 => mm_W mt3039 (MC d) Q2 (335, [some (.inr (.inr (3, a))), some (.inl (bI asy)), some (.inl x14), some (.inl x15), none], []) σ13)) := fun hz => by
          have s4 := s3.t (fun _ => by rw [hz]; rfl)
          exact exp_decl (P := GD σ) hf (by omega) (by omega) (by omega) (fun _ _ z => z) (fun _ => gd0) hz s4 p1 (kk1 (by omega) (by omega) (by omega))
        have fc : (t_wd T (i + 1) 18 || t_wd T (i + 1) 4 || s_afun T (i + 1)) = true → mm_W mt3039 (MC d) Q2 (394, [some (.inr (.inr (3, a))), some (.inl (bI asy)), none, none, none], []) u1 := fun hz => by
          have s4 := s3.t (fun _ => by
            revert hz
            cases t_wd T (i + 1) 18 <;> cases t_wd T (i + 1) 4 <;> cases s_afun T (i + 1) <;> simp)
          exact exp_394 (P := GD σ) hf (by omega) (by omega) (by omega) (fun _ _ z => z) (fun _ => gd0) hz s4 p1 (kk1 (by omega) (by omega) (by omega))
        refine b3039_296 _ _ _ _ _ _ _ _ _ (s3.word (by omega) (fun z33 => s3.word (by omega) (fun z38 => s3.word (by omega) (fun z5 => br_0 (fun za => s3.word (by omega) (fun z18 => s3.word (by omega) (fun z4 => ?_) (fun z4 _ => fc (by rw [z4 gd, Bool.or_true]; rfl))) (fun z18 _ => fc (by rw [z18 gd]; rfl))) (fun za => fc (by rw [← ha, za, Bool.or_true]))) (fun z5 _ => dc (by rw [z5 gd, Bool.or_true]))) (fun z38 _ => dc (by rw [z38 gd, Bool.or_true]; rfl))) (fun z33 _ => dc (by rw [z33 gd]; rfl)))
        refine s3.fail (by omega) (fun _ => by rw [z33 gd, z38 gd, z5 gd, z18 gd, z4 gd, ← ha, za]; exact run_none) (fun u4 ng s4 f4 => ?_)
        exact kk1 (Nat.le_refl _) (Nat.le_refl _) (Nat.le_refl _) ([], []) 0 u4 i A (s4.any ng A m e (f ([], []) i) i |>.weak (by omega) (Nat.le_refl _) (Nat.le_refl _)) (fun z => absurd z ng) ((p1.mono f4 (n' := i + 1) (fun _ => Nat.le_refl _)).bd ng).up (nid_0 s4.ci)
      refine s3.word (by omega) (fun z47 => w296 false ?_) (fun z47 _ => s3.1.rdk1 (fun x3 h3 _ => br_p (fun c3 => b3039_262 _ _ _ _ _ _ _ _ (s3.1.rdv1 (fun x4 h4 => br_p (fun d18 => s3.1.lineAt1 (by omega) (fun zl => w296 true ?_) (fun zl => w296 false ?_)) (fun d18 => w296 false ?_)))) (fun c3 => w296 false ?_)))
      · unfold s_afun; rw [z47 gd]; rfl
      · unfold s_afun
        rw [z47 gd, zl gd]
        unfold t_wd
        rw [h3 gd, c3, show T.2.1 (i + 1 + 1) = x4 from h4 gd, d18]; rfl
      · unfold s_afun
        rw [zl gd]; simp
      · unfold s_afun
        have : t_wd T (i + 1 + 1) 18 = false := by
          unfold t_wd
          rw [show T.2.1 (i + 1 + 1) = x4 from h4 gd, beq_eq_false_iff_ne.mpr d18, Bool.and_false]
        rw [this]; simp
      · unfold s_afun
        have : t_wd T (i + 1 + 1) 18 = false := by
          unfold t_wd
          rw [h3 gd, beq_eq_false_iff_ne.mpr c3]; rfl
        rw [this]; simp
    · have s3 := s3.t (fun gu => z8 (f3.1 gu))
      have p3 := p1.mono f3 (n' := i + 1) (fun _ => Nat.le_refl _)
      exact SM.deflt (m := m + 12) (e := e) (h := h) hf s3 p3 (by omega) (by omega) (by omega) (by omega) (fun v n' u j B q1 q2 q3 q4 => kk1 (h' := h) (m' := m + 12) (by omega) (Nat.le_refl _) (Nat.le_refl _) v n' u j B q1 (fun gu => ⟨gd0, by have := (q2 gu).2.1; omega, (q2 gu).2.2⟩) (q3.rw fun gu => ⟨rfl, rfl, (q2 gu).2.1⟩).up q4)
  · -- names in brackets
    have s3 := s2.rw (r' := s_b (s_expL T (t_e T + 1) false [] (i + 1 + 1)) (fun v k => s_expB T f v k)) (fun gu => by
      unfold s_exp
      rw [z20 gd, z0 gd, cond_false, cond_true, s_b_b]
      refine congrArg _ (funext fun v => funext fun k => ?_)
      unfold s_expB
      rw [s_b_b]
      refine congrArg _ (funext fun _ => funext fun q => ?_)
      rw [s_b_if, s_b_if, s_b_b, s_b_b]
      congr 1
      · exact congrArg _ (funext fun _ => funext fun q => s_b_r)
      · congr 1
        exact congrArg _ (funext fun _ => funext fun q => s_b_r))
    have p3 := p1.mono f2 (n' := i + 1 + 1) (fun _ => Nat.le_succ _)
    obtain ⟨rq, ni, o, z1, z2, z3⟩ := id p3
    rw [z1.2.2.1]
    have hl : GD u2 → LO.length = o.length := fun gu => by rw [← (z3 gu).2.2.2.2, List.length_map]
    exact exp_loop (h := h + 10) (m := m) (e := e) (P := GD σ) (i0 := i + 1) hf (by omega) hc (fun _ _ z => z) (by omega) (kk1 (Nat.le_refl _) (Nat.le_refl _) (by omega)) (t_e T + 1) false A _ _ (i + 1 + 1) false [] u2 none none (fun _ => by omega) (by omega) (by omega) (fun gu => ⟨hl gu, gd0, by omega⟩) (fun _ => rfl) (by rw [List.map_nil, List.append_nil]; exact p3) s3
  · -- a star
    have p2 := p1.mono f2 (n' := i + 1 + 1) (fun _ => Nat.le_succ _)
    have gd2 : GD u2 := s2.1.good.2.1
    have s3 := s2.rw (r' := s_b (bif t_wd T (i + 1 + 1) 46 then s_word T (i + 1 + 2) else s_r (-1) (i + 1 + 1)) (fun x k => s_b (s_from T k) (fun r q => f ([r], [(x, false, -1)]) q))) (fun gu => by
      unfold s_exp
      rw [z20 gd, cond_true, s_b_b]
      exact congrArg _ (funext fun x => funext fun k => by rw [s_b_b]; exact congrArg _ (funext fun _ => funext fun q => s_b_r)))
    refine s3.eatWordE (by omega) (fun z46 => br_y rfl ?_) (fun u3 z46 s4 f4 => br_n (by decide) ?_)
    · have s4 := s3.rw (r' := s_b (s_from T (i + 1 + 1)) (fun r q => f ([r], [(-1, false, -1)]) q)) (fun gu => by rw [z46 gu, cond_false, s_b_r])
      exact exp_37 (h := h + 10) (P := GD σ) (i0 := i + 1) hf (by omega) hc (fun _ _ z => z) (fun _ => rfl) (fun _ => ⟨gd0, by omega⟩) s4 p2 (kk1 (by omega) (by omega) (by omega))
    · have s5 := s4.rw (r' := s_b (s_word T (i + 1 + 1 + 1)) (fun x k => s_b (s_from T k) (fun r q => f ([r], [(x, false, -1)]) q))) (fun gu => by rw [z46 (f4.1 gu), cond_true])
      refine s5.wordAt (by omega) (fun x u5 s6 f6 _ => ?_)
      exact exp_37 (h := h + 10) (P := GD σ) (i0 := i + 1) hf (by omega) hc (fun _ _ z => z) (fun z => absurd z (by decide)) (fun _ => ⟨gd0, by omega⟩) s6 ((p2.mono f4 (n' := i + 1 + 1) (fun _ => Nat.le_refl _)).mono f6 (fun _ => by omega)) (kk1 (by omega) (by omega) (by omega))
end EXP3
