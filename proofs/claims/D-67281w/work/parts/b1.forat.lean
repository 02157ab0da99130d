/-! PHASE 3. forAt() -/
/-- behind an expression; c6: async of, c7: a pattern's sign -/
def s_forX (T : sT) (E : sE) (x : sX) (c6 c7 : Bool) (j : Nat) (n : sN) (k : Nat) : sR Unit := bif t_oi T k then (bif (t_wd T k 50 && c6 && k == j + 1) || n.1 == 29 || n.1 == 28 || (!c7 && !n_si n) then none else s_aim n k (fun _ m => s_feach T E x m)) else s_fplain T E x k
/-- behind var, let, const -/
def s_forD (T : sT) (E : sE) (x : sX) (as : Nat) (cst : Bool) (j : Nat) : sR Unit := s_b (s_bind T E x.1 as j) (fun b k => bif t_oi T k then s_feach T E x k else s_b (s_ini T E x.1 cst false b.1 k) (fun _ m => s_b (s_decT T E x.1 as cst false (t_e T + 1) [] m) (fun _ q => s_fplain T E x q)))
def s_forB (T : sT) (E : sE) (x : sX) (j : Nat) : sR Unit := bif t_wd T j 33 || t_wd T j 38 || t_wd T j 5 then s_forD T E x (bif t_wd T j 33 then 0 else 1) (t_wd T j 5) (j + 1) else bif t_sg T j 8 then s_fplain T E x j else s_b (s_expr T E x.1 false j) (fun n k => s_forX T E x (t_wd T j 47 && t_wd T (j + 1) 50 && !t_ar T (j + 2)) (t_sg T j 4 || t_sg T j 0) j n k)
theorem s_dec_un {T : sT} {E : sE} {cx : sC} {as f : Nat} {cst inn : Bool} {m : Nat} {F : Unit → Nat → sR Unit} : s_b (bif t_sg T m 9 then s_b (s_decL T E cx as cst inn f [] (m + 1)) (fun _ q => s_r () q) else s_r () m) F = s_b (s_decT T E cx as cst inn f [] m) (fun _ q => F () q) := by
  unfold s_decT
  cases t_sg T m 9 with
  | true => rw [cond_true, cond_true, s_b_un]
  | false => rw [cond_false, cond_false, s_b_r, s_b_r]
theorem s_for_eq {T : sT} {E : sE} {x : sX} {i : Nat} : s_for T E x i = s_b (s_nd T 2 i) (fun _ j => s_blk (s_forB T E x j)) := by
  unfold s_for
  rw [s_blk_nd]
  refine congrArg _ (funext fun _ => funext fun j => congrArg _ ?_)
  unfold s_forB
  have e1 : ∀ (as : Nat), s_b (s_bind T E x.1 as (j + 1)) (fun b k => bif t_oi T k then s_feach T E x k else
      s_b (bif t_sg T k 40 then s_b (E.1 x.1 false (k + 1)) (fun _ m => s_r () m) else bif t_wd T j 5 || !b.1 then none else s_r () k) (fun _ m =>
        s_b (bif t_sg T m 9 then s_b (s_decL T E x.1 as (t_wd T j 5) false (t_e T + 1) [] (m + 1)) (fun _ q => s_r () q) else s_r () m) (fun _ q => s_fplain T E x q))) = s_forD T E x as (t_wd T j 5) (j + 1) := fun as => by
    unfold s_forD
    refine congrArg _ (funext fun b => funext fun k => congrArg (cond _ _) ?_)
    exact congrArg (s_b _) (funext fun _ => funext fun m => s_dec_un)
  rw [← e1]
  refine congrArg (cond _ _) (congrArg (cond _ _) (congrArg (s_b _) (funext fun n => funext fun k => ?_)))
  unfold s_forX
  rw [show (t_wd T k 50 && (t_wd T j 47 && t_wd T (j + 1) 50 && !t_ar T (j + 2)) && k == j + 1) = (t_wd T k 50 && t_wd T j 47 && t_wd T (j + 1) 50 && !t_ar T (j + 2) && k == j + 1) by rw [Bool.and_assoc (t_wd T j 47), ← Bool.and_assoc (t_wd T k 50), ← Bool.and_assoc (t_wd T k 50 && t_wd T j 47)]]
  rfl
theorem ev_aim {T : sT} {E : sE} (h : EvE E) {x : sX} {n : sN} {k : Nat} : ev eS (s_aim n k (fun _ m => s_feach T E x m)) := by
  unfold s_aim
  cases n_tg n with
  | none => exact ev_none
  | some c => exact ev_b (ev_w rfl) fun _ _ => ev_feach h
theorem ev_forB {T : sT} {E : sE} (h : EvE E) {x : sX} {j : Nat} : ev eS (s_forB T E x j) := by
  have two : ∀ (c : Bool), (bif c then 0 else 1) < 3 := fun c => by cases c <;> decide
  refine ev_i ?_ (ev_i (ev_fplain h) (ev_b (ev_n (ev_expr h)) fun n k => ev_i (ev_i ev_none (ev_aim h)) (ev_fplain h)))
  exact ev_b (ev_3 (ev_bind h) (two _)) fun _ _ => ev_i (ev_feach h) (ev_b (ev_i (ev_b (ev_n (h.1 _ _ _)) fun _ _ => ev_r) (ev_i ev_none ev_r)) fun _ _ => ev_b (ev_i (ev_3 (ev_decL h _ _ _) (two _)) ev_r) fun _ _ => ev_fplain h)
/-- how a for statement ends -/
def fZ (Q : mmQ) (y : Int32) (θ : cTh) (Sh : Unit → Nat → Int32 → mmS → Prop) (Z : Int32 → mmS → Prop) : Prop := (∀ n v, Z n v → Q (.inl (some (.inl n))) (mm_setf v 346 y)) ∧ (∀ n v, ¬ GD v → Z n v → Q (.inl (some (.inl n))) v) ∧ ∀ k v q, θ.1 ≤ k → k < fN v 315 → Sh () q (nI k) v
section FORAT
variable {T : sT} {Sh : Unit → Nat → Int32 → mmS → Prop} {g : Nat} {w : cW} {m0 e : Nat} {θ : cTh} {l0 : Nat} {Z : Int32 → mmS → Prop} {b : Bool} {h : Nat} {A : cA} {m : Nat} {r : sR Unit} {σ u : mmS} {i j : Nat}
variable {ν a d : Nat} {Q : mmQ} {y : Int32}
theorem own_S {q : Nat} {n : Int32} {τ : mmS} {v : Unit} (st : St T Sh any2 g w m0 e θ l0 Z b h w A m e r τ i) (f : Fr (th τ) τ u) (hs : GD u → shS τ v q n u) (hn : ¬ GD u → nid n u) : own θ n u := by
  by_cases gd : GD u
  · obtain ⟨k, k1, k2, k3⟩ := hs gd
    exact ⟨k, k1, k3, fun _ => Nat.le_trans (st.tl.1 (f.1 gd)).1 k2⟩
  · obtain ⟨k, k1, k2⟩ := hn gd
    exact ⟨k, k1, k2, fun z => absurd z gd⟩
theorem for_end {n x : Int32} (hZ : fZ Q y θ Sh Z) (st : St T Sh any2 g w m0 e θ l0 Z b h w A m e (s_r () j) u j) (hm : m0 ≤ m) (hl : GD u → l0 ≤ j) (ow : own θ n u) : mm_S u 321 n x (fun σ5 => Q (.inl (some (.inl n))) (mm_setf σ5 346 y)) := by
  obtain ⟨k, rfl, k2, k3⟩ := ow
  refine st.setown (by decide) ⟨k, rfl, k2, k3⟩ (fun t t1 t2 st2 f2 => hZ.1 _ _ (st2.ret (fun _ => rfl) (fun _ => rfl) (fun gd => hl gd) 0 (fun _ => by omega) (fun _ => Nat.le_refl _) (fun gd => hZ.2.2 k _ 0 (k3 gd) k2) (fun _ => trivial)))
theorem for_fail (hZ : fZ Q y θ Sh Z) (st : St T Sh any2 g w m0 e θ l0 Z b h w A m e r u j) (hd : 1 ≤ d) (hr : GD u → r = none) : mm_I (MC d) Q 3025 [.inr (.inr (3, a))] u (fun x4 σ3 => Q (.inl (some (.inl x4))) σ3) :=
  st.fail hd hr (fun u5 ng st5 _ => hZ.2.1 _ _ ng (st5.bad ng trivial))
theorem for_plain {v1 x : Int32} {C : Int32 → mmS → Prop} (hZ : fZ Q y θ Sh Z) (ih : cAsg T ν) (hS : cStm T ν) (hw : w_nu w = ν) (hlk : lkSl w) (hd : 50 * ν + 13 ≤ d) (hq : g + 30 ≤ GQ ν) (st : St T Sh any2 g w m0 e θ l0 Z b (0 + 8) w A m e (s_fplain T (s_lv T ν) (w_x w) j) u j) (hm1 : 24 ≤ m) (hm : m0 ≤ m) (hl : GD u → l0 ≤ j) (hC : ∀ n v, mm_S v 321 n x (fun σ5 => Q (.inl (some (.inl n))) (mm_setf σ5 346 y)) → C n v) : mm_I (MC d) Q 3101 [.inr (.inr (3, a)), .inl v1] u C := by
  have st1 := st.rw (r' := s_b (s_fplain T (s_lv T ν) (w_x w) j) (fun _ k => s_r () k)) (fun _ => s_b_ret.symm)
  refine St.call (h := 0) (c_forPlain ih hS hw hlk a) () st1 (fun _ => rfl) hd (by rw [hw]; omega) hm1 rfl (fun v j2 B q n u2 st2 f2 hj2 hs2 hn2 => hC n u2 ?_)
  exact for_end hZ st2 (by omega) (fun gd => by have := hj2 gd; have := hl (f2.1 gd); omega) (own_S st1 f2 hs2 hn2)
theorem for_each {v1 v2 x : Int32} {C : Int32 → mmS → Prop} (hZ : fZ Q y θ Sh Z) (ih : cAsg T ν) (hS : cStm T ν) (hw : w_nu w = ν) (hlk : lkSl w) (hd : 50 * ν + 14 ≤ d) (hq : g + 30 ≤ GQ ν) (st : St T Sh any2 g w m0 e θ l0 Z b (0 + 20) w A m e (s_feach T (s_lv T ν) (w_x w) j) u j) (hnz : GD u → NZ T u) (ha : ¬ GD u → cB T (g + 20) (mm_setf u 311 (mm_f u 311 + 1))) (hm1 : 24 ≤ m) (hm : m0 ≤ m) (hl : GD u → l0 ≤ j) (hC : ∀ n v, mm_S v 321 n x (fun σ5 => Q (.inl (some (.inl n))) (mm_setf σ5 346 y)) → C n v) : mm_I (MC d) Q 3099 [.inr (.inr (3, a)), .inl v1, .inl v2] u C := by
  have st1 := st.rw (r' := s_b (s_feach T (s_lv T ν) (w_x w) j) (fun _ k => s_r () k)) (fun _ => s_b_ret.symm)
  refine St.callP (h := 0) (c := 20) (m' := m) (s := 1) (bb := true) (Sh' := shS) (N' := nid) (r1 := s_feach T (s_lv T ν) (w_x w)) (fun en kk => c_forEach (a := a) ih hS hw hlk hd hq hm1 en hnz ha kk) () st1 (fun _ => rfl) rfl (fun v j2 B q n u2 st2 f2 hj2 hs2 hn2 => hC n u2 ?_)
  exact for_end hZ st2 (by omega) (fun gd => by have := hj2 gd; have := hl (f2.1 gd); omega) (own_S st1 f2 hs2 hn2)
/-- for (pattern of ..., for (pattern in ... -/
theorem for_346 {v2 v3 v4 v6 v7 v8 v10 n : Int32} {wv5 : Option mmV} {v : sN} {q lo : Nat} {c7 : Bool} (hZ : fZ Q y θ Sh Z) (ih : cAsg T ν) (hS : cStm T ν) (hw : w_nu w = ν) (hlk : lkSl w) (hd : 50 * ν + 20 ≤ d) (hq : g + 1360 ≤ GQ ν) (h7 : GD u → v7 = bI c7) (hn : ndK T ν lo v q n u) (ho : GD u → θ.1 ≤ lo) (hnz : NZ T u) (st : St T Sh any2 g w m0 e θ l0 Z b 40 w A (m + q) e (bif v.1 == 29 || v.1 == 28 || (!c7 && !n_si v) then none else s_aim v j (fun _ m => s_feach T (s_lv T ν) (w_x w) m)) u j) (hm1 : 24 ≤ m) (hm : m0 ≤ m) (hl : GD u → l0 ≤ j) :
    mm_W mt3098 (MC d) Q (346, [some (.inr (.inr (3, a))), some (.inl y), some (.inl v2), some (.inl v3), some (.inl v4), wv5, some (.inl v6), some (.inl v7), some (.inl v8), some (.inl n), some (.inl v10)], []) u := by
  have hGQ := GQ_le ν
  obtain ⟨kk, k1, k2, k3⟩ := id hn
  have hk : ∀ {x : Int32}, GD u → mm_a u 316 kk = x → (v.1 == x) = true := fun gd z => by rw [← (k3 gd).2.2.2.1.1, z]; exact beq_self_eq_true _
  have hk2 : ∀ {x : Int32}, GD u → ¬ mm_a u 316 kk = x → (v.1 == x) = false := fun gd z => by rw [← (k3 gd).2.2.2.1.1]; exact beq_eq_false_iff_ne.mpr z
  have w389 : (GD u → (v.1 == 29 || v.1 == 28 || (!c7 && !n_si v)) = false) → mm_W mt3098 (MC d) Q (389, [some (.inr (.inr (3, a))), some (.inl y), some (.inl v2), some (.inl v3), some (.inl v4), wv5, some (.inl v6), some (.inl v7), some (.inl v8), some (.inl n), some (.inl v10)], []) u := fun hz => by
    have st1 := st.rw (r' := s_aim v j (fun _ m => s_feach T (s_lv T ν) (w_x w) m)) (fun gd => by rw [hz gd]; rfl)
    refine b3098_389 _ _ _ _ _ _ _ _ _ _ _ _ _ _ ?_
    by_cases gd : GD u
    · have st2 := (st1.strong gd).rise (h' := 1300 + 64) gd (by omega)
      have e11 := st2.good.2.2.1.1
      have hν : w_nu w ≤ 48 := st2.good.ok.1
      rw [hw] at hν
      refine St.aim (h := 1300) rfl st2 (by omega) (by omega) hm1 (by omega) hn ho (fun n' u' B st3 f3 hn' => ?_)
      by_cases g3 : GD u'
      · have z3 : NZ T u' := by
          obtain ⟨q', p1, p2, p3⟩ := hnz
          have hG3 := st3.gd g3
          have he := hG3.1.1.2.2.2.2.2.2.2.1
          have := hG3.2.2.1.2
          have ej : q' = j := nI_inj (by omega) (by omega) (p1.symm.trans e11)
          subst ej
          exact ⟨q', hG3.2.2.1.1, p2, p3⟩
        exact for_each hZ ih hS hw hlk (by omega) (by omega) (st3.mono (by omega)) (fun _ => z3) (fun z => absurd g3 z) (by omega) (by omega) (fun _ => hl gd) (fun _ _ h => h)
      · exact for_each hZ ih hS hw hlk (by omega) (by omega) (st3.mono (by omega)) (fun z => absurd z g3) (fun z => cB.overA ((st3.cb z).mono (by omega))) (by omega) (by omega) (fun z => absurd z g3) (fun _ _ h => h)
    · have c1 := st1.cb gd
      obtain ⟨d, rfl, hd2⟩ := mc_pos (d := d) (c := 50 * ν + 19) (by omega)
      refine mc_ci (P := mt3103) (L := 6) rfl rfl ⟨by decide, Nat.le_of_ble_eq_true rfl⟩ fun Q2 hK hX => b3103_0 _ _ _ _ _ _ _ _ _ (br_n gd (hK _ _ ?_))
      have st2 := st1.rw (r' := s_feach T (s_lv T ν) (w_x w) j) (fun z => absurd z gd)
      exact for_each hZ ih hS hw hlk (by omega) (by omega) (st2.mono (by omega)) (fun z => absurd z gd) (fun z => (c1.adv hnz).mono (by omega)) (by omega) (by omega) (fun z => absurd z gd) (fun _ _ h => h)
  refine b3098_346 _ _ _ _ _ _ _ _ _ _ _ _ _ _ (st.rdn (by decide) k1 k2 (br_p (fun c => for_fail hZ st (by omega) (fun gd => by rw [hk gd c]; rfl)) (fun c29 => st.rdn (by decide) k1 k2 (br_p (fun c => for_fail hZ st (by omega) (fun gd => by rw [hk gd c, Bool.or_true]; rfl)) (fun c28 => br_p (fun c => ?_) (fun c => w389 fun gd => ?_))))))
  · refine st.simp2 (by omega) hn (fun z => for_fail hZ st (by omega) (fun gd => ?_)) (fun z => w389 fun gd => ?_)
    · have h0 : c7 = false := bI_0.mp ((h7 gd).symm.trans c)
      rw [z gd, h0]; simp
    · rw [hk2 gd c29, hk2 gd c28, z gd]; simp
  · have h0 : c7 = true := by
      cases hx : c7 with
      | true => rfl
      | false => rw [hx] at h7; exact absurd (h7 gd) c
    rw [hk2 gd c29, hk2 gd c28, h0]; rfl
theorem for_279 {v2 v3 v4 : Int32} {wv5 wv7 wv8 wv9 wv10 : Option mmV} {c6 c7 : Bool} (hZ : fZ Q y θ Sh Z) (ih : cAsg T ν) (hS : cStm T ν) (hw : w_nu w = ν) (hlk : lkSl w) (hd : 50 * ν + 22 ≤ d) (hq : g + 1360 ≤ GQ ν) (st : St T Sh any2 g w m0 e θ l0 Z true 50 w A m e (s_b (s_expr T (s_lv T ν) (w_x w).1 false j) (fun n k => s_forX T (s_lv T ν) (w_x w) c6 c7 j n k)) u j) (hm1 : 24 ≤ m) (hm : m0 ≤ m) (hl : GD u → l0 ≤ j) :
    mm_W mt3098 (MC d) Q (279, [some (.inr (.inr (3, a))), some (.inl y), some (.inl v2), some (.inl v3), some (.inl v4), wv5, some (.inl (bI c6)), wv7, wv8, wv9, wv10], [.inl (bI c7)]) u := by
  have hGQ := GQ_le ν
  refine b3098_279 _ _ _ _ _ _ _ _ _ _ _ _ _ _ _ (St.call (h := 49) (c_expression (a := a) (inn := false) ih hw) (n_k 0) st (fun _ => rfl) (by omega) (by rw [hw]; omega) hm1 rfl (fun v k B q n u2 st2 f2 hj2 hs2 hn2 => ?_))
  have hx : ndK T ν (fN u 315) v q n u2 := nd_of hs2 hn2
  have ho : GD u2 → θ.1 ≤ fN u 315 := fun gd => (st.tl.1 (f2.1 gd)).1
  have hl2 : GD u2 → l0 ≤ k := fun gd => by have := hj2 gd; have := hl (f2.1 gd); omega
  obtain ⟨p, p1, p2, p3⟩ := st.p
  have w312 : ∀ (wv10 : Option mmV), (GD u2 → t_oi T k = true) → NZ T u2 → mm_W mt3098 (MC d) Q (312, [some (.inr (.inr (3, a))), some (.inl y), some (.inl v2), some (.inl v3), some (.inl v4), wv5, some (.inl (bI c6)), some (.inl (bI c7)), some (.inl (mm_f u 311)), some (.inl n), wv10], []) u2 := fun wv10 hoi nz => by
    have st3 := st2.rw (r' := bif (t_wd T k 50 && c6 && k == j + 1) || v.1 == 29 || v.1 == 28 || (!c7 && !n_si v) then none else s_aim v k (fun _ m => s_feach T (s_lv T ν) (w_x w) m)) (fun gd => by unfold s_forX; rw [hoi gd]; rfl)
    have w346 : (GD u2 → (t_wd T k 50 && c6 && k == j + 1) = false) → ∀ v10 : Int32, mm_W mt3098 (MC d) Q (346, [some (.inr (.inr (3, a))), some (.inl y), some (.inl v2), some (.inl v3), some (.inl v4), wv5, some (.inl (bI c6)), some (.inl (bI c7)), some (.inl (mm_f u 311)), some (.inl n), some (.inl v10)], []) u2 := fun hz v10 =>
      for_346 (c7 := c7) hZ ih hS hw hlk (by omega) hq (fun _ => rfl) hx ho nz ((st3.rw fun gd => by rw [hz gd, Bool.false_or]).mono (by omega)) (by omega) (by omega) hl2
    obtain ⟨p', r1, r2, r3⟩ := st2.p
    refine b3098_312 _ _ _ _ _ _ _ _ _ _ _ _ _ _ (c_isWord (by omega) st2.ci.1 r1 (by omega) (br_0 (fun z => w346 (fun gd => by rw [← r3 gd, z]; rfl) _) (fun z => br_0 (fun z6 => w346 (fun gd => by rw [z6, Bool.and_false]; rfl) _) (fun z6 => ?_))))
    refine br_p (fun c => for_fail hZ st3 (by omega) (fun gd => ?_)) (fun c => w346 (fun gd => ?_) _)
    · rw [r1, p1, nI_1] at c
      have := nI_inj (by omega) (by omega) c
      rw [r3 gd] at this z
      rw [p3 (f2.1 gd)] at this
      rw [z, z6, this]
      simp
    · have : ¬ k = j + 1 := fun z => c (by rw [r1, p1, nI_1, r3 gd, p3 (f2.1 gd), z])
      rw [beq_eq_false_iff_ne.mpr this, Bool.and_false]
  refine st2.word (by omega) (fun z50 => st2.word (by omega) (fun z21 => ?_) (fun z21 nz => w312 _ (fun gd => by unfold t_oi; rw [z21 gd, Bool.or_true]) nz)) (fun z50 nz => w312 _ (fun gd => by unfold t_oi; rw [z50 gd]; rfl) nz)
  refine St.node (h := 48) st2 (by omega) (by omega) (fun n4 u4 st4 f4 nw => ?_)
  by_cases g4 : GD u4
  · have q1 : 1 ≤ q := by
      obtain ⟨_, _, z⟩ := hs2 (f4.1 g4)
      exact z.1.2
    exact for_plain hZ ih hS hw hlk (by omega) (by omega) ((st4.rw fun gd => by unfold s_forX t_oi; rw [z50 (f4.1 gd), z21 (f4.1 gd)]; rfl).mono (by omega)) (by omega) (by omega) (fun gd => hl2 (f4.1 gd)) (fun _ _ h => h)
  · have c4 := st4.cb g4
    exact for_plain (m := m) hZ ih hS hw hlk (by omega) (by omega) ((st4.rw (fun gd => absurd gd g4)).same (h' := 0 + 8) (m' := m) (e' := e) (i' := k) Fr.rfl' (fun z => absurd z g4) (fun z => absurd z g4) (fun q => absurd q.2.1 g4) (fun c => c.mono (by omega))) hm1 hm (fun gd => absurd gd g4) (fun _ _ h => h)
theorem for_176 {v2 v3 v4 v5 v6 : Int32} {wv7 wv8 wv9 wv10 : Option mmV} (h : mm_S u 321 v5 v2 (fun σ5 => Q (.inl (some (.inl v5))) (mm_setf σ5 346 y))) : mm_W mt3098 (MC d) Q (176, [some (.inr (.inr (3, a))), some (.inl y), some (.inl v2), some (.inl v3), some (.inl v4), some (.inl v5), some (.inl v6), wv7, wv8, wv9, wv10], []) u := b3098_176 _ _ _ _ _ _ _ _ _ _ _ _ _ _ h
/-- behind for (let ... -/
theorem for_62 {v2 v3 v4 : Int32} {as : Nat} {wv5 wv6 wv7 wv8 wv9 wv10 : Option mmV} (hZ : fZ Q y θ Sh Z) (ih : cAsg T ν) (hE : cEl T ν) (hR : cRst T ν) (hS : cStm T ν) (hw : w_nu w = ν) (hlk : lkSl w) (hc : cls v4 = as) (hv : ¬ v4 < 0) (hd : 50 * ν + 24 ≤ d) (hq : g + 1360 ≤ GQ ν) (st : St T Sh any2 g w m0 e θ l0 Z true 60 w A m e (s_forD T (s_lv T ν) (w_x w) as (v4 == 2) j) u j) (hm1 : 24 ≤ m) (hm : m0 ≤ m) (hl : GD u → l0 ≤ j) :
    mm_W mt3098 (MC d) Q (62, [some (.inr (.inr (3, a))), some (.inl y), some (.inl v2), some (.inl v3), some (.inl v4), wv5, wv6, wv7, wv8, wv9, wv10], []) u := by
  have hGQ := GQ_le ν
  refine b3098_62 _ _ _ _ _ _ _ _ _ _ _ _ _ _ (br_n hv ?_)
  refine St.callP (h := 59) (c := 1) (m' := m + 8) (s := 1) (bb := true) (Sh' := shBd (2 * ν + 2)) (N' := nid) (r1 := s_bind T (s_lv T ν) (w_x w).1 as) (fun en kk => c_binding (a := a) ih hE hR hw hc (by omega) (by omega) (by omega) en kk) (false, []) st (fun _ => rfl) rfl (fun bd k B q x u2 st2 f2 hj2 hs2 hn2 => ?_)
  have hl2 : GD u2 → l0 ≤ k := fun gd => by have := hj2 gd; have := hl (f2.1 gd); omega
  have hxn : nid x u2 := by
    by_cases gd2 : GD u2
    · obtain ⟨kx, y1, y2, y3, y4, -⟩ := hs2 gd2
      exact ⟨kx, y1, y4⟩
    · exact hn2 gd2
  have each : (GD u2 → t_oi T k = true) → NZ T u2 → mm_I (MC d) Q 3099 [.inr (.inr (3, a)), .inl x, .inl v4] u2 (fun x28 σ27 => mm_W mt3098 (MC d) Q (176, [some (.inr (.inr (3, a))), some (.inl y), some (.inl v2), some (.inl v3), some (.inl v4), some (.inl x28), some (.inl x), wv7, wv8, wv9, wv10], []) σ27) := fun hoi nz => by
    have st3 := st2.rw (r' := s_feach T (s_lv T ν) (w_x w) k) (fun gd => by rw [hoi gd]; rfl)
    exact for_each hZ ih hS hw hlk (by omega) (by omega) (st3.mono (by omega)) (fun _ => nz) (fun ng => ((st3.cb ng).adv nz).mono (by omega)) (by omega) (by omega) hl2 (fun n v h => for_176 h)
  refine st2.word (by omega) (fun z50 => st2.word (by omega) (fun z21 => ?_) (fun z21 nz => each (fun gd => by unfold t_oi; rw [z21 gd, Bool.or_true]) nz)) (fun z50 nz => each (fun gd => by unfold t_oi; rw [z50 gd]; rfl) nz)
  have st3 := st2.rw (r' := s_b (s_ini T (s_lv T ν) (w_x w).1 (v4 == 2) false bd.1 k) (fun _ m => s_b (s_decT T (s_lv T ν) (w_x w).1 as (v4 == 2) false (t_e T + 1) [] m) (fun _ q => s_fplain T (s_lv T ν) (w_x w) q))) (fun gd => by unfold t_oi; rw [z50 gd, z21 gd]; rfl)
  -- a row of declarations
  have w150 : ∀ (u3 : mmS) (B3 : cA) (m3 j3 : Nat) (v7 : Int32) (wv5 : Option mmV), m + 3 ≤ m3 → (GD u3 → k ≤ j3) → (GD u3 → GD u2) → St T Sh any2 g w m0 e θ l0 Z true 58 w B3 m3 e (s_b (s_decT T (s_lv T ν) (w_x w).1 as (v4 == 2) false (t_e T + 1) [] j3) (fun _ q => s_fplain T (s_lv T ν) (w_x w) q)) u3 j3 → mm_W mt3098 (MC d) Q (150, [some (.inr (.inr (3, a))), some (.inl y), some (.inl v2), some (.inl v3), some (.inl v4), wv5, some (.inl x), some (.inl v7), wv8, wv9, wv10], []) u3 := fun u3 B3 m3 j3 v7 wv5 hm3 hj3 hg3 st3 => by
    refine b3098_150 _ _ _ _ _ _ _ _ _ _ _ _ _ _ (St.node (h := 57) st3 (by omega) (by omega) (fun n4 u4 st4 f4 nw => ?_))
    have ow := own_new nw f4 st3
    have n4l := st4.ci.2.1.2.1
    refine St.callR (h := 40) (c := 17) (s := 0) (bb := true) (m' := m3 - 2) (e' := e) (θ1 := θ) (Sh' := fun _ => decS False 1) (N' := nid) (r1 := s_decT T (s_lv T ν) (w_x w).1 as (v4 == 2) false (t_e T + 1) []) (fun en kk => c_declOf (a := a) (P := False) (lo := 1) (inn := false) (f := t_e T + 1) (l := []) (l0 := j3 + 0) (m := m3 - 2) ih hE hR hw hc (by omega) (by omega) (Nat.le_refl _) (by omega) n4l st4.tl.1 ow (fun _ => by omega) (fun _ => by omega) (fun _ p => p.elim) (en.imp (fun q => by rw [show m3 - 2 + 1 = m3 - 1 by omega]; exact q) (fun q => ⟨rfl, q.2.mono (by omega)⟩)) kk) [] st4 (fun _ => rfl) rfl (fun _ => tle.rfl') (fun v j5 B5 q5 n5 u5 st5 f5 hj5 hr5 hs5 hn5 => ?_)
    exact for_plain hZ ih hS hw hlk (by omega) (by omega) (st5.mono (by omega)) (by omega) (by omega) (fun gd => by have := hj5 gd; have := hj3 (f4.1 (f5.1 gd)); have := hl2 (hg3 (f4.1 (f5.1 gd))); omega) (fun n v h => for_176 h)
  obtain ⟨kx, kx1, kx2⟩ := hxn
  refine st3.eat (by omega) (fun z2 => ?_) (fun u3 z2 st4 f4 => ?_)
  · have st3b := st3.rw (r' := s_b (bif (v4 == 2) || !bd.1 then none else s_r () k) (fun _ m => s_b (s_decT T (s_lv T ν) (w_x w).1 as (v4 == 2) false (t_e T + 1) [] m) (fun _ q => s_fplain T (s_lv T ν) (w_x w) q))) (fun gd2 => by unfold s_ini; rw [z2 gd2]; rfl)
    have kxe : GD u2 → (mm_a u2 316 kx = 4 ↔ bd.1 = true) := fun gd2 => by
      obtain ⟨k', y1, y2, y3, y4, y5, -⟩ := hs2 gd2
      have hcap := st2.cap.1
      have : k' = kx := nI_inj (by omega) (by omega) (y1.symm.trans kx1)
      subst this
      exact y5
    refine br_p (fun c2 => for_fail hZ st3b (by omega) fun _ => by rw [c2]; rfl) (fun c2 => st3b.rdn (by decide) kx1 kx2 (br_p (fun c4 => ?_) (fun c4 => for_fail hZ st3b (by omega) fun gd2 => ?_)))
    · refine w150 u2 B _ k 0 _ (by omega) (fun _ => Nat.le_refl _) id ((st3b.rw fun gd2 => ?_).mono (by omega))
      rw [(kxe gd2).mp c4, beq_eq_false_iff_ne.mpr c2]
      show s_b (s_r () k) _ = _
      exact s_b_r
    · cases hx : bd.1 with
      | true => exact absurd ((kxe gd2).mpr hx) c4
      | false => simp; rfl
  · have st4 := st4.rw (r' := s_b ((s_lv T ν).1 (w_x w).1 false (k + 1)) (fun _ m => s_b (s_decT T (s_lv T ν) (w_x w).1 as (v4 == 2) false (t_e T + 1) [] m) (fun _ q => s_fplain T (s_lv T ν) (w_x w) q))) (fun gd3 => by
      unfold s_ini
      rw [z2 (f4.1 gd3), cond_true]
      exact s_b_un)
    refine St.call (h := 59) (ih a w false hw) (n_k 0) st4 (fun _ => rfl) (by omega) (by rw [hw]; omega) (by omega) rfl (fun v5 j5 B5 q5 x5 u5 st5 f5 hj5 hs5 hn5 => ?_)
    exact w150 u5 B5 _ j5 x5 _ (by omega) (fun gd => by have := hj5 gd; omega) (fun gd => f4.1 (f5.1 gd)) (st5.mono (by omega))
/-- behind for ( and no word of declarations -/
theorem for_62e {v2 v3 : Int32} {wv5 wv6 wv7 wv8 wv9 wv10 : Option mmV} (hZ : fZ Q y θ Sh Z) (ih : cAsg T ν) (hS : cStm T ν) (hw : w_nu w = ν) (hlk : lkSl w) (hd : 50 * ν + 24 ≤ d) (hq : g + 1360 ≤ GQ ν) (st : St T Sh any2 g w m0 e θ l0 Z true 60 w A m e (bif t_sg T j 8 then s_fplain T (s_lv T ν) (w_x w) j else s_b (s_expr T (s_lv T ν) (w_x w).1 false j) (fun n k => s_forX T (s_lv T ν) (w_x w) (t_wd T j 47 && t_wd T (j + 1) 50 && !t_ar T (j + 2)) (t_sg T j 4 || t_sg T j 0) j n k)) u j) (hm1 : 24 ≤ m) (hm : m0 ≤ m) (hl : GD u → l0 ≤ j) :
    mm_W mt3098 (MC d) Q (62, [some (.inr (.inr (3, a))), some (.inl y), some (.inl v2), some (.inl v3), some (.inl (-1)), wv5, wv6, wv7, wv8, wv9, wv10], []) u := by
  have hGQ := GQ_le ν
  refine b3098_62 _ _ _ _ _ _ _ _ _ _ _ _ _ _ (br_y (by decide) (st.sign (by omega) (fun z8 => ?_) (fun z8 _ => ?_)))
  · have w256 : ∀ (c6 : Bool) (wv5 wv6 wv7 wv8 wv9 wv10 : Option mmV), (GD u → (t_wd T j 47 && t_wd T (j + 1) 50 && !t_ar T (j + 2)) = c6) → mm_W mt3098 (MC d) Q (256, [some (.inr (.inr (3, a))), some (.inl y), some (.inl v2), some (.inl v3), some (.inl (-1)), wv5, wv6, wv7, wv8, wv9, wv10], [.inl (bI c6)]) u := fun c6 wv5 wv6 wv7 wv8 wv9 wv10 h6 => by
      have go : ∀ (c7 : Bool) (wv5 : Option mmV), (GD u → (t_sg T j 4 || t_sg T j 0) = c7) → mm_W mt3098 (MC d) Q (279, [some (.inr (.inr (3, a))), some (.inl y), some (.inl v2), some (.inl v3), some (.inl (-1)), wv5, some (.inl (bI c6)), wv7, wv8, wv9, wv10], [.inl (bI c7)]) u := fun c7 wv5 h7 =>
        for_279 hZ ih hS hw hlk (by omega) hq ((st.rw fun gd => by rw [z8 gd, h6 gd, h7 gd]; rfl).mono (by omega)) hm1 hm hl
      exact b3098_256 _ _ _ _ _ _ _ _ _ _ _ _ _ _ _ (st.sign (by omega) (fun z4 => st.sign (by omega) (fun z0 => go false _ (fun gd => by rw [z4 gd, z0 gd]; rfl)) (fun z0 _ => go true _ (fun gd => by rw [z0 gd, Bool.or_true]))) (fun z4 _ => go true _ (fun gd => by rw [z4 gd]; rfl)))
    refine st.word (by omega) (fun z47 => w256 false _ _ _ _ _ _ (fun gd => by rw [z47 gd]; rfl)) (fun z47 _ => st.rdk1 (fun x5 h5 _ => br_p (fun c1 => st.rdv1 (fun x6 h6 => br_p (fun c50 => st.isArrow2 (by omega) (fun za => w256 true _ _ _ _ _ _ (fun gd => ?_)) (fun za => w256 false _ _ _ _ _ _ (fun gd => by rw [za gd]; simp))) (fun c50 => w256 false _ _ _ _ _ _ (fun gd => ?_)))) (fun c1 => w256 false _ _ _ _ _ _ (fun gd => ?_))))
    · rw [z47 gd, za gd]
      unfold t_wd
      rw [h5 gd, c1, show T.2.1 (j + 1) = x6 from h6 gd, c50]; rfl
    · have : t_wd T (j + 1) 50 = false := by
        unfold t_wd
        rw [show T.2.1 (j + 1) = x6 from h6 gd, beq_eq_false_iff_ne.mpr c50, Bool.and_false]
      rw [this]; simp
    · have : t_wd T (j + 1) 50 = false := by
        unfold t_wd
        rw [h5 gd, beq_eq_false_iff_ne.mpr c1]; rfl
      rw [this]; simp
  · exact for_plain hZ ih hS hw hlk (by omega) (by omega) ((st.rw fun gd => by rw [z8 gd, cond_true]).mono (by omega)) hm1 hm hl (fun _ _ h => h)
end FORAT
