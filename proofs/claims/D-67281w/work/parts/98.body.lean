/-! PHASE 3. body() -/
/-- yields and awaits are set -/
def yaW (w : cW) (gen asy : Bool) : cW := (((gen, asy, (w_x w).1.2.2), (w_x w).2), w.2)
section BODY
variable {T : sT} {g : Nat} {w : cW} {A : cA} {m m0 e l0 : Nat} {θ : cTh} {b : Bool} {h : Nat} {σ : mmS} {i : Nat}
variable {ν a d : Nat} {Q : mmQ}
theorem cG.ya {gen asy : Bool} (h : cG T w A m e σ i) : cG T (yaW w gen asy) A m e (mm_setf (mm_setf σ 348 (bI gen)) 349 (bI asy)) i := by
  obtain ⟨h1, h2, h3, h4, ⟨⟨x1, x2, x3, x4, x5, x6⟩, xr, xl, xk, xy⟩, h6, h7, h8, h9, h10, h11, h12, hc⟩ := h
  have f (j : Nat) (h1 : j ≠ 348) (h2 : j ≠ 349) : mm_f (mm_setf (mm_setf σ 348 (bI gen)) 349 (bI asy)) j = mm_f σ j := (f_other h2).trans (f_other h1)
  have fe (j : Nat) (h1 : j ≠ 348) (h2 : j ≠ 349) := fN_eq (f j h1 h2)
  refine ⟨(h1.setf rfl).setf rfl, (f 303 (by decide) (by decide)).trans h2, by rw [f 311 (by decide) (by decide)]; exact h3, by rw [f 312 (by decide) (by decide)]; exact h4, ⟨⟨(f_other (by decide)).trans f_same, f_same, (f 350 (by decide) (by decide)).trans x3, (f 351 (by decide) (by decide)).trans x4, (f 352 (by decide) (by decide)).trans x5, (f 353 (by decide) (by decide)).trans x6⟩, by rw [fe 347 (by decide) (by decide)]; exact xr, by rw [f 354 (by decide) (by decide)]; exact xl, by rw [f 355 (by decide) (by decide)]; exact xk, by rw [f 357 (by decide) (by decide), f 356 (by decide) (by decide)]; exact xy⟩, by rw [f 346 (by decide) (by decide), f 347 (by decide) (by decide)]; exact h6, h7.of (f 324 (by decide) (by decide)) (f 325 (by decide) (by decide)) (f 346 (by decide) (by decide)) (fun _ _ _ => ⟨rfl, rfl⟩), by rw [f 313 (by decide) (by decide)]; exact h8, by rw [f 360 (by decide) (by decide)]; exact h9, by rw [fe 336 (by decide) (by decide), cntF_of (σ := σ) (u := mm_setf (mm_setf σ 348 (bI gen)) 349 (bI asy)) (fun _ _ => rfl)]; exact h10, by rw [f 359 (by decide) (by decide)]; exact h11, by rw [f 358 (by decide) (by decide)]; exact h12, ?_⟩
  unfold cC
  rw [fe 315 (by decide) (by decide), fe 324 (by decide) (by decide), fe 336 (by decide) (by decide), fe 325 (by decide) (by decide), f 371 (by decide) (by decide)]
  exact hc
theorem Fr.ya {θ : cTh} {x y : Int32} : Fr θ σ (mm_setf (mm_setf σ 348 x) 349 y) :=
  (Fr.setf rfl (by decide) (by decide) (by decide) (by decide) (by decide) (by decide)).trans (Fr.setf rfl (by decide) (by decide) (by decide) (by decide) (by decide) (by decide))
theorem th_ya {x y : Int32} : th (mm_setf (mm_setf σ 348 x) 349 y) = th σ := by
  rw [th_setf (by decide) (by decide) (by decide) (by decide), th_setf (by decide) (by decide) (by decide) (by decide)]
/-- what is behind the statements of a function: the scope may be one deeper -/
def bdP (T : sT) (g : Nat) (w : cW) (A : cA) (m e l0 : Nat) (inn : Bool) (r : sR Unit) (σ u : mmS) : Prop :=
  Fr (th σ) σ u ∧ ((∃ j B B' w' m', run inn A r = some ((), j, B) ∧ cG T w' B' m' e u j ∧ m + 8 ≤ m' ∧ l0 ≤ j ∧ B'.2 = B.2 ∧ (w_nu w' = w_nu w ∧ w_in w' = w_in w ∧ w_cl w' = w_cl w) ∧ ∀ es t, A.1 = (1, es) :: t → ∃ R b, stru u R ∧ path u R t (mm_a σ 326 (w_sc w)) b) ∨ ((run inn A r = none ∨ ¬ GD σ) ∧ cB T g u))
/-- fFlags[f] is read -/
theorem rd_fl {K : Int32 → Prop} {f : Nat} (h : cI T σ) (hf : f < fN σ 336) (k : K (mm_a σ 338 f)) : mm_L σ 338 (nI f) K := by
  obtain ⟨⟨c1, c2, c3, c4, c5⟩, c6, c7⟩ := h.2.2.2.2.1
  exact rd (c5 338 (by decide) (by decide)) (by omega) (by omega) k
theorem wr_fn {K : mmS → Prop} {f s : Nat} {x : Int32} (h : cI T σ) (hs : 337 ≤ s ∧ s ≤ 345) (hf : f < fN σ 336) (k : K (mm_seta σ s f x)) : mm_S σ s (nI f) x K := by
  obtain ⟨⟨c1, c2, c3, c4, c5⟩, c6, c7⟩ := h.2.2.2.2.1
  exact wr (c5 s hs.1 hs.2) (by omega) (by omega) k
/-- a cell is written that nothing rests on: of a function, a scope -/
def frS (s : Nat) : Prop := s = 340 ∨ s = 341 ∨ s = 343 ∨ s = 344 ∨ s = 345
theorem Fr.free {θ : cTh} {s j : Nat} {x : Int32} (hs : frS s) : Fr θ σ (mm_seta σ s j x) := by
  rcases hs with rfl | rfl | rfl | rfl | rfl <;> exact Fr.seta_o rfl (by decide) (by decide)
theorem cI.free {s j : Nat} {x : Int32} (h : cI T σ) (hs : frS s) : cI T (mm_seta σ s j x) := by
  rcases hs with rfl | rfl | rfl | rfl | rfl <;> exact h.seta rfl
theorem cG.free {s j : Nat} {x : Int32} (h : cG T w A m e σ i) (hs : frS s) : cG T w A m e (mm_seta σ s j x) i := by
  have hI := h.1.free (j := j) (x := x) hs
  have n (k : Nat) (hk : ¬ frS k) : mm_a (mm_seta σ s j x) k = mm_a σ k := a_seta_n (fun e => hk (by rw [e]; exact hs))
  obtain ⟨h1, h2, h3, h4, h5, h6, h7, h8, ⟨u1, u2, u3⟩, h10, h11, h12, hc⟩ := h
  have q (k : Nat) (h : k < 340 ∨ 345 < k) : ¬ frS k := fun z => by unfold frS at z; omega
  exact ⟨hI, h2, h3, h4, h5.of (fun _ _ _ => rfl) (by rw [n 337 (q _ (by decide))]) (n 361 (q _ (by decide))) (n 362 (q _ (by decide))), h6, h7.of rfl rfl rfl (fun k k1 k2 => ⟨n k (q _ (by omega)), rfl⟩), h8, ⟨u1, u2, by rw [n 363 (q _ (by decide))]; exact u3⟩, (cntF_of (fun k _ => by rw [n 337 (q _ (by decide))])).trans h10, h11, h12, hc⟩
theorem cB.free {s j : Nat} {x : Int32} (h : cB T g σ) (hs : frS s) : cB T g (mm_seta σ s j x) := ⟨h.1.free hs, h.2⟩
theorem St.free {β : Type} {Sh : β → Nat → Int32 → mmS → Prop} {N : Int32 → mmS → Prop} {w0 : cW} {e0 : Nat} {Z : Int32 → mmS → Prop} {r : sR β} {s f : Nat} {x : Int32} {K : mmS → Prop} (st : St T Sh N g w0 m0 e0 θ l0 Z b h w A m e r σ i) (hs : frS s) (hf : f < fN σ 336) (k : St T Sh N g w0 m0 e0 θ l0 Z b h w A m e r (mm_seta σ s f x) i → Fr (th σ) σ (mm_seta σ s f x) → K (mm_seta σ s f x)) : mm_S σ s (nI f) x K :=
  wr_fn st.ci (by unfold frS at hs; omega) hf (k (st.same (Fr.free hs) (fun _ => tle.rfl') (fun gd => st.tl.2 gd) (fun q => q.free hs) (fun q => q.free hs)) (Fr.free hs))
theorem cG.f56 (h : cG T w A m e σ i) : fN σ 356 = w_lb w + (w_x w).2.2.2.2.length := by
  obtain ⟨h1, h2, h3, ⟨n1, n2, n3⟩, ⟨x1, xr, xl, xk, y1, y2, y3, y4⟩, -⟩ := h
  unfold fN
  rw [y2, nI_clamp (by omega)]
theorem th_le2 {w' : cW} {A' : cA} {m' e' i' : Nat} {u : mmS} (q1 : cG T w A m e σ i) (x2 : cG T w' A' m' e' u i') (hf : Fr θ σ u) (hl : w_lb w + (w_x w).2.2.2.2.length ≤ w_lb w' + (w_x w').2.2.2.2.length) : tle (th σ) (th u) :=
  ⟨hf.nn, hf.2.2.2.2.1.2.2.2, (hf.2.2.2.2.2.2.2 x2.2.1).1, by show fN σ 356 ≤ fN u 356; rw [q1.f56, x2.f56]; exact hl⟩
/-- the directives -/
theorem dir_loop {Z1 : mmS → Prop} {N : Int32 → mmS → Prop} {j : Nat} (hd : 7 ≤ d) {v1 v2 v3 : Int32} (hN : ∀ u, N 0 u) (hZ : ∀ u wv4 wv5, Z1 u → mm_W mt3062 (MC d) Q (156, [some (.inr (.inr (3, a))), some (.inl v1), some (.inl v2), some (.inl v3), wv4, wv5], []) u) (f : Nat) : ∀ (b : Bool) (σ : mmS) (q h : Nat) (wv5 : Option mmV), q < 2000 → (GD σ → q ≤ t_e T ∧ t_e T < f + q) → (GD σ → l0 ≤ j) → (GD σ → m0 ≤ m) →
    St T (fun (_ : Unit) _ _ _ => True) N g w m0 e θ l0 (fun _ u => Z1 u) b h w A m e (bif t_dirL T f q then none else s_r () j) σ j → mm_W mt3062 (MC d) Q (32, [some (.inr (.inr (3, a))), some (.inl v1), some (.inl v2), some (.inl v3), some (.inl (nI q)), wv5], []) σ := by
  induction f with
  | zero =>
    intro b σ q h wv5 hq hf hl hm st
    have out : ∀ wv4 wv5, mm_W mt3062 (MC d) Q (156, [some (.inr (.inr (3, a))), some (.inl v1), some (.inl v2), some (.inl v3), wv4, wv5], []) σ := fun wv4 wv5 => hZ _ _ _ (st.ret (n := 0) (fun _ => rfl) (fun _ => rfl) hl 0 hm (fun _ => Nat.le_refl _) (fun _ => trivial) (fun _ => hN _))
    refine b3062_32 _ _ _ _ _ _ _ _ _ (st.ci.1.k (by omega) (br_p (fun h6 => st.wrong (fun gd st => ?_) (fun ng => out _ _)) (fun h6 => out _ _)))
    have := hf gd
    omega
  | succ f IH =>
    intro b σ q h wv5 hq hf hl hm st
    have out : (GD σ → t_dirL T (f + 1) q = false) → ∀ wv4 wv5, mm_W mt3062 (MC d) Q (156, [some (.inr (.inr (3, a))), some (.inl v1), some (.inl v2), some (.inl v3), wv4, wv5], []) σ := fun z wv4 wv5 => hZ _ _ _ ((st.f z).ret (n := 0) (fun _ => rfl) (fun _ => rfl) hl 0 hm (fun _ => Nat.le_refl _) (fun _ => trivial) (fun _ => hN _))
    refine b3062_32 _ _ _ _ _ _ _ _ _ (st.ci.1.k (by omega) (br_p (fun h6 => st.wrong (fun gd st => ?_) (fun ng => out (fun gd => absurd gd ng) _ _)) (fun h6 => out (fun _ => by rw [t_dirL, t_kd, beq_eq_false_iff_ne.mpr h6]; rfl) _ _)))
    obtain ⟨q1, q2⟩ := hf gd
    have he := st.ci.1.2.2.2.2.2.2.2
    have k6 : t_kd T q 6 = true := by rw [t_kd, h6]; rfl
    have qe : q < t_e T := lt_e st.ci q1 (by rw [h6]; decide)
    have he1 := he.1
    have w105 : (!t_sg T (q + 1) 8 && !t_sg T (q + 1) 1 && (!t_ln T (q + 1) || t_on T (q + 1))) = false → mm_W mt3062 (MC d) Q (105, [some (.inr (.inr (3, a))), some (.inl v1), some (.inl v2), some (.inl v3), some (.inl (nI q)), some (.inl (bI (t_sg T (q + 1) 8)))], []) σ := fun z => by
      have ed : t_dirL T (f + 1) q = bif T.2.2.2.2.1 q && (T.2.2.1 q &&& 2) == 0 then true else t_dirL T f (bif t_sg T (q + 1) 8 then q + 2 else q + 1) := by
        rw [t_dirL, k6, cond_true, z, cond_false]
      rw [ed] at st
      have qn : t_sg T (q + 1) 8 = true → q + 2 ≤ t_e T := fun z8 => by
        have : T.1 (q + 1) ≠ 0 := by
          simp only [t_sg, Bool.and_eq_true, beq_iff_eq] at z8
          rw [z8.1]
          decide
        have := lt_e st.ci (i := q + 1) (by omega) this
        omega
      have nxt : ∀ (b' : Bool) (σ' : mmS) (h' : Nat), (GD σ' → GD σ) → St T (fun (_ : Unit) _ _ _ => True) N g w m0 e θ l0 (fun _ u => Z1 u) b' h' w A m e (bif t_dirL T f (bif t_sg T (q + 1) 8 then q + 2 else q + 1) then none else s_r () j) σ' j →
          mm_br (bI (t_sg T (q + 1) 8) = 0) (mm_W mt3062 (MC d) Q (32, [some (.inr (.inr (3, a))), some (.inl v1), some (.inl v2), some (.inl v3), some (.inl (nI q + 1)), some (.inl (bI (t_sg T (q + 1) 8)))], []) σ')
            (mm_W mt3062 (MC d) Q (32, [some (.inr (.inr (3, a))), some (.inl v1), some (.inl v2), some (.inl v3), some (.inl (nI q + 1 + 1)), some (.inl (bI (t_sg T (q + 1) 8)))], []) σ') := fun b' σ' h' hg st' => by
        refine br_0 (fun z8 => ?_) (fun z8 => ?_)
        · rw [nI_1]
          rw [z8, cond_false] at st'
          exact IH b' σ' (q + 1) h' _ (by omega) (fun gd' => ⟨by omega, by omega⟩) (fun gd' => hl (hg gd')) (fun gd' => hm (hg gd')) st'
        · rw [nI_1, nI_1]
          rw [z8, cond_true] at st'
          have := qn z8
          exact IH b' σ' (q + 2) h' _ (by omega) (fun gd' => ⟨by omega, by omega⟩) (fun gd' => hl (hg gd')) (fun gd' => hm (hg gd')) st'
      have ux := he.2.2.1.2
      refine b3062_105 _ _ _ _ _ _ _ _ _ ⟨ux.1, st.ci.1.v (by omega) ?_⟩
      refine c_isText (i := q) ux h6 (by omega) (br_0 (fun zt => ?_) (fun zt => ?_))
      · rw [zt, Bool.false_and, cond_false] at st
        exact nxt _ _ _ id st
      · refine st.ci.1.g (by omega) (br_p (fun z2 => ?_) (fun z2 => ?_))
        · have e2 : ((T.2.2.1 q &&& 2) == 0) = true := beq_iff_eq.mpr z2
          rw [zt, e2, Bool.and_self, cond_true, cond_true] at st
          exact st.fail (by omega) (fun _ => rfl) (fun u ng st4 hf4 => ⟨rfl, nxt _ _ _ (fun gd => absurd gd ng) (st4.rw fun gd => absurd gd ng)⟩)
        · have e2 : ((T.2.2.1 q &&& 2) == 0) = false := beq_eq_false_iff_ne.mpr z2
          rw [e2, Bool.and_false, cond_false] at st
          exact nxt _ _ _ id st
    rw [nI_1]
    refine c_signAt (by omega) st.ci.1 (by omega) (br_p (fun z8 => ?_) (fun z8 => ?_))
    · have z8 := bI_0.1 z8
      refine c_signAt (by omega) st.ci.1 (by omega) (br_0 (fun z1 => ?_) (fun z1 => w105 (by rw [z1]; simp)))
      refine c_lineAt (by omega) st.ci.1 (by omega) (br_0 (fun zl => ?_) (fun zl => ?_))
      · exact out (fun _ => by rw [t_dirL, k6, cond_true, z8, z1, zl]; rfl) _ _
      · refine c_goesOn (by omega) st.ci.1 (by omega) (br_0 (fun zo => w105 (by rw [zl, zo]; simp)) (fun zo => ?_))
        exact out (fun _ => by rw [t_dirL, k6, cond_true, z8, z1, zl, zo]; rfl) _ _
    · have z8 : t_sg T (q + 1) 8 = true := by
        cases h : t_sg T (q + 1) 8 with
        | true => rfl
        | false => rw [h] at z8; exact absurd rfl z8
      exact w105 (by rw [z8]; simp)
/-- the body's statements and what shuts them -/
theorem body_180 {v1 v2 v3 : Int32} {wv4 wv5 : Option mmV} {fk : Nat} (hI : cIt T ν) (hw : w_nu w = ν) (hd : 50 * ν + 12 ≤ d) (hq : g + 20 ≤ GQ ν) (hm : 24 ≤ m) (hv1 : v1 = nI fk) (hf : fk < fN σ 336) (en : cG T w A m e σ i ∨ cB T (g + 4) σ)
    (hQ : ∀ n u, Rs T (fun (_ : Unit) _ _ _ => True) any2 g w m e (th σ) i A (s_b (s_list T (s_lv T ν) (w_x w) i) (fun _ k => s_nd T 1 k)) σ n u → Q (.inl none) u) :
    mm_W mt3062 (MC d) Q (180, [some (.inr (.inr (3, a))), some (.inl v1), some (.inl v2), some (.inl v3), wv4, wv5], []) σ := by
  have hGQ := GQ_le ν
  have st : St T (fun (_ : Unit) _ _ _ => True) any2 g w m e (th σ) i (fun _ u => Q (.inl none) u) true 4 w A m e (s_b (s_list T (s_lv T ν) (w_x w) i) (fun _ k => s_nd T 1 k)) σ i := by
    rcases en with hG | hB
    · exact Or.inl ⟨hG, tle.rfl', by omega, hQ⟩
    · exact Or.inr ⟨rfl, hB, fun n u f c hn => hQ n u ⟨f, Or.inr ⟨Or.inr hB.no, c, hn⟩⟩⟩
  refine b3062_180 _ _ _ _ _ _ _ _ _ ?_
  refine St.call (h := 3) (c_list hI hw a) () st (fun _ => rfl) (by omega) (by rw [hw]; omega) hm rfl (fun v j B q n u st2 hf2 hj hs hn => ?_)
  rw [hv1]
  refine st2.free (Or.inr (Or.inr (Or.inl rfl))) (Nat.lt_of_lt_of_le hf hf2.2.2.2.2.1.2.2.2) (fun st3 hf3 => ?_)
  have st3 := st3.rw (r' := s_b (s_nd T 1 j) (fun _ k => s_r () k)) (fun _ => s_b_ret.symm)
  refine st3.need (by omega) (fun u4 st4 hf4 _ => ?_)
  exact st4.ret (n := 0) (fun _ => rfl) (fun _ => rfl) (fun gd => by have := hj (hf4.1 gd); omega) q (fun _ => by omega) (fun _ => Nat.le_refl _) (fun _ => trivial) (fun _ => trivial)
/-- the head of a body -/
def s_bodyH (T : sT) (si : Bool) (i : Nat) : sR Unit := s_b (s_nd T 0 i) (fun _ j => bif !si && t_dirL T (t_e T + 1) j then none else s_r () j)
theorem body_eq {E : sE} {x : sX} {si : Bool} : s_body T E x si i = s_b (s_bodyH T si i) (fun _ j => s_b (s_list T E x j) (fun _ k => s_nd T 1 k)) := by
  unfold s_body s_bodyH
  rw [s_b_b]
  congr 1
  funext v j
  cases !si && t_dirL T (t_e T + 1) j with
  | true => rfl
  | false => rw [cond_false, cond_false, s_b_r]
theorem ev_bodyH {si : Bool} : ev eN (s_bodyH T si i) := ev_b ev_nd fun _ _ => ev_i ev_none ev_r
theorem ev_rest {E : sE} (hE : EvE E) {x : sX} {j : Nat} : ev eS (s_b (s_list T E x j) (fun _ k => s_nd T 1 k)) := ev_b (ev_list hE) fun _ _ => ev_nd
theorem up_326 {u : mmS} (f : Fr θ σ u) {s : Nat} (hs : s < fN σ 324) : mm_a u 326 s = mm_a σ 326 s := (f.2.2.2.2.2.1 s hs).1
theorem body_156 {gen asy si : Bool} {fk : Nat} {v2 v3 : Int32} {u : mmS} {wv4 wv5 : Option mmV} (hI : cIt T ν) (hw : w_nu w = ν) (hd : 50 * ν + 14 ≤ d) (hq : g + 60 ≤ GQ ν) (hm : 16 ≤ m) (hf : fk < fN σ 336)
    (en : (cG T w A m e σ i ∧ w_sc w < fN σ 324 ∧ ∃ es t, A.1 = (1, es) :: t ∧ Pes es) ∨ ¬ GD σ) (hfr : Fr (th σ) σ u)
    (hu : (∃ j B q, run (w_in w) A (s_bodyH T si i) = some ((), j, B) ∧ cG T (yaW w gen asy) B (m + 12 + q) e u j ∧ i + 1 ≤ j) ∨ ((run (w_in w) A (s_bodyH T si i) = none ∨ ¬ GD σ) ∧ cB T (g + 30) u))
    (k : ∀ u, bdP T g w A m e (i + 1) (w_in w) (s_body T (s_lv T ν) (w_x (yaW w gen asy)) si i) σ u → Q (.inl none) u) :
    mm_W mt3062 (MC d) Q (156, [some (.inr (.inr (3, a))), some (.inl (nI fk)), some (.inl v2), some (.inl v3), wv4, wv5], []) u := by
  have hGQ := GQ_le ν
  have hE := ev_lv (T := T) ν
  have hfu : fk < fN u 336 := Nat.lt_of_lt_of_le hf hfr.2.2.2.2.1.2.2.2
  have hIu : cI T u := by
    rcases hu with ⟨j, B, q, x1, x2, x3⟩ | ⟨x1, x2⟩
    · exact x2.1
    · exact x2.1
  have hru : ∀ {j B}, run (w_in w) A (s_bodyH T si i) = some ((), j, B) → run (w_in w) A (s_body T (s_lv T ν) (w_x (yaW w gen asy)) si i) = run (w_in w) B (s_b (s_list T (s_lv T ν) (w_x (yaW w gen asy)) j) (fun _ k => s_nd T 1 k)) := fun {j B} h => by rw [body_eq, run_b, h]
  have hrn : run (w_in w) A (s_bodyH T si i) = none → run (w_in w) A (s_body T (s_lv T ν) (w_x (yaW w gen asy)) si i) = none := fun h => by rw [body_eq, run_b, h]
  have gdc : ∀ {p : Prop}, cB T (g + 30) u → GD u → p := fun h z => absurd z h.no
  refine b3062_156 _ _ _ _ _ _ _ _ _ (rd_fl hIu hfu (br_p (fun h8 => ?_) (fun h8 => ?_)))
  · rcases hu with ⟨j, B, q, x1, x2, x3⟩ | ⟨x1, x2⟩
    · have gdu := x2.2.1
      rcases en with ⟨e1, e2, es, t, e3, e4⟩ | e1
      · have hB : B.1 = (1, es) :: t := (run_nev1 ev_bodyH x1).trans e3
        refine body_180 (w := yaW w gen asy) (A := B) (m := m + 12 + q) (e := e) (i := j) (g := g) hI hw (by omega) (by omega) (by omega) rfl hfu (Or.inl x2) (fun n u2 rs => k u2 ?_)
        obtain ⟨f2, rs⟩ := rs
        have f02 : Fr (th σ) σ u2 := hfr.trans (f2.mono fun _ => th_le2 e1 x2 hfr (Nat.le_refl _))
        refine ⟨f02, ?_⟩
        rcases rs with ⟨v, j2, B2, q2, y1, y2, y3, y4⟩ | ⟨y1 | y1, y2, y3⟩
        · refine Or.inl ⟨j2, B2, B2, yaW w gen asy, _, (hru x1).trans y1, y2, by omega, by omega, rfl, ⟨rfl, rfl, rfl⟩, fun es' t' h' => ?_⟩
          rw [e3] at h'
          simp only [List.cons.injEq, Prod.mk.injEq] at h'
          obtain ⟨⟨-, rfl⟩, rfl⟩ := h'
          obtain ⟨a2, ha2⟩ := run_bod hB e4 (ev_rest hE) y1
          obtain ⟨R, b, z1, z2, -⟩ := y2.2.2.2.2.2.2.1
          have z46 : mm_f u2 346 = nI (w_sc w) := y2.2.2.2.2.2.1.1
          rw [ha2, z46] at z2
          have cp := y2.caps
          have cp0 := e1.caps
          have := path_pop z2 (by omega) (by omega)
          rw [up_326 f02 e2] at this
          exact ⟨R, _, z1, this.2⟩
        · exact Or.inr ⟨Or.inl ((hru x1).trans y1), y2⟩
        · exact absurd gdu y1
      · exact absurd (hfr.1 gdu) e1
    · refine body_180 (w := yaW w gen asy) (A := A) (m := m + 12) (e := e) (i := i) (g := g) hI hw (by omega) (by omega) (by omega) rfl hfu (Or.inr (x2.mono (by omega))) (fun n u2 rs => k u2 ?_)
      obtain ⟨f2, rs⟩ := rs
      refine ⟨hfr.trans (f2.mono fun z => gdc x2 z), Or.inr ⟨?_, ?_⟩⟩
      · rcases x1 with x1 | x1
        · exact Or.inl (hrn x1)
        · exact Or.inr x1
      · rcases rs with ⟨v, j2, B2, q2, y1, y2, y3, y4⟩ | ⟨y1, y2, y3⟩
        · exact gdc x2 (f2.1 y2.2.1)
        · exact y2
  · have lb := lnB.use hIu
    obtain ⟨R0, g0⟩ := hIu.2.2.1
    have hc : fN u 324 ≤ 8750 := by
      rcases hu with ⟨j, B, q, x1, x2, x3⟩ | ⟨x1, x2⟩
      · have := x2.caps; omega
      · obtain ⟨-, -, ⟨q, q1, q2, q3, q4, q5, -⟩, -⟩ := x2; omega
    refine c_openScope (by omega) g0.1 (by omega) (by omega) (by omega) (fun u3 o3 => ?_)
    have hI3 := hIu.OS o3 hc
    have f3 : Fr (th u) u u3 := Fr.OS o3
    have hfu3 : fk < fN u3 336 := Nat.lt_of_lt_of_le hfu f3.2.2.2.2.1.2.2.2
    have v341 : mm_v u 341 = mm_v u3 341 := (OS_sam o3 (k := 341) (Or.inr (by decide)) (by decide)).2.2.1.symm
    rw [v341]
    refine wr_fn hI3 (by decide) hfu3 ?_
    have fs : frS 341 := Or.inr (Or.inl rfl)
    have r3 := OS_row o3
    rcases hu with ⟨j, B, q, x1, x2, x3⟩ | ⟨x1, x2⟩
    · have gdu := x2.2.1
      rcases en with ⟨e1, e2, es, t, e3, e4⟩ | e1
      · have hB : B.1 = (1, es) :: t := (run_nev1 ev_bodyH x1).trans e3
        have hB1 : 1 ≤ w_B w := by
          obtain ⟨R, b, -, -, q3, q4, -⟩ := x2.2.2.2.2.2.2.1
          rw [hB] at q4
          have := hl_pos (x := (1, es)) (t := t)
          have q4 : hl ((1, es) :: t) ≤ w_B w := q4
          omega
        have x5 := (x2.OS o3 (B := w_B w) (by omega) hB1 x2.2.2.2.1.2.2).free (j := fk) (x := nI (fN u 324)) fs
        have f4 : Fr (th u) u (mm_seta u3 341 fk (nI (fN u 324))) := f3.trans (Fr.free fs)
        refine body_180 (w := psW (yaW w gen asy) (w_B w) (fN u 324)) (A := ((2, []) :: B.1, B.2)) (m := m + 12 + q - 4) (e := e) (i := j) (g := g) hI hw (by omega) (by omega) (by omega) rfl hfu3 (Or.inl x5) (fun n u2 rs => k u2 ?_)
        obtain ⟨f2, rs⟩ := rs
        have f42 : Fr (th u) u u2 := f4.trans (f2.mono fun _ => th_le2 x2 x5 f4 (Nat.le_refl _))
        have f02 : Fr (th σ) σ u2 := hfr.trans (f42.mono fun _ => th_le2 e1 x2 hfr (Nat.le_refl _))
        have sm := run_bod2 (inn := w_in w) hB e4 (ev_rest (T := T) hE (x := w_x (yaW w gen asy)) (j := j))
        refine ⟨f02, ?_⟩
        rcases rs with ⟨v, j2, B2, q2, y1, y2, y3, y4⟩ | ⟨y1 | y1, y2, y3⟩
        · obtain ⟨B3, s1, s2, a2, s3⟩ := sm.some y1
          refine Or.inl ⟨j2, B3, B2, psW (yaW w gen asy) (w_B w) (fN u 324), _, (hru x1).trans s1, y2, by omega, by omega, s2, ⟨rfl, rfl, rfl⟩, fun es' t' h' => ?_⟩
          rw [e3] at h'
          simp only [List.cons.injEq, Prod.mk.injEq] at h'
          obtain ⟨⟨-, rfl⟩, rfl⟩ := h'
          obtain ⟨R, b, z1, z2, -⟩ := y2.2.2.2.2.2.2.1
          have z46 : mm_f u2 346 = nI (fN u 324) := y2.2.2.2.2.2.1.1
          rw [s3, z46] at z2
          have cp := y2.caps
          have cp0 := e1.caps
          have p1 := (path_pop z2 (by omega) (by omega)).2
          have e26 : mm_a u2 326 (fN u 324) = nI (w_sc w) := by
            rw [up_326 f2 (s := fN u 324) (by show fN u 324 < fN u3 324; rw [o3.1.2.1]; omega)]
            show mm_a (mm_seta u3 341 fk (nI (fN u 324))) 326 (fN u 324) = _
            rw [a_seta_n (by decide), r3.1]
            exact x2.2.2.2.2.2.1.1
          rw [e26] at p1
          have := path_pop p1 (by omega) (by omega)
          rw [up_326 f02 e2] at this
          exact ⟨R, _, z1, this.2⟩
        · exact Or.inr ⟨Or.inl ((hru x1).trans (sm.none y1)), y2⟩
        · exact absurd (show GD (mm_seta u3 341 fk (nI (fN u 324))) from x5.2.1) y1
      · exact absurd (hfr.1 gdu) e1
    · have x2' : cB T (g + 14 + 16) u := x2
      have x5 := (x2'.OS o3).free (s := 341) (j := fk) (x := nI (fN u 324)) fs
      refine body_180 (w := yaW w gen asy) (A := A) (m := m + 12) (e := e) (i := i) (g := g) hI hw (by omega) (by omega) (by omega) rfl hfu3 (Or.inr (x5.mono (by omega))) (fun n u2 rs => k u2 ?_)
      obtain ⟨f2, rs⟩ := rs
      have f4 : Fr (th u) u (mm_seta u3 341 fk (nI (fN u 324))) := f3.trans (Fr.free fs)
      refine ⟨hfr.trans ((f4.trans (f2.mono fun z => absurd z x5.no)).mono fun z => gdc x2 z), Or.inr ⟨?_, ?_⟩⟩
      · rcases x1 with x1 | x1
        · exact Or.inl (hrn x1)
        · exact Or.inr x1
      · rcases rs with ⟨v, j2, B2, q2, y1, y2, y3, y4⟩ | ⟨y1, y2, y3⟩
        · exact absurd (f2.1 y2.2.1) x5.no
        · exact y2
theorem c_body {si gen asy : Bool} {fk : Nat} {K : mmS → Prop} {X : Nat → mmS → Prop} (hI : cIt T ν) (hw : w_nu w = ν) (hd : 50 * ν + 15 ≤ d) (hq : g + 60 ≤ GQ ν) (hm : 16 ≤ m) (hf : fk < fN σ 336)
    (en : (cG T w A m e σ i ∧ (mm_a σ 338 fk &&& 4 = 0 ↔ si = false) ∧ w_sc w < fN σ 324 ∧ ∃ es t, A.1 = (1, es) :: t ∧ Pes es) ∨ cB T (g + 40) σ)
    (k : ∀ u, bdP T g w A m e (i + 1) (w_in w) (s_body T (s_lv T ν) (w_x (yaW w gen asy)) si i) σ u → K u) :
    mm_cv (MC d) 3062 [.inr (.inr (3, a)), .inl (nI fk), .inl (bI gen), .inl (bI asy)] σ K X := by
  obtain ⟨d, rfl, hd⟩ := mc_pos (c := 50 * ν + 14) (by omega)
  have hGQ := GQ_le ν
  have b01 : ∀ b : Bool, bI b = 0 ∨ bI b = 1 := fun b => by cases b; exact Or.inl rfl; exact Or.inr rfl
  refine mc_cv (P := mt3062) (L := 6) rfl rfl ⟨by decide, Nat.le_of_ble_eq_true rfl⟩ fun Q hK hX => b3062_0 _ _ _ _ _ _ _ _ _ ⟨b01 gen, b01 asy, ?_⟩
  have en2 : (cG T w A m e σ i ∧ w_sc w < fN σ 324 ∧ ∃ es t, A.1 = (1, es) :: t ∧ Pes es) ∨ ¬ GD σ := by
    rcases en with ⟨e1, e2, e3, e4⟩ | e1
    · exact Or.inl ⟨e1, e3, e4⟩
    · exact Or.inr e1.no
  have hthy : th (mm_setf (mm_setf σ 348 (bI gen)) 349 (bI asy)) = th σ := th_ya
  -- behind the head
  have w156 : ∀ (n : Int32) (u : mmS), Rs T (fun (_ : Unit) _ _ _ => True) any2 (g + 30) (yaW w gen asy) (m + 12) e (th σ) (i + 1) A (s_bodyH T si i) (mm_setf (mm_setf σ 348 (bI gen)) 349 (bI asy)) n u → ∀ wv4 wv5, mm_W mt3062 (MC d) Q (156, [some (.inr (.inr (3, a))), some (.inl (nI fk)), some (.inl (bI gen)), some (.inl (bI asy)), wv4, wv5], []) u := by
    intro n u rs wv4 wv5
    obtain ⟨hfr, rs⟩ := rs
    refine body_156 (gen := gen) (asy := asy) (si := si) (w := w) (A := A) (m := m) (e := e) (i := i) (g := g) hI hw (by omega) hq hm hf en2 (Fr.ya.trans hfr) ?_ (fun u h => hK _ (k u h))
    rcases rs with ⟨v, j, B, q, x1, x2, x3, x4⟩ | ⟨x1, x2, x3⟩
    · exact Or.inl ⟨j, B, q, x1, x2, x4⟩
    · exact Or.inr ⟨x1, x2⟩
  have st : St T (fun (_ : Unit) _ _ _ => True) any2 (g + 30) (yaW w gen asy) (m + 12) e (th σ) (i + 1) (fun _ u => ∀ wv4 wv5, mm_W mt3062 (MC d) Q (156, [some (.inr (.inr (3, a))), some (.inl (nI fk)), some (.inl (bI gen)), some (.inl (bI asy)), wv4, wv5], []) u) true 4 (yaW w gen asy) A m e (s_bodyH T si i) (mm_setf (mm_setf σ 348 (bI gen)) 349 (bI asy)) i := by
    rcases en with ⟨e1, -⟩ | e1
    · exact Or.inl ⟨e1.ya, by rw [hthy]; exact tle.rfl', by omega, w156⟩
    · exact Or.inr ⟨rfl, ((e1.mono (show g + 30 + 4 ≤ g + 40 by omega)).setf rfl (by decide) (by decide) (by decide)).setf rfl (by decide) (by decide) (by decide), fun n u f c hn => w156 n u ⟨f, Or.inr ⟨Or.inr e1.no, c, hn⟩⟩⟩
  refine St.need st (by omega) (fun u1 st1 hf1 hz => ?_)
  have hf1u : fk < fN u1 336 := Nat.lt_of_lt_of_le hf hf1.2.2.2.2.1.2.2.2
  refine rd_fl st1.ci hf1u (br_p (fun h4 => ?_) (fun h4 => ?_))
  · obtain ⟨q, q1, q2, q3⟩ := st1.p
    rw [q1]
    have st1 := st1.rw (r' := bif t_dirL T (t_e T + 1) q then none else s_r () (i + 1)) (fun gd => ?_)
    · exact dir_loop (by omega) (fun _ => trivial) (fun u wv4 wv5 h => h wv4 wv5) (t_e T + 1) true u1 q _ _ (by omega) (fun gd => ⟨by have := (st1.gd gd).2.2.1.2; have := q3 gd; omega, by omega⟩) (fun _ => Nat.le_refl _) (fun _ => Nat.le_refl _) st1
    · rw [q3 gd]
      have gds : GD σ := hf1.1 gd
      rcases en with ⟨e1, e2, -⟩ | e1
      · have h5 := ((hf1.2.2.2.2.2.2.2 gd).2.2.1 fk (by rw [hthy]; exact hf)).1
        have : si = false := e2.mp (h5.symm.trans h4)
        rw [this]; rfl
      · exact absurd gds e1.no
  · have st1 := st1.rw (r' := s_r () (i + 1)) (fun gd => ?_)
    · exact st1.ret (n := 0) (fun _ => rfl) (fun _ => rfl) (fun _ => Nat.le_refl _) 0 (fun _ => Nat.le_refl _) (fun _ => Nat.le_refl _) (fun _ => trivial) (fun _ => trivial) _ _
    · have gds : GD σ := hf1.1 gd
      rcases en with ⟨e1, e2, -⟩ | e1
      · have h5 := ((hf1.2.2.2.2.2.2.2 gd).2.2.1 fk (by rw [hthy]; exact hf)).1
        cases hs : si with
        | true => rfl
        | false => exact absurd (h5.trans (e2.mpr hs)) h4
      · exact absurd gds e1.no
end BODY
