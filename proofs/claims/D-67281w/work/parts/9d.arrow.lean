/-! PHASE 3. arrow() -/
section ARROW
variable {T : sT} {g : Nat} {w : cW} {A : cA} {m e : Nat} {σ : mmS} {i : Nat}
variable {ν a d : Nat} {Q : mmQ}
variable {β : Type} {Sh : β → Nat → Int32 → mmS → Prop} {N : Int32 → mmS → Prop} {w0 : cW} {m0 e0 : Nat} {θ : cTh} {l0 : Nat} {Z : Int32 → mmS → Prop} {b : Bool} {h : Nat}
/-- parameters up to the arrow; what is behind it -/
def s_arP (T : sT) (E : sE) (cx : sC) (i : Nat) : sR Bool := bif t_sg T i 2 then s_b (s_parL T E (false, false, cx.2.2) (t_e T + 1) true 0 (i + 1)) (fun b k => s_r b.1 k) else s_b (s_named T 3 i) (fun b k => s_r b.1 k)
def s_arH (T : sT) (E : sE) (cx : sC) (i : Nat) : sR Bool := s_b (s_arP T E cx i) (fun si j => bif t_ar T j then s_r si j else none)
def s_arB (T : sT) (E : sE) (cx : sC) (inn asy : Bool) (si : Bool) (j : Nat) : sR Unit := bif t_sg T (j + 1) 0 then s_body T E ((false, asy, cx.2.2), true, false, false, []) si (j + 1) else s_b (E.1 (false, asy, cx.2.2) inn (j + 1)) (fun _ k => s_r () k)
theorem s_arrow_eq {E : sE} {cx : sC} {inn asy : Bool} : s_arrow T E cx inn asy i = s_fn 1 (s_b (s_arH T E cx i) (fun si j => s_b (s_arB T E cx inn asy si j) (fun _ k => s_r (n_k 11) k))) := by
  unfold s_arrow s_arH s_arP s_arB
  congr 1
  rw [s_b_b]
  congr 1
  funext si j
  cases t_ar T j with
  | false => rfl
  | true =>
    rw [cond_true, cond_true, s_b_r]
    cases t_sg T (j + 1) 0 with
    | true => rfl
    | false =>
      rw [cond_false, cond_false, s_b_b]
      congr 1
theorem ev_arP {E : sE} (hE : EvE E) {cx : sC} : ev (eK 3) (s_arP T E cx i) := ev_i (ev_b (ev_parL hE _ _ _ _) fun _ _ => ev_r) (ev_b ev_named fun _ _ => ev_r)
theorem ev_arH {E : sE} (hE : EvE E) {cx : sC} : ev (eK 3) (s_arH T E cx i) := ev_b (ev_arP hE) fun _ _ => ev_i ev_r ev_none
theorem ev_arB {E : sE} (hE : EvE E) {cx : sC} {inn asy si : Bool} {j : Nat} : ev eS (s_arB T E cx inn asy si j) := ev_i (ev_body hE) (ev_b (ev_n (hE.1 _ _ _)) fun _ _ => ev_r)
theorem setf_id {k : Nat} {x : Int32} (h : mm_f σ k = x) : mm_setf σ k x = σ := by
  unfold mm_setf mm_up
  refine Prod.ext (funext fun j => ?_) rfl
  show (if j = k then x else σ.1 j) = σ.1 j
  by_cases c : j = k
  · rw [if_pos c, c]; exact h.symm
  · rw [if_neg c]
theorem bgC_1 {c : sC} : bgC c 1 = (false, false, c.2.2) := rfl
/-- finish() and the node -/
theorem arrow_228 {inn asy : Bool} {v1 v2 : Int32} {wv6 wv8 wv9 : Option mmV} {u2 : mmS} (hd : 5 ≤ d) (hq : g + 4 ≤ 69500) (en : cG T w A m e σ i) (hK : ∀ n u, Rs T (shN T ν σ) nid g w m e (th σ) (i + 1) A (s_arrow T (s_lv T ν) (w_x w).1 inn asy i) σ n u → Q (.inl (some (.inl n))) u) (fσ : Fr (th σ) σ u2)
    (h : (∃ j2 B' w' m', run (w_in w) A (s_arrow T (s_lv T ν) (w_x w).1 inn asy i) = some (n_k 11, j2, (A.1, B'.2)) ∧ cG T w' B' m' e u2 j2 ∧ m + 2 ≤ m' ∧ i + 1 ≤ j2 ∧ (w_nu w' = w_nu w ∧ w_in w' = w_in w ∧ w_cl w' = w_cl w) ∧ ∃ R b, stru u2 R ∧ path u2 R A.1 (nI (w_sc w)) b) ∨ (run (w_in w) A (s_arrow T (s_lv T ν) (w_x w).1 inn asy i) = none ∧ cB T (g + 1) u2)) :
    mm_W mt3060 (MC d) Q (228, [some (.inr (.inr (3, a))), some (.inl v1), some (.inl v2), some (.inl (mm_f σ 346)), some (.inl (mm_f σ 347)), some (.inr (.inl (kpt σ))), wv6, some (.inl (nI (fN σ 336))), wv8, wv9], []) u2 := by
  have n1 := en.1.2.1.2.1
  have e46 := en.2.2.2.2.2.1.1
  have e47 := en.2.2.2.2.2.1.2
  have fv : Fr (th σ) σ (kpS (mm_setf (mm_setf u2 346 (mm_f σ 346)) 347 (mm_f σ 347)) (kpt σ)) := fσ.trans Fr.fin
  refine b3060_228 _ _ _ _ _ _ _ _ _ _ _ _ _ (c_finish (by omega) ?_)
  rcases h with ⟨j2, B', w', m', y1, y2, y3, y4, y5, R, b, z1, z2⟩ | ⟨y1, y2⟩
  · have gf := en.fin y2 y5 fσ ⟨R, b, z1, z2⟩
    rw [← e46, ← e47] at gf
    have st : St T (shN T ν σ) nid g w m e (th σ) (i + 1) (fun n u => Q (.inl (some (.inl n))) u) false 1 w (A.1, B'.2) m' e (s_r (n_k 11) j2) (kpS (mm_setf (mm_setf u2 346 (mm_f σ 346)) 347 (mm_f σ 347)) (kpt σ)) j2 := by
      refine Or.inl ⟨gf, th_le2 en gf fv (Nat.le_refl _), by omega, fun n u rs => hK n u ⟨fv.trans rs.1, ?_⟩⟩
      rw [y1, ← run_r (inn := w_in w)]
      rcases rs.2 with x | ⟨x1 | x1, x2⟩
      · exact Or.inl x
      · exact Or.inr ⟨Or.inl x1, x2⟩
      · exact absurd gf.2.1 x1
    refine st.node (h := 0) (by omega) (by omega) (fun n5 u5 st5 hf5 nw => ?_)
    exact st5.ret (fun _ => rfl) (fun _ => rfl) (fun _ => y4) 1 (fun _ => by omega) (fun _ => Nat.le_refl _) (fun _ => sh_k nw n1 (by have := fv.nn; omega) rfl) (fun _ => nw.nid)
  · have cb := cB.fin y2 (cI.back en.1 y2.1 fσ (v := kpt σ))
    have st : St T (shN T ν σ) nid g w m e (th σ) (i + 1) (fun n u => Q (.inl (some (.inl n))) u) true 1 w A (m + 1) e (s_r (n_k 11) i) (kpS (mm_setf (mm_setf u2 346 (mm_f σ 346)) 347 (mm_f σ 347)) (kpt σ)) i :=
      Or.inr ⟨rfl, cb, fun n u f c hn => hK n u ⟨fv.trans (f.mono fun z => absurd z cb.no), Or.inr ⟨Or.inl y1, c, hn⟩⟩⟩
    refine st.node (h := 0) (by omega) (by omega) (fun n5 u5 st5 hf5 nw => ?_)
    exact st5.bad (fun z => cb.no (hf5.1 z)) nw.nid
/-- what is behind the arrow, where it is an expression -/
theorem arrow_184 {inn : Bool} {v1 v2 : Int32} {wv6 wv8 wv9 : Option mmV} {u : mmS} {w1 : cW} {A1 : cA} {m1 j fk : Nat} (ih : cAsg T ν) (hw1 : w_nu w1 = ν) (hd : 50 * ν + 12 ≤ d) (hq : g + 10 ≤ GQ ν) (hm1 : 24 ≤ m1) (hv1 : v1 = bI inn) (hfu : fk < fN u 336) (en : cG T w1 A1 m1 e u j ∨ cB T (g + 1) u)
    (hz : ∀ (u2 : mmS) (wv8 wv9 : Option mmV), Fr (th u) u u2 → ((∃ v j2 B2 m2, run (w_in w1) A1 ((s_lv T ν).1 (w_x w1).1 inn j) = some (v, j2, B2) ∧ cG T w1 B2 m2 e u2 j2 ∧ m1 ≤ m2 ∧ j + 1 ≤ j2) ∨ ((run (w_in w1) A1 ((s_lv T ν).1 (w_x w1).1 inn j) = none ∨ ¬ GD u) ∧ cB T g u2)) → mm_W mt3060 (MC d) Q (228, [some (.inr (.inr (3, a))), some (.inl v1), some (.inl v2), some (.inl (mm_f σ 346)), some (.inl (mm_f σ 347)), some (.inr (.inl (kpt σ))), wv6, some (.inl (nI fk)), wv8, wv9], []) u2) :
    mm_W mt3060 (MC d) Q (184, [some (.inr (.inr (3, a))), some (.inl v1), some (.inl v2), some (.inl (mm_f σ 346)), some (.inl (mm_f σ 347)), some (.inr (.inl (kpt σ))), wv6, some (.inl (nI fk)), wv8, wv9], []) u := by
  have hGQ := GQ_le ν
  have f14 : ∀ {θ : cTh} {u : mmS} {x : Int32}, Fr θ u (mm_setf u 314 x) := fun {θ u x} => Fr.setf rfl (by decide) (by decide) (by decide) (by decide) (by decide) (by decide)
  have t14 : ∀ {u : mmS} {x : Int32}, th (mm_setf u 314 x) = th u := fun {u x} => th_setf (by decide) (by decide) (by decide) (by decide)
  have g14 : ∀ {w1 : cW} {A1 : cA} {m1 : Nat} {u : mmS} {x : Int32} {j : Nat}, cG T w1 A1 m1 e u j → cG T w1 A1 m1 e (mm_setf u 314 x) j := fun {w1 A1 m1 u x j} h => by
    obtain ⟨h1, h2, h3, h4, h5, h6, h7, h8, h9, h10, h11, h12, hc⟩ := h
    have f (k : Nat) (hk : k ≠ 314) : mm_f (mm_setf u 314 x) k = mm_f u k := f_other hk
    have fe (k : Nat) (hk : k ≠ 314) := fN_eq (f k hk)
    refine ⟨h1.setf rfl, (f 303 (by decide)).trans h2, by rw [f 311 (by decide)]; exact h3, by rw [f 312 (by decide)]; exact h4, h5.of (fun k k1 k2 => f k (by omega)) rfl rfl rfl, by rw [f 346 (by decide), f 347 (by decide)]; exact h6, h7.of (f 324 (by decide)) (f 325 (by decide)) (f 346 (by decide)) (fun _ _ _ => ⟨rfl, rfl⟩), by rw [f 313 (by decide)]; exact h8, by rw [f 360 (by decide)]; exact h9, by rw [fe 336 (by decide), cntF_of (σ := u) (u := mm_setf u 314 x) (fun _ _ => rfl)]; exact h10, by rw [f 359 (by decide)]; exact h11, by rw [f 358 (by decide)]; exact h12, ?_⟩
    unfold cC
    rw [fe 315 (by decide), fe 324 (by decide), fe 336 (by decide), fe 325 (by decide), f 371 (by decide)]
    exact hc
  refine b3060_184 _ _ _ _ _ _ _ _ _ _ _ _ _ ?_
  -- the rest of the walk, from what the expression answers
  have rest : ∀ (x : Int32) (u3 : mmS), Fr (th u) u u3 → ((∃ v j2 B2 m2, run (w_in w1) A1 ((s_lv T ν).1 (w_x w1).1 inn j) = some (v, j2, B2) ∧ cG T w1 B2 m2 e u3 j2 ∧ m1 + 1 ≤ m2 ∧ j + 1 ≤ j2) ∨ ((run (w_in w1) A1 ((s_lv T ν).1 (w_x w1).1 inn j) = none ∨ ¬ GD u) ∧ cB T (g + 1) u3)) →
      mm_I (MC d) Q 3051 [.inr (.inr (3, a)), .inl 71, .inl x, .inl 0, .inl 0] u3 (fun x4 σ3 => mm_S σ3 343 (nI fk) x4 (fun σ5 => mm_W mt3060 (MC d) Q (228, [some (.inr (.inr (3, a))), some (.inl v1), some (.inl v2), some (.inl (mm_f σ 346)), some (.inl (mm_f σ 347)), some (.inr (.inl (kpt σ))), wv6, some (.inl (nI fk)), some (.inl (mm_f u 314)), some (.inl x4)], []) (mm_setf σ5 314 (mm_f u 314)))) := by
    intro x u3 f3 hs
    have hI3 : cI T u3 := by
      rcases hs with ⟨v, j2, B2, m2, x1, x2, -⟩ | ⟨x1, x2⟩
      · exact x2.1
      · exact x2.1
    have hfu3 : fk < fN u3 336 := Nat.lt_of_lt_of_le hfu f3.2.2.2.2.1.2.2.2
    have fr3 : frS 343 := Or.inr (Or.inr (Or.inl rfl))
    have b := lnB.use hI3
    have hc3 : fN u3 315 ≤ 85000 := by
      rcases hs with ⟨v, j2, B2, m2, x1, x2, -⟩ | ⟨x1, x2⟩
      · have := x2.caps; omega
      · obtain ⟨-, -, ⟨q, q1, q2, q3, q4, -⟩, -⟩ := x2; omega
    refine c_node (by omega) hI3.2.1 hc3 (by omega) b.2.1 (fun u4 ns => ?_)
    have h35 : ((71 : Int32) == 35) = false ∨ nid x u3 := Or.inl rfl
    have f4 := Fr.NS ns
    have hI4 : cI T u4 := hI3.NS ns hc3 h35
    have hfu4 : fk < fN u4 336 := Nat.lt_of_lt_of_le hfu3 f4.2.2.2.2.1.2.2.2
    refine wr_fn hI4 (by decide) hfu4 ?_
    have f5 : Fr (th u3) u3 (mm_setf (mm_seta u4 343 fk (nI (fN u3 315))) 314 (mm_f u 314)) := (f4.trans (Fr.free fr3)).trans f14
    have f35 : GD u3 → tle (th u) (th u3) := fun gd => by
      rcases hs with ⟨v, j2, B2, m2, x1, x2, -⟩ | ⟨x1, x2⟩
      · rcases en with e1 | e1
        · exact th_le2 e1 x2 f3 (Nat.le_refl _)
        · exact absurd (f3.1 gd) e1.no
      · exact absurd gd x2.no
    refine hz _ _ _ (f3.trans (f5.mono f35)) ?_
    rcases hs with ⟨v, j2, B2, m2, x1, x2, x3, x4⟩ | ⟨x1, x2⟩
    · exact Or.inl ⟨v, j2, B2, m2 - 1, x1, g14 ((x2.NS (by omega) ns h35).free fr3), by omega, x4⟩
    · exact Or.inr ⟨x1, ((cB.NS x2 ns h35).free fr3).setf rfl (by decide) (by decide) (by decide)⟩
  rw [hv1]
  have en' : cG T w1 A1 m1 e (mm_setf u 314 (mm_f u 311)) j ∨ (true = true ∧ cB T (g + 1 + 0) (mm_setf u 314 (mm_f u 311))) := by
    rcases en with e1 | e1
    · exact Or.inl (g14 e1)
    · exact Or.inr ⟨rfl, e1.setf rfl (by decide) (by decide) (by decide)⟩
  refine ih a w1 inn hw1 d (g + 1) A1 m1 e j _ _ _ (by omega) (by rw [hw1]; omega) hm1 en' (fun n u3 rs => ?_)
  obtain ⟨fr3, rs⟩ := rs
  rw [t14] at fr3
  rw [← hv1]
  refine rest n u3 (f14.trans fr3) ?_
  rcases rs with ⟨v, j2, B2, q2, y1, y2, y3, y4⟩ | ⟨y1, y2, y3⟩
  · exact Or.inl ⟨v, j2, B2, m1 + q2, y1, y2, by obtain ⟨_, _, z⟩ := y3.sh; have := z.1.2; omega, y4⟩
  · exact Or.inr ⟨y1, y2⟩
/-- readings of head and rest make that of the arrow -/
theorem arrow_run {E : sE} (hEv : EvE E) {inn asy si : Bool} {j : Nat} {B : cA} (h1 : run (w_in w) (bgA A 1) (s_arH T E (w_x w).1 i) = some (si, j, B)) :
    (∀ j2 B2, run (w_in w) B (s_arB T E (w_x w).1 inn asy si j) = some ((), j2, B2) → run (w_in w) A (s_arrow T E (w_x w).1 inn asy i) = some (n_k 11, j2, (A.1, B2.2))) ∧ (run (w_in w) B (s_arB T E (w_x w).1 inn asy si j) = none → run (w_in w) A (s_arrow T E (w_x w).1 inn asy i) = none) := by
  have sm := run_fn (inn := w_in w) (A := A) (n := 1) (r1 := s_arH T E (w_x w).1 i) (r2 := fun si j => s_b (s_arB T E (w_x w).1 inn asy si j) (fun _ k => s_r (n_k 11) k)) (ev_arH hEv) (fun _ _ => ev_b (ev_arB hEv) fun _ _ => ev_r)
  rw [← s_arrow_eq] at sm
  have sm : sim _ (run (w_in w) (bgA A 1) _) _ := sm
  refine ⟨fun j2 B2 h2 => ?_, fun h2 => sm.none (by rw [run_b, h1]; show run _ _ _ = none; rw [run_b, h2])⟩
  obtain ⟨B3, s1, s2, s3, s4⟩ := sm.some (v := n_k 11) (j := j2) (B := B2) (by rw [run_b, h1]; show run _ _ _ = _; rw [run_b, h2]; exact run_r)
  rw [s1, show B3 = (A.1, B2.2) from Prod.ext s4 s2.symm]
theorem arrow_none {E : sE} (hEv : EvE E) {inn asy : Bool} (h1 : run (w_in w) (bgA A 1) (s_arH T E (w_x w).1 i) = none) : run (w_in w) A (s_arrow T E (w_x w).1 inn asy i) = none := by
  have sm := run_fn (inn := w_in w) (A := A) (n := 1) (r1 := s_arH T E (w_x w).1 i) (r2 := fun si j => s_b (s_arB T E (w_x w).1 inn asy si j) (fun _ k => s_r (n_k 11) k)) (ev_arH hEv) (fun _ _ => ev_b (ev_arB hEv) fun _ _ => ev_r)
  rw [← s_arrow_eq] at sm
  have sm : sim _ (run (w_in w) (bgA A 1) _) _ := sm
  exact sm.none (by rw [run_b, h1])
theorem arH_ar {E : sE} {inn : Bool} {cx : sC} {si : Bool} {j : Nat} {B : cA} (h : run inn A (s_arH T E cx i) = some (si, j, B)) : t_ar T j = true := by
  unfold s_arH at h
  rw [run_b] at h
  cases h1 : run inn A (s_arP T E cx i) with
  | none => rw [h1] at h; exact nomatch h
  | some z =>
    obtain ⟨v, k, B1⟩ := z
    rw [h1] at h
    have h : run inn B1 (bif t_ar T k then s_r v k else none) = some (si, j, B) := h
    cases ht : t_ar T k with
    | false => rw [ht] at h; exact nomatch h
    | true =>
      rw [ht, cond_true, run_r] at h
      simp only [Option.some.injEq, Prod.mk.injEq] at h
      rw [← h.2.1]
      exact ht
theorem yaX {asy : Bool} {sc hr : Nat} : w_x (yaW (bgW w 1 sc hr) false asy) = ((false, asy, (w_x w).1.2.2), true, false, false, []) := rfl
/-- behind the arrow's sign -/
theorem arrow_106 {inn asy : Bool} {u : mmS} {wv8 wv9 : Option mmV} (ih : cAsg T ν) (hI : cIt T ν) (hw : w_nu w = ν) (hd : 50 * ν + 30 ≤ d) (hq : g + 1310 ≤ GQ ν) (hm : 24 ≤ m) (en : cG T w A m e σ i) (hK : ∀ n u, Rs T (shN T ν σ) nid g w m e (th σ) (i + 1) A (s_arrow T (s_lv T ν) (w_x w).1 inn asy i) σ n u → Q (.inl (some (.inl n))) u) (fσ : Fr (th σ) σ u)
    (hfu : fN σ 336 < fN u 336) (hsc : fN σ 324 < fN u 324) (u326 : mm_a u 326 (fN σ 324) = mm_f σ 346) (y348 : mm_f u 348 = 0 ∨ ¬ GD u)
    (hs : (∃ si j B q, run (w_in w) (bgA A 1) (s_arH T (s_lv T ν) (w_x w).1 i) = some (si, j, B) ∧ cG T (bgW w 1 (fN σ 324) (fN σ 336)) B (m - 6 + q) e u j ∧ i + 1 ≤ j ∧ (mm_a u 338 (fN σ 336) &&& 4 = 0 ↔ si = false)) ∨ (run (w_in w) (bgA A 1) (s_arH T (s_lv T ν) (w_x w).1 i) = none ∧ cB T (g + 1303) u ∧ (NZ T u ∨ mm_f u 311 = nI (t_e T)))) :
    mm_W mt3060 (MC d) Q (106, [some (.inr (.inr (3, a))), some (.inl (bI inn)), some (.inl (if asy then 2 else 0)), some (.inl (mm_f σ 346)), some (.inl (mm_f σ 347)), some (.inr (.inl (kpt σ))), none, some (.inl (nI (fN σ 336))), wv8, wv9], []) u := by
  have hGQ := GQ_le ν
  have hEv := ev_lv (T := T) ν
  have cp0 := en.caps
  have e46 := en.2.2.2.2.2.1.1
  -- a token on
  generalize hu' : mm_setf u 311 (mm_f u 311 + 1) = u'
  have fu' : Fr (th u) u u' := by rw [← hu']; exact Fr_adv
  have au' : mm_a u' = mm_a u := by rw [← hu']; rfl
  have hs' : ∃ q', mm_f u' 311 = nI q' ∧ q' < 3002 ∧ ((∃ si j B q, run (w_in w) (bgA A 1) (s_arH T (s_lv T ν) (w_x w).1 i) = some (si, j, B) ∧ cG T (bgW w 1 (fN σ 324) (fN σ 336)) B (m - 6 + q + 12) e u' (j + 1) ∧ i + 1 ≤ j ∧ (mm_a u' 338 (fN σ 336) &&& 4 = 0 ↔ si = false) ∧ q' = j + 1) ∨ (run (w_in w) (bgA A 1) (s_arH T (s_lv T ν) (w_x w).1 i) = none ∧ cB T (g + 41) u')) := by
    rcases hs with ⟨si, j, B, q, x1, x2, x3, x4⟩ | ⟨x1, x2, x3⟩
    · have ht := arH_ar x1
      have hk : T.1 j ≠ 0 := by
        unfold t_ar t_sg at ht
        rw [Bool.and_eq_true, Bool.and_eq_true, beq_iff_eq] at ht
        rw [ht.1.1]
        decide
      have g2 := x2.adv (NZ_g x2 hk)
      rw [hu'] at g2
      have := g2.2.2.1
      have he := g2.1.1.2.2.2.2.2.2.2.1
      exact ⟨j + 1, this.1, by omega, Or.inl ⟨si, j, B, q, x1, g2, x3, by rw [au']; exact x4, rfl⟩⟩
    · have c2 : cB T (g + 41) u' := by
        rcases x3 with x3 | x3
        · have := x2.adv x3
          rw [hu'] at this
          exact this.mono (by omega)
        · have := cB.over (g := g + 41) (x2.mono (by omega)) x3
          rw [hu'] at this
          exact this
      obtain ⟨-, -, ⟨q, q1, q2, q3, -⟩, -⟩ := id c2
      exact ⟨q, q1, by omega, Or.inr ⟨x1, c2⟩⟩
  obtain ⟨q', hp', hq', hs'⟩ := hs'
  have hIu' : cI T u' := by
    rcases hs' with ⟨si, j, B, q, x1, x2, -⟩ | ⟨x1, x2⟩
    · exact x2.1
    · exact x2.1
  have hfu' : fN σ 336 < fN u' 336 := Nat.lt_of_lt_of_le hfu fu'.2.2.2.2.1.2.2.2
  have hsc' : fN σ 324 < fN u' 324 := Nat.lt_of_lt_of_le hsc fu'.2.2.2.2.1.2.1
  have u326' : mm_a u' 326 (fN σ 324) = mm_f σ 346 := by rw [au']; exact u326
  have fσ' : Fr (th σ) σ u' := by
    refine fσ.trans (fu'.mono fun gd => ?_)
    rcases hs with ⟨si, j, B, q, x1, x2, -⟩ | ⟨x1, x2, -⟩
    · exact th_le2 en x2 fσ (Nat.le_refl _)
    · exact absurd gd x2.no
  -- the body
  have bdy : mm_V (MC d) Q 3062 [.inr (.inr (3, a)), .inl (nI (fN σ 336)), .inl (bI false), .inl (bI asy)] u' (fun σ3 => mm_W mt3060 (MC d) Q (228, [some (.inr (.inr (3, a))), some (.inl (bI inn)), some (.inl (if asy then 2 else 0)), some (.inl (mm_f σ 346)), some (.inl (mm_f σ 347)), some (.inr (.inl (kpt σ))), none, some (.inl (nI (fN σ 336))), wv8, wv9], []) σ3) ∨ t_sg T q' 0 = false := by
    cases z0 : t_sg T q' 0 with
    | false => exact Or.inr rfl
    | true =>
      refine Or.inl ?_
      rcases hs' with ⟨si, j, B, q, x1, x2, x3, x4, x5⟩ | ⟨x1, x2⟩
      · subst x5
        obtain ⟨es, hB1, hPes⟩ := run_par (A := bgA A 1) (L := A.1) rfl (ev_arH hEv) x1
        refine c_body (w := bgW w 1 (fN σ 324) (fN σ 336)) (A := B) (si := si) (m := m - 6 + q + 12) (e := e) (i := j + 1) (g := g + 1) hI hw (by omega) (by omega) (by omega) hfu' (Or.inl ⟨x2, x4, hsc', es, A.1, hB1, hPes⟩) (fun u2 hbd => ?_)
        obtain ⟨f2, hbd⟩ := hbd
        have f02 : Fr (th σ) σ u2 := fσ'.trans (f2.mono fun _ => th_le2 en x2 fσ' (Nat.le_refl _))
        rw [yaX] at hbd
        have hr : s_arB T (s_lv T ν) (w_x w).1 inn asy si j = s_body T (s_lv T ν) ((false, asy, (w_x w).1.2.2), true, false, false, []) si (j + 1) := by unfold s_arB; rw [z0]; rfl
        have ar := arrow_run hEv (inn := inn) (asy := asy) x1
        rw [hr] at ar
        refine arrow_228 (by omega) (by omega) en hK f02 ?_
        rcases hbd with ⟨j2, B2, B', w', m', y1, y2, y3, y4, y5, y6, y9⟩ | ⟨y1 | y1, y2⟩
        · obtain ⟨R, b, z1, z2⟩ := y9 es A.1 hB1
          have z2 : path u2 R A.1 (mm_a u' 326 (fN σ 324)) b := z2
          rw [u326', e46] at z2
          exact Or.inl ⟨j2, B', w', m', by rw [ar.1 j2 B2 y1, y5], y2, by omega, by omega, y6, R, b, z1, z2⟩
        · exact Or.inr ⟨ar.2 y1, y2⟩
        · exact absurd x2.2.1 y1
      · refine c_body (w := bgW w 1 (fN σ 324) (fN σ 336)) (A := bgA A 1) (si := true) (m := m) (e := e) (i := i) (g := g + 1) hI hw (by omega) (by omega) (by omega) hfu' (Or.inr x2) (fun u2 hbd => ?_)
        obtain ⟨f2, hbd⟩ := hbd
        have f02 : Fr (th σ) σ u2 := fσ'.trans (f2.mono fun z => absurd z x2.no)
        refine arrow_228 (by omega) (by omega) en hK f02 (Or.inr ⟨arrow_none hEv x1, ?_⟩)
        rcases hbd with ⟨j2, B2, B', w', m', y1, y2, -⟩ | ⟨y1, y2⟩
        · exact absurd (f2.1 y2.2.1) x2.no
        · exact y2
  -- the expression
  have f49 : ∀ {θ : cTh} {x : Int32}, Fr θ u' (mm_setf u' 349 x) := fun {θ x} => Fr.setf rfl (by decide) (by decide) (by decide) (by decide) (by decide) (by decide)
  have fσ'' : Fr (th σ) σ (mm_setf u' 349 (bI asy)) := fσ'.trans f49
  have ge : t_sg T q' 0 = false → (∃ si j B q, run (w_in w) (bgA A 1) (s_arH T (s_lv T ν) (w_x w).1 i) = some (si, j, B) ∧ cG T (yaW (bgW w 1 (fN σ 324) (fN σ 336)) false asy) B (m - 6 + q + 12) e (mm_setf u' 349 (bI asy)) (j + 1) ∧ i + 1 ≤ j ∧ t_sg T (j + 1) 0 = false) ∨ (run (w_in w) (bgA A 1) (s_arH T (s_lv T ν) (w_x w).1 i) = none ∧ cB T (g + 41) (mm_setf u' 349 (bI asy))) := fun z0 => by
    rcases hs' with ⟨si, j, B, q, x1, x2, x3, x4, x5⟩ | ⟨x1, x2⟩
    · have e8 : mm_setf u' 348 (bI false) = u' := setf_id (by
        have := x2.2.2.2.2.1.1.1
        exact this)
      have := x2.ya (gen := false) (asy := asy)
      rw [e8] at this
      exact Or.inl ⟨si, j, B, q, x1, this, x3, by rw [← x5]; exact z0⟩
    · exact Or.inr ⟨x1, x2.setf rfl (by decide) (by decide) (by decide)⟩
  have w155 : t_sg T q' 0 = false → ∀ as1, mm_W mt3060 (MC d) Q (155, [some (.inr (.inr (3, a))), some (.inl (bI inn)), some (.inl (if asy then 2 else 0)), some (.inl (mm_f σ 346)), some (.inl (mm_f σ 347)), some (.inr (.inl (kpt σ))), none, some (.inl (nI (fN σ 336))), wv8, wv9], [.inl (bI asy), .inr (.inr (3, as1))]) u' := fun z0 as1 => by
    have b01 : bI asy = 0 ∨ bI asy = 1 := by cases asy; exact Or.inl rfl; exact Or.inr rfl
    have hv := ge z0
    have hI2 : cI T (mm_setf u' 349 (bI asy)) := hIu'.setf rfl
    generalize hv' : mm_setf u' 349 (bI asy) = v at hv hI2 fσ''
    have hfv : fN σ 336 < fN v 336 := by rw [← hv']; exact hfu'
    have hscv : fN σ 324 < fN v 324 := by rw [← hv']; exact hsc'
    have v326 : mm_a v 326 (fN σ 324) = mm_f σ 346 := by rw [← hv']; exact u326'
    refine b3060_155 _ _ _ _ _ _ _ _ _ _ _ _ _ _ _ ⟨b01, ?_⟩
    rw [hv']
    refine rd_fl hI2 hfv (br_p (fun h8 => ?_) (fun h8 => ?_))
    · rcases hv with ⟨si, j, B, q, x1, x2, x3, x4⟩ | ⟨x1, x2⟩
      · obtain ⟨es, hB1, hPes⟩ := run_par (A := bgA A 1) (L := A.1) rfl (ev_arH hEv) x1
        have ar := arrow_run hEv (inn := inn) (asy := asy) x1
        have hr : s_arB T (s_lv T ν) (w_x w).1 inn asy si j = s_b ((s_lv T ν).1 (false, asy, (w_x w).1.2.2) inn (j + 1)) (fun _ k => s_r () k) := by unfold s_arB; rw [x4]; rfl
        rw [hr] at ar
        refine arrow_184 (w1 := yaW (bgW w 1 (fN σ 324) (fN σ 336)) false asy) (A1 := B) (m1 := m - 6 + q + 12) (e := e) (j := j + 1) (g := g + 1) (inn := inn) ih hw (by omega) (by omega) (by omega) rfl hfv (Or.inl x2) (fun u2 wv8 wv9 f2 hst => ?_)
        have f02 : Fr (th σ) σ u2 := fσ''.trans (f2.mono fun _ => th_le2 en x2 fσ'' (Nat.le_refl _))
        refine arrow_228 (by omega) (by omega) en hK f02 ?_
        rcases hst with ⟨v2, j2, B2, m2, y1, y2, y3, y4⟩ | ⟨y1 | y1, y2⟩
        · have y1 : run (w_in w) B ((s_lv T ν).1 (false, asy, (w_x w).1.2.2) inn (j + 1)) = some (v2, j2, B2) := y1
          have r2 : run (w_in w) B (s_b ((s_lv T ν).1 (false, asy, (w_x w).1.2.2) inn (j + 1)) (fun _ k => s_r () k)) = some ((), j2, B2) := by rw [run_b, y1]; exact run_r
          have hB2 : B2.1 = (1, es) :: A.1 := (run_nev1 (hEv.1 _ _ _) y1).trans hB1
          obtain ⟨R, b, z1, z2, -⟩ := y2.2.2.2.2.2.2.1
          have z46 : mm_f u2 346 = nI (fN σ 324) := y2.2.2.2.2.2.1.1
          rw [hB2, z46] at z2
          have cp := y2.caps
          have p1 := (path_pop z2 (by omega) (by omega)).2
          rw [up_326 f2 hscv, v326, e46] at p1
          exact Or.inl ⟨j2, B2, _, m2, ar.1 j2 B2 r2, y2, by omega, by omega, ⟨rfl, rfl, rfl⟩, R, _, z1, p1⟩
        · have y1 : run (w_in w) B ((s_lv T ν).1 (false, asy, (w_x w).1.2.2) inn (j + 1)) = none := y1
          exact Or.inr ⟨ar.2 (by rw [run_b, y1]), y2⟩
        · exact absurd x2.2.1 y1
      · refine arrow_184 (w1 := yaW (bgW w 1 (fN σ 324) (fN σ 336)) false asy) (A1 := A) (m1 := m) (e := e) (j := i) (g := g + 1) (inn := inn) ih hw (by omega) (by omega) (by omega) rfl hfv (Or.inr (x2.mono (by omega))) (fun u2 wv8 wv9 f2 hst => ?_)
        have f02 : Fr (th σ) σ u2 := fσ''.trans (f2.mono fun z => absurd z x2.no)
        refine arrow_228 (by omega) (by omega) en hK f02 (Or.inr ⟨arrow_none hEv x1, ?_⟩)
        rcases hst with ⟨v2, j2, B2, m2, y1, y2, y3, y4⟩ | ⟨y1, y2⟩
        · exact absurd (f2.1 y2.2.1) x2.no
        · exact y2
    · have lb := lnB.use hI2
      obtain ⟨R0, g0⟩ := hI2.2.2.1
      have hc : fN v 324 ≤ 8750 := by
        rcases hv with ⟨si, j, B, q, x1, x2, -⟩ | ⟨x1, x2⟩
        · have := x2.caps; omega
        · obtain ⟨-, -, ⟨q, q1, q2, q3, q4, q5, -⟩, -⟩ := x2; omega
      refine c_openScope (by omega) g0.1 (by omega) (by omega) (by omega) (fun u3 o3 => ?_)
      have hI3 := hI2.OS o3 hc
      have f3 : Fr (th v) v u3 := Fr.OS o3
      have hfu3 : fN σ 336 < fN u3 336 := Nat.lt_of_lt_of_le hfv f3.2.2.2.2.1.2.2.2
      have v341 : mm_v v 341 = mm_v u3 341 := (OS_sam o3 (k := 341) (Or.inr (by decide)) (by decide)).2.2.1.symm
      rw [v341]
      refine wr_fn hI3 (by decide) hfu3 ?_
      have fs : frS 341 := Or.inr (Or.inl rfl)
      have r3 := OS_row o3
      have f4 : Fr (th v) v (mm_seta u3 341 (fN σ 336) (nI (fN v 324))) := f3.trans (Fr.free fs)
      rcases hv with ⟨si, j, B, q, x1, x2, x3, x4⟩ | ⟨x1, x2⟩
      · obtain ⟨es, hB1, hPes⟩ := run_par (A := bgA A 1) (L := A.1) rfl (ev_arH hEv) x1
        have ar := arrow_run hEv (inn := inn) (asy := asy) x1
        have hr : s_arB T (s_lv T ν) (w_x w).1 inn asy si j = s_b ((s_lv T ν).1 (false, asy, (w_x w).1.2.2) inn (j + 1)) (fun _ k => s_r () k) := by unfold s_arB; rw [x4]; rfl
        rw [hr] at ar
        have hB1' : 1 ≤ w_B w := by
          obtain ⟨R, b, -, -, q3, q4, -⟩ := x2.2.2.2.2.2.2.1
          rw [hB1] at q4
          have := hl_pos (x := (1, es)) (t := A.1)
          have q4 : hl ((1, es) :: A.1) ≤ w_B w := q4
          omega
        have x5 := (x2.OS o3 (B := w_B w) (by omega) hB1' x2.2.2.2.1.2.2).free (j := fN σ 336) (x := nI (fN v 324)) fs
        have f04 : Fr (th σ) σ (mm_seta u3 341 (fN σ 336) (nI (fN v 324))) := fσ''.trans (f4.mono fun _ => th_le2 en x2 fσ'' (Nat.le_refl _))
        have sm := run_nev (inn := w_in w) (A := B) (L2 := (2, []) :: B.1) (hEv.1 (false, asy, (w_x w).1.2.2) inn (j + 1))
        refine arrow_184 (w1 := psW (yaW (bgW w 1 (fN σ 324) (fN σ 336)) false asy) (w_B w) (fN v 324)) (A1 := ((2, []) :: B.1, B.2)) (m1 := m - 6 + q + 12 - 4) (e := e) (j := j + 1) (g := g + 1) (inn := inn) ih hw (by omega) (by omega) (by omega) rfl hfu3 (Or.inl x5) (fun u2 wv8 wv9 f2 hst => ?_)
        have f02 : Fr (th σ) σ u2 := f04.trans (f2.mono fun _ => th_le2 en x5 f04 (Nat.le_refl _))
        refine arrow_228 (by omega) (by omega) en hK f02 ?_
        rcases hst with ⟨v2, j2, B2, m2, y1, y2, y3, y4⟩ | ⟨y1 | y1, y2⟩
        · have y1 : run (w_in w) ((2, []) :: B.1, B.2) ((s_lv T ν).1 (false, asy, (w_x w).1.2.2) inn (j + 1)) = some (v2, j2, B2) := y1
          cases hx : run (w_in w) B ((s_lv T ν).1 (false, asy, (w_x w).1.2.2) inn (j + 1)) with
          | none => rw [sm.none hx] at y1; exact nomatch y1
          | some zz =>
            obtain ⟨v3, j3, B3⟩ := zz
            obtain ⟨B4, s1, s2, s3, s4⟩ := sm.some hx
            rw [s1] at y1
            simp only [Option.some.injEq, Prod.mk.injEq] at y1
            obtain ⟨-, rfl, rfl⟩ := y1
            have r2 : run (w_in w) B (s_b ((s_lv T ν).1 (false, asy, (w_x w).1.2.2) inn (j + 1)) (fun _ k => s_r () k)) = some ((), j3, B3) := by rw [run_b, hx]; exact run_r
            obtain ⟨R, b, z1, z2, -⟩ := y2.2.2.2.2.2.2.1
            have z46 : mm_f u2 346 = nI (fN v 324) := y2.2.2.2.2.2.1.1
            rw [s4, z46, hB1] at z2
            have cp := y2.caps
            have p1 := (path_pop z2 (by omega) (by omega)).2
            have e26 : mm_a u2 326 (fN v 324) = nI (fN σ 324) := by
              rw [up_326 f2 (s := fN v 324) (by show fN v 324 < fN u3 324; rw [o3.1.2.1]; omega)]
              show mm_a (mm_seta u3 341 (fN σ 336) (nI (fN v 324))) 326 (fN v 324) = _
              rw [a_seta_n (by decide), r3.1]
              exact x2.2.2.2.2.2.1.1
            rw [e26] at p1
            have p2 := (path_pop p1 (by omega) (by omega)).2
            rw [up_326 f2 (s := fN σ 324) (by show fN σ 324 < fN u3 324; rw [o3.1.2.1]; omega)] at p2
            have e27 : mm_a (mm_seta u3 341 (fN σ 336) (nI (fN v 324))) 326 (fN σ 324) = nI (w_sc w) := by
              rw [a_seta_n (by decide), up_326 f3 hscv, v326, e46]
            rw [e27] at p2
            exact Or.inl ⟨j3, B4, _, m2, by rw [ar.1 j3 B3 r2, s2], y2, by omega, by omega, ⟨rfl, rfl, rfl⟩, R, _, z1, p2⟩
        · have y1 : run (w_in w) ((2, []) :: B.1, B.2) ((s_lv T ν).1 (false, asy, (w_x w).1.2.2) inn (j + 1)) = none := y1
          refine Or.inr ⟨ar.2 ?_, y2⟩
          cases hx : run (w_in w) B ((s_lv T ν).1 (false, asy, (w_x w).1.2.2) inn (j + 1)) with
          | none => rw [run_b, hx]
          | some zz =>
            obtain ⟨v3, j3, B3⟩ := zz
            obtain ⟨B4, s1, -⟩ := sm.some hx
            rw [s1] at y1
            exact nomatch y1
        · exact absurd (show GD (mm_seta u3 341 (fN σ 336) (nI (fN v 324))) from x5.2.1) y1
      · have x2' : cB T (g + 25 + 16) v := x2
        have x5 := (x2'.OS o3).free (s := 341) (j := fN σ 336) (x := nI (fN v 324)) fs
        have f04 : Fr (th σ) σ (mm_seta u3 341 (fN σ 336) (nI (fN v 324))) := fσ''.trans (f4.mono fun z => absurd z x2.no)
        refine arrow_184 (w1 := yaW (bgW w 1 (fN σ 324) (fN σ 336)) false asy) (A1 := A) (m1 := m) (e := e) (j := i) (g := g + 1) (inn := inn) ih hw (by omega) (by omega) (by omega) rfl hfu3 (Or.inr (x5.mono (by omega))) (fun u2 wv8 wv9 f2 hst => ?_)
        have f02 : Fr (th σ) σ u2 := f04.trans (f2.mono fun z => absurd z x5.no)
        refine arrow_228 (by omega) (by omega) en hK f02 (Or.inr ⟨arrow_none hEv x1, ?_⟩)
        rcases hst with ⟨v2, j2, B2, m2, y1, y2, y3, y4⟩ | ⟨y1, y2⟩
        · exact absurd (f2.1 y2.2.1) x5.no
        · exact y2
  refine b3060_106 _ _ _ _ _ _ _ _ _ _ _ _ _ ?_
  rw [hu']
  refine c_isSign (by omega) hIu'.1 hp' hq' (br_0 (fun z0 => ?_) (fun z0 => ?_))
  · have w155 := w155 z0
    cases asy with
    | true => exact br_y rfl (w155 a)
    | false => exact br_n (by decide) (w155 a)
  · rcases bdy with bdy | bdy
    · cases asy with
      | true => exact br_y rfl bdy
      | false => exact br_n (by decide) bdy
    · rw [z0] at bdy; exact nomatch bdy
theorem s_named_1 {as : Nat} {F : Bool → Nat → sR β} : s_b (s_named T as i) (fun b j => F b.1 j) = s_b (s_named T as i) (fun _ j => F true j) := by
  unfold s_named
  rw [s_b_b, s_b_b]
  congr 1
  funext x k
  cases n_bad x <;> rfl
theorem c_arrow (ih : cAsg T ν) (hI : cIt T ν) (hE : cEl T ν) (hR : cRst T ν) : cArw T ν := by
  intro a w inn asy hw d g A m e i σ K X hd hq hm en k
  have hG : cG T w A m e σ i := by
    rcases en with h | ⟨h, -⟩
    · exact h
    · exact nomatch h
  obtain ⟨d, rfl, hd⟩ := mc_pos (d := d) (c := 50 * ν + 44) (by omega)
  rw [hw] at hq
  have hGQ := GQ_le ν
  have hEv := ev_lv (T := T) ν
  have hcap : fN σ 324 ≤ 8750 ∧ fN σ 336 ≤ 8750 := by have := hG.caps; omega
  refine mc_ci (P := mt3060) (L := 10) rfl rfl ⟨by decide, Nat.le_of_ble_eq_true rfl⟩ fun Q hK hX => b3060_0 _ _ _ _ _ _ _ _ _ _ _ _ _ ?_
  refine c_kept (by omega) (c_begin (by omega) hG.1 hcap (fun u1 I1 bg hg1 hb1 => ?_))
  obtain ⟨bf, b324, b336, b315, b326, b337, b338, b342, b347, ⟨b356, b371, b311, b312, b303⟩, b357⟩ := bg
  have g1 := hg1 w A (m - 12) e i (by rw [show m - 12 + 12 = m by omega]; exact hG)
  have ht1 : th u1 = (fN σ 315, fN σ 336 + 1, fN σ 371, fN σ 356) := by
    unfold th
    rw [b315, b336, fN_eq b371, fN_eq b356]
  have z106 : ∀ (n : Int32) (u : mmS), Rs T (fun (si : Bool) _ _ u => (mm_a u 338 (fN σ 336) &&& 4 = 0 ↔ si = false)) (fun _ u => NZ T u ∨ mm_f u 311 = nI (t_e T)) (g + 1303) (bgW w 1 (fN σ 324) (fN σ 336)) (m - 6) e (th σ) (i + 1) (bgA A 1) (s_arH T (s_lv T ν) (w_x w).1 i) u1 n u → ∀ wv8 wv9,
      mm_W mt3060 (MC d) Q (106, [some (.inr (.inr (3, a))), some (.inl (bI inn)), some (.inl (if asy then 2 else 0)), some (.inl (mm_f σ 346)), some (.inl (mm_f σ 347)), some (.inr (.inl (kpt σ))), none, some (.inl (nI (fN σ 336))), wv8, wv9], []) u := by
    intro n u rs wv8 wv9
    obtain ⟨f1, rs⟩ := rs
    refine arrow_106 ih hI hw (by omega) (by omega) hm hG (fun n u rs => hK _ _ (k n u rs)) (bf.trans f1) (by have := f1.2.2.2.2.1.2.2.2; omega) (by have := f1.2.2.2.2.1.2.1; omega) ((up_326 f1 (by omega)).trans b326) ?_ ?_
    · rcases rs with ⟨v, j, B, q, x1, x2, -⟩ | ⟨x1, x2, -⟩
      · exact Or.inl x2.2.2.2.2.1.1.1
      · exact Or.inr x2.no
    · rcases rs with ⟨v, j, B, q, x1, x2, x3, x4⟩ | ⟨x1 | x1, x2, x3⟩
      · exact Or.inl ⟨v, j, B, q, x1, x2, x4, x3⟩
      · exact Or.inr ⟨x1, x2, x3⟩
      · exact absurd g1.2.1 x1
  have st : St T (fun (si : Bool) _ _ u => (mm_a u 338 (fN σ 336) &&& 4 = 0 ↔ si = false)) (fun _ u => NZ T u ∨ mm_f u 311 = nI (t_e T)) (g + 1303) (bgW w 1 (fN σ 324) (fN σ 336)) (m - 6) e (th σ) (i + 1) (fun _ u => ∀ wv8 wv9, mm_W mt3060 (MC d) Q (106, [some (.inr (.inr (3, a))), some (.inl (bI inn)), some (.inl (if asy then 2 else 0)), some (.inl (mm_f σ 346)), some (.inl (mm_f σ 347)), some (.inr (.inl (kpt σ))), none, some (.inl (nI (fN σ 336))), wv8, wv9], []) u) false 3 (bgW w 1 (fN σ 324) (fN σ 336)) (bgA A 1) (m - 12) e (s_arH T (s_lv T ν) (w_x w).1 i) u1 i := by
    refine Or.inl ⟨g1, ?_, by omega, z106⟩
    rw [ht1]
    exact ⟨Nat.le_refl _, Nat.le_succ _, Nat.le_refl _, Nat.le_refl _⟩
  -- the arrow's sign
  have arr : ∀ (u : mmS) (si : Bool) (j : Nat) (B : cA) (m' : Nat) (wv8 wv9 : Option mmV), St T (fun (si : Bool) _ _ u => (mm_a u 338 (fN σ 336) &&& 4 = 0 ↔ si = false)) (fun _ u => NZ T u ∨ mm_f u 311 = nI (t_e T)) (g + 1303) (bgW w 1 (fN σ 324) (fN σ 336)) (m - 6) e (th σ) (i + 1) (fun _ u => ∀ wv8 wv9, mm_W mt3060 (MC d) Q (106, [some (.inr (.inr (3, a))), some (.inl (bI inn)), some (.inl (if asy then 2 else 0)), some (.inl (mm_f σ 346)), some (.inl (mm_f σ 347)), some (.inr (.inl (kpt σ))), none, some (.inl (nI (fN σ 336))), wv8, wv9], []) u) true 0 (bgW w 1 (fN σ 324) (fN σ 336)) B m' e (bif t_ar T j then s_r si j else none) u j → m - 6 ≤ m' → (GD u → i + 1 ≤ j) → (GD u → (mm_a u 338 (fN σ 336) &&& 4 = 0 ↔ si = false)) →
      mm_I (MC d) Q 3057 [.inr (.inr (3, a)), .inl (mm_f u 311)] u (fun x14 σ13 => mm_br (x14 = 0) (mm_I (MC d) Q 3025 [.inr (.inr (3, a))] σ13 (fun x16 σ15 => mm_long (.inl x16) = false ∧ mm_W mt3060 (MC d) Q (106, [some (.inr (.inr (3, a))), some (.inl (bI inn)), some (.inl (if asy then 2 else 0)), some (.inl (mm_f σ 346)), some (.inl (mm_f σ 347)), some (.inr (.inl (kpt σ))), none, some (.inl (nI (fN σ 336))), wv8, wv9], []) σ15)) (mm_W mt3060 (MC d) Q (106, [some (.inr (.inr (3, a))), some (.inl (bI inn)), some (.inl (if asy then 2 else 0)), some (.inl (mm_f σ 346)), some (.inl (mm_f σ 347)), some (.inr (.inl (kpt σ))), none, some (.inl (nI (fN σ 336))), wv8, wv9], []) σ13)) := by
    intro u si j B m' wv8 wv9 st hm' hj hfl
    refine st.isArrow0 (by omega) (fun z => ?_) (fun z nz => ?_)
    · have e0 : mm_f (fl T u) 311 = nI (t_e T) := fl_flags.2
      refine c_fail (by omega) st.ci.1 ⟨rfl, ?_⟩
      have st2 := st.fl (fun gd => by rw [z gd]; rfl) (s_r si j) (bgW w 1 (fN σ 324) (fN σ 336)) B m' e j
      exact (St.bad (n := 0) st2 GD_fl (Or.inr e0)) wv8 wv9
    · have st2 := st.t z
      exact (st2.ret (n := 0) (fun _ => rfl) (fun _ => rfl) hj 0 (fun _ => by omega) (fun _ => Nat.le_refl _) hfl (fun _ => Or.inl nz)) wv8 wv9
  have hfu1 : fN σ 336 < fN u1 336 := by omega
  have gd1 : GD u1 := g1.2.1
  refine st.sign (by omega) (fun z2 => ?_) (fun z2 nz => ?_)
  · have st := st.rw (r' := s_b (s_named T 3 i) (fun _ j => bif t_ar T j then s_r true j else none)) (fun gd => by
      unfold s_arH s_arP
      rw [z2 gd, cond_false, s_b_b, ← s_named_1 (F := fun b j => bif t_ar T j then s_r b j else none)]
      congr 1
      funext b k
      rw [s_b_r])
    refine St.callP (c := 1) (h := 2) (m' := m - 12 + 8) (bb := true) (s := 1) (fun en kk => c_named (D := 0) (g := g + 1303 + 2) (m := m - 12) (A := bgA A 1) (i := i) (w := bgW w 1 (fN σ 324) (fN σ 336)) (by omega) (by show _ ≤ GQ (w_nu w); rw [hw]; omega) (by omega) rfl en kk) (false, []) st (fun z => nomatch z) rfl (fun v j B q n u2 st2 hf2 hj hs hn => ?_)
    refine st2.node (h := 1) (by omega) (by omega) (fun n3 u3 st3 hf3 nw => ?_)
    have hfu3 : fN σ 336 < fN u3 336 := by have := hf2.2.2.2.2.1.2.2.2; have := hf3.2.2.2.2.1.2.2.2; omega
    have hx3 : nid n3 u3 := nw.nid
    refine wr_fn st3.ci (by decide) hfu3 ?_
    have st4 := st3.fun_ (s := 342) (f := fN σ 336) (x := n3) (Or.inr ⟨rfl, hx3⟩) (fun _ => Nat.le_refl _)
    refine b3060_82 _ _ _ _ _ _ _ _ _ _ _ _ _ ?_
    refine st4.free (Or.inr (Or.inr (Or.inr (Or.inr rfl)))) hfu3 (fun st5 hf5 => ?_)
    refine arr _ true j B _ _ _ (st5.mono (by omega)) (by omega) (fun gd5 => ?_) (fun gd5 => ?_)
    · have gd3 : GD u3 := gd5
      exact hj (hf3.1 gd3)
    · have gd3 : GD u3 := gd5
      have e1 := ((hf3.2.2.2.2.2.2.2 gd3).2.2.1 (fN σ 336) (by show fN σ 336 < fN u2 336; have := hf2.2.2.2.2.1.2.2.2; omega)).1
      have e2 := ((hf2.2.2.2.2.2.2.2 (hf3.1 gd3)).2.2.1 (fN σ 336) (by rw [ht1]; exact Nat.lt_succ_self _)).1
      have e3 : mm_a (mm_seta (mm_seta u3 342 (fN σ 336) n3) 345 (fN σ 336) 1) 338 = mm_a u3 338 := (a_seta_n (by decide)).trans (a_seta_n (by decide))
      rw [e3, e1, e2, b338]
      exact ⟨fun q => absurd q (or_44 _), fun q => nomatch q⟩
  · have st := (st.adv nz).rw (r' := s_b (s_parL T (s_lv T ν) (bgX w 1).1 (t_e T + 1) true 0 (i + 1)) (fun b j => bif t_ar T j then s_r b.1 j else none)) (fun gd => by
      unfold s_arH s_arP
      rw [z2 gd1, cond_true, s_b_b]
      congr 1
      funext b k
      rw [s_b_r])
    have ad : Fr (th u1) u1 (mm_setf u1 311 (mm_f u1 311 + 1)) := Fr_adv
    refine St.params (H := 0) (fk := fN σ 336) (w := bgW w 1 (fN σ 324) (fN σ 336)) st hE hR hw rfl (by omega) (by omega) (by omega) (by omega) hfu1 (fun _ => Nat.le_refl _) (fun gd2 => ?_) (fun u6 v j B m' st6 hm6 fr6 hj6 hp6 => ?_)
    · show ¬ mm_a u1 338 (fN σ 336) &&& 4 = 0 ∧ mm_a u1 342 (fN σ 336) = 0
      rw [b338, b342]
      exact ⟨or_44 _, rfl⟩
    · exact arr u6 v.1 j B m' _ _ st6 (by omega) (fun gd6 => by have := hj6 gd6; omega) (fun gd6 => (hp6 gd6).1)
end ARROW
