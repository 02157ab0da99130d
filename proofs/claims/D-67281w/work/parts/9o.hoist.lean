/-! PHASE 3. hoisted() -/
section HOIST
variable {β : Type} {T : sT} {Sh : β → Nat → Int32 → mmS → Prop} {N : Int32 → mmS → Prop} {g : Nat} {w0 : cW} {m0 e0 : Nat} {θ : cTh} {l0 : Nat} {Z : Int32 → mmS → Prop} {b : Bool} {h : Nat} {w : cW} {A : cA} {m e : Nat} {r : sR β} {σ u : mmS} {i : Nat}
variable {ν a d : Nat} {Q : mmQ}
/-- what hoisted() leaves in the first row -/
def shHo (_ : mmS) (l : List Int32) (_ : Nat) (_ : Int32) (u : mmS) : Prop := l = [mm_a u 317 0]
/-- the first row, where answers are left -/
theorem St.set0 {s : Nat} {x : Int32} {K : mmS → Prop} (st : St T Sh N g w0 m0 e0 θ l0 Z b h w A m e r σ i) (hs : s = 317 ∨ s = 318) (kk : St T Sh N g w0 m0 e0 θ l0 Z b h w A m e r (mm_seta σ s 0 x) i → Fr (th σ) σ (mm_seta σ s 0 x) → K (mm_seta σ s 0 x)) : mm_S σ s 0 x K := by
  have c := st.ci.2.1
  have c0 := st.ci.2.2.2.1.2.1
  have h316 : 316 ≤ s ∧ s ≤ 323 := by omega
  have hI : cI T (mm_seta σ s 0 x) := by
    rcases hs with rfl | rfl
    · exact st.ci.set7 (Or.inr (by rw [c0]; decide))
    · exact st.ci.seta rfl
  have fr : ∀ θ' : cTh, Fr θ' σ (mm_seta σ s 0 x) := fun θ' => by
    refine ⟨id, fun _ _ => rfl, ⟨rfl, gro.of (a_seta_n (by omega)) (a_seta_n (by omega)) (a_seta_n (by omega))⟩, fun k _ k2 => ⟨a_seta_n (fun e => ?_), rfl, rfl, rfl⟩, ⟨Nat.le_refl _, Nat.le_refl _, Nat.le_refl _, Nat.le_refl _⟩, fun t _ => ⟨by rw [a_seta_n (by omega)], by rw [a_seta_n (by omega)]⟩, fun t _ => ⟨by rw [a_seta_n (by omega)], by rw [a_seta_n (by omega)]⟩, fun gd => ⟨Nat.le_refl _, fun k _ _ i i1 hi => a_seta_i (by omega), fun f _ => ⟨by rw [a_seta_n (by omega)], by rw [a_seta_n (by omega)]⟩, fun k _ => ⟨by rw [a_seta_n (by omega)], by rw [a_seta_n (by omega)]⟩, fun k _ => ⟨by rw [a_seta_n (by omega)], by rw [a_seta_n (by omega)]⟩⟩⟩
    rw [e] at k2
    have : cms s = true := by rcases hs with rfl | rfl <;> rfl
    rw [this] at k2
    exact absurd k2 (by decide)
  have c2 := c.2.1
  have c3 := c.2.2.1
  have c5 := c.2.2.2.2.1
  have c6 := c.2.2.2.2.2.1 s h316.1 h316.2
  refine wr' (i := 0) nI_0.symm c6 (by omega) (by omega) (kk (st.same (fr θ) (fun _ => tle.rfl') (fun gd => st.tl.2 gd) (fun q => q.seta h316 hI) (fun q => q.seta hI)) (fr (th σ)))
theorem ho_97 {gen asy : Bool} {nm v1 v2 v3 s0 : Int32} {wv5 : Option mmV} {j : Nat} {l : List Int32} (hI : cIt T ν) (hE : cEl T ν) (hR : cRst T ν) (hw : w_nu w = ν) (hd : 50 * ν + 25 ≤ d) (hg : g + h + 200 ≤ GQ ν) (hl : GD u → l0 ≤ j) (hm : 24 ≤ m) (hm2 : m0 ≤ m) (hnm : GD u → l = [nm])
    (st : St T (shHo σ) any2 g w m0 e θ l0 (fun _ u => Q (.inl none) u) b (h + 120) w A m e (s_b (s_plain T (s_lv T ν) false false 0 gen asy j) (fun _ k => s_r l k)) u j) :
    mm_W mt3044 (MC d) Q (97, [some (.inr (.inr (3, a))), some (.inl v1), some (.inl v2), some (.inl v3), some (.inl nm), wv5], [.inl s0, .inl (flF asy gen), .inl 0, .inr (.inr (3, a))]) u := by
  have st2 := st.rw (r' := s_b (s_plain T (s_lv T ν) (!((0 : Int32) == 0)) ((0 : Int32) == 6) (plG 0) (nz (flF asy gen &&& 1)) (nz (flF asy gen &&& 2)) j) (fun _ k => s_r l k)) (fun _ => by rw [flF_1, flF_2]; rfl)
  refine b3044_97 _ _ _ _ _ _ _ _ _ _ _ _ _ (St.call (h := h) (c_plain (s := 0) (fl := flF asy gen) (called := s0) (Or.inl rfl) hI hE hR hw (fun z => absurd z (by decide)) a) () st2 (fun _ => rfl) hd (by rw [hw]; omega) hm rfl (fun v j2 B q n u2 st3 hf hj hs hn => ?_))
  refine st3.set0 (Or.inl rfl) (fun st4 f4 => st4.set0 (Or.inr rfl) (fun st5 f5 => ?_))
  refine st5.ret (n := 0) (fun _ => rfl) (fun _ => rfl) (fun gd => by have := hj (f4.1 (f5.1 gd)); have := hl (hf.1 (f4.1 (f5.1 gd))); omega) 0 (fun _ => by omega) (fun _ => Nat.le_refl _) (fun gd => ?_) (fun _ => trivial)
  show l = [mm_a (mm_seta (mm_seta u2 317 0 nm) 318 0 n) 317 0]
  rw [a_seta_n (by decide), a_seta_s]
  exact hnm (hf.1 (f4.1 (f5.1 gd)))
theorem run_evv {γ : Type} {inn : Bool} {k j : Nat} {n : Int32} {v : γ} : run inn A (s_w (sA_ev k n) v j) = match h_ev k n A.1 with | none => none | some L2 => some (v, j, (L2, A.2)) := by
  obtain ⟨L, cv, us, f, kk⟩ := A
  simp only [run, s_w, sA_ev, A_st, h_run]
  cases h_ev k n L <;> simp
theorem run_named {inn : Bool} {x : Int32} {j : Nat} {f : Bool × List Int32 → Nat → sR β} : run inn A (bif n_bad x then none else s_b (s_w (sA_ev 2 x) (true, [x]) j) f) = run inn A (s_b (s_w (sA_ev 2 x) () j) (fun _ k => f (true, [x]) k)) := by
  have e : h_ev 2 x A.1 = h_dec 2 x A.1 := h_ev_cls (r := 3)
  cases hb : n_bad x with
  | true =>
    rw [cond_true, run_b, run_ev, e, h_dec_bad hb]
    rfl
  | false =>
    rw [cond_false, run_b, run_evv, run_b, run_ev]
    cases h_ev 2 x A.1 <;> rfl
theorem c_hoisted {asy unn : Bool} {K : mmS → Prop} {X : Nat → mmS → Prop} (hI : cIt T ν) (hE : cEl T ν) (hR : cRst T ν) (hw : w_nu w = ν) (hd : 50 * ν + 26 ≤ d) (hq : g + 400 ≤ GQ (w_nu w)) (hm : 24 ≤ m) (en : cG T w A m (e + 1) σ i ∨ (false = true ∧ cB T (g + 0) σ)) (k : ∀ u, Rs T (shHo σ) any2 g w m e (th σ) i A (s_hoist T (s_lv T ν) asy unn i) σ 0 u → K u) :
    mm_cv (MC d) 3044 [.inr (.inr (3, a)), .inl (flF asy false), .inl (bI unn)] σ K X := by
  obtain ⟨d, rfl, hd⟩ := mc_pos (c := 50 * ν + 25) (by omega)
  have hGQ := GQ_le (w_nu w)
  refine mc_cv (P := mt3044) (L := 6) rfl rfl ⟨by decide, Nat.le_of_ble_eq_true rfl⟩ fun Q hK hX => b3044_0 _ _ _ _ _ _ _ _ _ ?_
  have hG : cG T w A m (e + 1) σ i := by
    rcases en with y | y
    · exact y
    · exact absurd y.1 (by decide)
  have st : St T (shHo σ) any2 g w m e (th σ) i (fun _ u => Q (.inl none) u) false 180 w A m (e + 1) (s_hoist T (s_lv T ν) asy unn i) σ i := Or.inl ⟨hG, tle.rfl', by omega, fun n u rs => hK _ (k u ⟨rs.1, rs.2⟩)⟩
  rw [hw] at hq
  have w76 : ∀ (gen b' : Bool) (A' : cA) (m' j : Nat) (u : mmS) (v1 nm : Int32) (wv5 : Option mmV) (l : List Int32), m ≤ m' → (GD u → i ≤ j) → (GD u → l = [nm]) →
      St T (shHo σ) any2 g w m e (th σ) i (fun _ u => Q (.inl none) u) b' 140 w A' m' e (s_b (s_plain T (s_lv T ν) false false 0 gen asy j) (fun _ k => s_r l k)) u j →
      mm_W mt3044 (MC d) Q (76, [some (.inr (.inr (3, a))), some (.inl v1), some (.inl (bI unn)), some (.inl (flF asy gen)), some (.inl nm), wv5], []) u := by
    intro gen b' A' m' j u v1 nm wv5 l hm' hj hl st
    have fin : ∀ s0, mm_W mt3044 (MC d) Q (97, [some (.inr (.inr (3, a))), some (.inl v1), some (.inl (bI unn)), some (.inl (flF asy gen)), some (.inl nm), wv5], [.inl s0, .inl (flF asy gen), .inl 0, .inr (.inr (3, a))]) u := fun s0 =>
      ho_97 (h := 20) hI hE hR hw (by omega) (by omega) hj (by omega) hm' hl st
    exact b3044_76 _ _ _ _ _ _ _ _ _ (br_p (fun _ => fin nm) (fun _ => br_p (fun _ => fin 8) (fun _ => fin nm)))
  have w41 : ∀ (gen b' : Bool) (m' j : Nat) (u : mmS) (v1 v4 : Int32) (wv5 : Option mmV), m ≤ m' → (GD u → i ≤ j) →
      St T (shHo σ) any2 g w m e (th σ) i (fun _ u => Q (.inl none) u) b' 170 w A m' (e + 1) (s_b (s_named T 2 j) (fun b k => s_b (s_plain T (s_lv T ν) false false 0 gen asy k) (fun _ q => s_r b.2 q))) u j →
      mm_W mt3044 (MC d) Q (41, [some (.inr (.inr (3, a))), some (.inl v1), some (.inl (bI unn)), some (.inl (flF asy gen)), some (.inl v4), wv5], []) u := by
    intro gen b' m' j u v1 v4 wv5 hm' hj st
    have st := st.rw (r' := s_b (s_ident T j) (fun x k => bif n_bad x then none else s_b (s_w (sA_ev 2 x) (true, [x]) k) (fun b k => s_b (s_plain T (s_lv T ν) false false 0 gen asy k) (fun _ q => s_r b.2 q)))) (fun _ => by
      unfold s_named
      rw [s_b_b]
      congr 1
      funext x k
      cases n_bad x <;> rfl)
    refine b3044_41 _ _ _ _ _ _ _ _ _ (st.ident (by omega) (fun x u2 st2 hf2 hx _ => st2.wrong (fun gd2 st3 => ?_) (fun ng => ?_)))
    · have st3 := st3.rwR (r' := s_b (s_w (sA_ev 2 x) () (j + 1)) (fun _ k => s_b (s_plain T (s_lv T ν) false false 0 gen asy k) (fun _ q => s_r [x] q))) (fun _ => run_named)
      refine St.declare (e := e + 1) rfl st3 (by omega) rfl (fun u5 B st5 hf5 _ => ?_)
      exact w76 gen true B _ (j + 1) u5 v1 x wv5 [x] (by omega) (fun gd5 => by have := hj (hf2.1 (hf5.1 gd5)); omega) (fun _ => rfl) ((st5.mono (by omega)).weakM (Nat.le_refl _) (by omega))
    · exact w76 gen true A (m' + 12) (j + 1) u2 v1 x wv5 [x] (by omega) (fun gd5 => absurd gd5 ng) (fun _ => rfl) ((st2.mono (by omega)).bd (β' := Unit) ng Fr.rfl' (fun z => z) (i' := j + 1))
  have w25 : ∀ (gen b' : Bool) (m' j : Nat) (u : mmS) (v1 : Int32) (wv4 wv5 : Option mmV), m ≤ m' → (GD u → i ≤ j) → Fr (th σ) σ u →
      St T (shHo σ) any2 g w m e (th σ) i (fun _ u => Q (.inl none) u) b' 180 w A m' (e + 1) (s_b (bif unn && t_sg T j 2 then s_w (sA_ev 10 59) [59] j else s_b (s_named T 2 j) (fun b k => s_r b.2 k)) (fun l j => s_b (s_plain T (s_lv T ν) false false 0 gen asy j) (fun _ k => s_r l k))) u j →
      mm_W mt3044 (MC d) Q (25, [some (.inr (.inr (3, a))), some (.inl v1), some (.inl (bI unn)), some (.inl (flF asy gen)), wv4, wv5], []) u := by
    intro gen b' m' j u v1 wv4 wv5 hm' hj fr st
    have nof : (GD u → (unn && t_sg T j 2) = false) → mm_W mt3044 (MC d) Q (41, [some (.inr (.inr (3, a))), some (.inl v1), some (.inl (bI unn)), some (.inl (flF asy gen)), some (.inl 59), wv5], []) u := fun hz => by
      refine w41 gen b' m' j u v1 59 wv5 hm' hj ((st.mono (by omega)).rw fun gd => ?_)
      rw [hz gd, cond_false, s_b_b]
      simp only [s_b_r]
    refine b3044_25 _ _ _ _ _ _ _ _ _ (br_p (fun c0 => nof (fun _ => by rw [bI_0.mp c0]; rfl)) (fun c0 => st.sign (by omega) (fun z2 => nof (fun gd => by rw [z2 gd, Bool.and_false])) (fun z2 _ => ?_)))
    have hu : unn = true := by
      cases hx : unn with
      | true => rfl
      | false => rw [hx] at c0; exact absurd rfl c0
    obtain ⟨sc, y1, y2⟩ := st.ci.2.2.2.2.2.1.1
    rw [y1]
    by_cases gd : GD u
    · have hGu := st.gd gd
      obtain ⟨R0, b0, q1, q2, q3, q4, q5⟩ := hGu.2.2.2.2.2.2.1
      cases hA : A.1 with
      | nil => rw [hA] at q3; exact nomatch q3
      | cons xe L =>
        obtain ⟨x, es⟩ := xe
        have hA' : A = ((x, es) :: L, A.2) := Prod.ext hA rfl
        refine c_AS (g := 0) (w := w) (m := m') (e := e) (i := j) (x := x) (es := es) (L := L) (A2 := A.2) (by omega) (Or.inl (by rw [← hA']; exact hGu)) y2 (fun _ => y1) (fun u5 f5 e24 e46 en5 => ⟨rfl, ?_⟩)
        have g5 : cG T w ((x, es ++ [(cls 3, 59)]) :: L, A.2) m' e u5 j := by
          rcases en5 with ⟨-, z⟩ | ⟨z, -⟩
          · exact z
          · exact absurd gd z.no
        have st2 := (st.strong gd).rw (r' := s_b (s_w (sA_ev 10 59) [59] j) (fun l j => s_b (s_plain T (s_lv T ν) false false 0 gen asy j) (fun _ k => s_r l k))) (fun _ => by rw [hu, z2 gd]; rfl)
        have st5 := st2.acc (v := [59]) (i' := j) (B := ((x, es ++ [(cls 3, 59)]) :: L, A.2)) (h' := 140) (m' := m') (e' := e) (u := u5) (by rw [run_evv, hA]; rfl) (f5.mono st.tl.1) (th_le2 hGu g5 f5 (Nat.le_refl _)) (by omega) g5
        exact w76 gen false _ m' j u5 v1 59 wv5 [59] hm' (fun _ => hj gd) (fun _ => rfl) st5
    · refine c_AS (g := g + 164) (w := w) (m := m') (e := e) (i := j) (x := 0) (es := []) (L := []) (A2 := A.2) (by omega) (Or.inr ((st.cb gd).mono (by omega))) y2 (fun z => absurd z gd) (fun u5 f5 e24 e46 en5 => ⟨rfl, ?_⟩)
      have b5 : cB T (g + 164) u5 := by
        rcases en5 with ⟨z, -⟩ | ⟨-, z⟩
        · exact absurd z.2.1 gd
        · exact z
      exact w76 gen true A m' j u5 v1 59 wv5 [59] hm' (fun gd5 => absurd gd5 b5.no) (fun _ => rfl) (St.tt (st.bd (β' := Unit) gd f5 (fun _ => b5.mono (by omega)) (h' := 140) (w' := w) (A' := A) (m' := m') (e' := e) (i' := j)))
  have hv1 : ¬ flF asy false = 3 := fun z => by have := flF_3.mp z; rw [Bool.and_false] at this; exact nomatch this
  have ho1 : flF asy false ||| 1 = flF asy true := by cases asy <;> decide
  refine st.eat (by omega) (fun z => br_n hv1 ?_) (fun u z st2 hf2 => ?_)
  · refine w25 false false m i σ _ _ _ (Nat.le_refl _) (fun _ => Nat.le_refl _) Fr.rfl' (st.rw fun gd => ?_)
    unfold s_hoist
    rw [z gd]; rfl
  · rw [ho1]
    refine br_p (fun c3 => ?_) (fun c3 => ?_)
    · have ha : asy = true := by have := flF_3.mp c3; rwa [Bool.and_true] at this
      refine st2.fail (by omega) (fun gd => ?_) (fun u5 ng st5 hf5 => ⟨rfl, ?_⟩)
      · unfold s_hoist
        rw [z (hf2.1 gd), ha]; rfl
      · exact w25 true true _ i u5 _ _ _ (by omega : m ≤ m + 12) (fun gd5 => absurd gd5 ng) (hf2.trans (hf5.mono st2.tl.1)) (st5.bd (β' := Unit) ng Fr.rfl' (fun z => z) (i' := i))
    · have ha : asy = false := by
        cases hx : asy with
        | false => rfl
        | true => exact absurd (flF_3.mpr (by rw [hx]; rfl)) c3
      refine w25 true false (m + 12) (i + 1) u _ _ _ (by omega) (fun _ => by omega) hf2 (st2.rw fun gd => ?_)
      unfold s_hoist
      rw [z (hf2.1 gd), ha]; rfl
end HOIST
