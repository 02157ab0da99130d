/-! PHASE 3. functionAt() -/
section FNAT
variable {T : sT} {w : cW} {A : cA} {m e g : Nat} {σ u : mmS} {i : Nat}
variable {ν a d : Nat} {Q : mmQ}
theorem cT_of (h : cI T σ) : cT σ 324 326 331 512 := by
  obtain ⟨t, cn, ⟨R, y⟩, -⟩ := h
  exact y.1
theorem c_OS {x : Int32} {C : Int32 → mmS → Prop} (hd : 3 ≤ d) (h : cI T σ) (hc : fN σ 324 ≤ 8750) (k : ∀ u, OS σ x u → Fr (th σ) σ u → C (nI (fN σ 324)) u) : mm_I (MC d) Q 3017 [.inr (.inr (3, a)), .inl x] σ C := by
  have lb := lnB.use h
  exact c_openScope hd (cT_of h) (by omega) (by omega) (by omega) (fun u o => k u o (Fr.OS o))
theorem DV.up {R R2 : Nat → List Nat} {b c c' : Nat} (h : DV T σ R b c u R2) (hc : c ≤ c') : DV T σ R b c' u R2 := by
  obtain ⟨d1, d2, d3, d4, d5, d6, d7⟩ := h
  exact ⟨d1, d2, d3, d4, d5, by omega, d7⟩
theorem cB.AS {b s : Nat} {R : Nat → List Nat} {n ro : Int32} (h : cB T (g + 16) σ) (hb : s < b) (o : AS σ R s n ro u) (hr : rsN σ) : cB T g u := by
  have dv := DV.add (T := T) (b := b) hr hb o
  have hI := h.1.DV dv
  obtain ⟨h1, h2, ⟨q, q1, q2, q3, q4, h4, h5, h6⟩, nn, u1, u2⟩ := h
  have f (j : Nat) (h4 : j ≠ 325) : mm_f u j = mm_f σ j := o.2.2.1 j h4
  have fe (j : Nat) (h4 : j ≠ 325) := fN_eq (f j h4)
  have fn := o.2.1
  exact ⟨hI, (f 303 (by decide)).trans h2, ⟨q, (f 311 (by decide)).trans q1, q2, by omega, by rw [fe 315 (by decide)]; omega, by rw [fe 324 (by decide)]; omega, by rw [fe 336 (by decide)]; omega, by rw [fn]; omega⟩, nn, (f 360 (by decide)).trans u1, u2⟩
/-- a name more in the scope one is in -/
theorem c_AS {s : Nat} {n ro x : Int32} {es : List (Nat × Int32)} {L : hC} {A2 : Int × List Int32 × Nat × Nat} {C : Int32 → mmS → Prop} (hd : 3 ≤ d) (en : cG T w ((x, es) :: L, A2) m (e + 1) σ i ∨ cB T (g + 16) σ) (hs : s < fN σ 324) (h46 : GD σ → mm_f σ 346 = nI s)
    (kk : ∀ u, Fr (th σ) σ u → fN u 324 = fN σ 324 → (mm_f u 346 = mm_f σ 346 ∧ mm_f u 311 = mm_f σ 311) → ((cG T w ((x, es) :: L, A2) m (e + 1) σ i ∧ cG T w ((x, es ++ [(cls ro, n)]) :: L, A2) m e u i) ∨ (cB T (g + 16) σ ∧ cB T g u)) → C (nI (fN σ 325)) u) : mm_I (MC d) Q 3033 [.inr (.inr (3, a)), .inl (nI s), .inl n, .inl ro] σ C := by
  rcases en with hG | hB
  · have lb := lnB.use hG.1
    have cp := hG.caps
    obtain ⟨R, b, y1, y2, y3, y4, y5⟩ := hG.2.2.2.2.2.2.1
    obtain ⟨k, p1, p2, p3, p4, p5, p6⟩ := id y2
    have hks : k = s := nI_inj (by omega) (by omega) (p1.symm.trans (h46 hG.2.1))
    subst hks
    refine c_add hd y1 hs (by omega) (by omega) (by omega) (fun u o => ?_)
    have dv := DV.add (T := T) lb.2.2 p2 o
    have dv2 := dv.up (c' := hl ((x, es) :: L)) hl_pos
    have fr := Fr.DV dv
    have f (j : Nat) (h4 : j ≠ 325) : mm_f u j = mm_f σ j := o.2.2.1 j h4
    have pt := path_top o p2 p3 p4 p5 p6
    rw [← p1] at pt
    exact kk u fr (fN_eq (f 324 (by decide))) ⟨f 346 (by decide), f 311 (by decide)⟩ (Or.inl ⟨hG, hG.DV (L2 := (x, es ++ [(cls ro, n)]) :: L) dv2 ⟨f 303 (by decide), f 311 (by decide)⟩ rfl pt⟩)
  · have lb := lnB.use hB.1
    obtain ⟨R, y1⟩ := hB.1.2.2.1
    have hc : fN σ 325 ≤ 129500 := by
      obtain ⟨-, -, ⟨q, q1, q2, q3, q4, q5, q6, q7⟩, -⟩ := hB
      omega
    refine c_add hd y1 hs (by omega) (by omega) (by omega) (fun u o => ?_)
    have dv := DV.add (T := T) (b := s + 1) lb.2.2 (Nat.lt_succ_self s) o
    have fr := Fr.DV dv
    have f (j : Nat) (h4 : j ≠ 325) : mm_f u j = mm_f σ j := o.2.2.1 j h4
    exact kk u fr (fN_eq (f 324 (by decide))) ⟨f 346 (by decide), f 311 (by decide)⟩ (Or.inr ⟨hB, hB.AS (Nat.lt_succ_self s) o lb.2.2⟩)
variable {β : Type} {Sh : β → Nat → Int32 → mmS → Prop} {N : Int32 → mmS → Prop} {w0 : cW} {m0 e0 : Nat} {θ : cTh} {l0 : Nat} {Z : Int32 → mmS → Prop} {b : Bool} {h : Nat} {r : sR β}
theorem sim.imp {β : Type} {F G : hC → hC → Prop} {x y : Option (β × Nat × cA)} (h : sim F x y) (hF : ∀ L L', F L L' → G L L') : sim G x y := by
  unfold sim at h ⊢
  split at h <;> first | trivial | exact ⟨h.1, h.2.1, h.2.2.1, hF _ _ h.2.2.2⟩
/-- the same scope, set again behind it -/
theorem St.keep346 {y : Int32} (st : St T Sh N g w0 m0 e0 θ l0 Z b h w A m e r σ i) (hw : GD σ → w = w0) (hy : ∃ sc, y = nI sc ∧ sc < fN σ 324) (hy2 : GD σ → y = mm_f σ 346) :
    St T (fun v q n u => Sh v q n (mm_setf u 346 y)) (fun n u => N n (mm_setf u 346 y)) g w m0 e0 θ l0 (fun n v => Z n (mm_setf v 346 y)) b h w A m e r σ i := by
  have I2 : ∀ {v : mmS} {θ' : cTh}, Fr θ' σ v → cI T v → cI T (mm_setf v 346 y) := fun f I => by
    obtain ⟨sc, z1, z2⟩ := hy
    rw [z1]
    exact I.scope (by have := f.2.2.2.2.1.2.1; omega)
  rcases st with ⟨q1, q2, q3, q4⟩ | ⟨q1, q2, q3⟩
  · have gd := q1.2.1
    have hw := hw gd
    subst hw
    refine Or.inl ⟨q1, q2, q3, fun n v rs => q4 n _ ?_⟩
    obtain ⟨f2, rs⟩ := rs
    refine ⟨f2.trans Fr_346, ?_⟩
    rcases rs with ⟨v1, j, B1, q, x1, x2, x3, x4⟩ | ⟨x1, x2, x3⟩
    · refine Or.inl ⟨v1, j, B1, q, x1, ?_, x3, x4⟩
      have e1 : mm_f v 346 = y := by
        rw [hy2 gd, q1.2.2.2.2.2.1.1]
        exact x2.2.2.2.2.2.1.1
      rw [setf_id e1]
      exact x2
    · exact Or.inr ⟨x1, cB.s346 x2 (I2 f2 x2.1), x3⟩
  · exact Or.inr ⟨q1, q2, fun n v f c hn => q3 n _ (f.trans Fr_346) (cB.s346 c (I2 f c.1)) hn⟩
theorem fn_84 {gen asy : Bool} {y v1 v3 v5 : Int32} {wv6 : Option mmV} {j : Nat} (hI : cIt T ν) (hE : cEl T ν) (hR : cRst T ν) (hw : w_nu w = ν) (hd : 50 * ν + 25 ≤ d) (hg : g + h + 201 ≤ GQ ν) (h0 : 1 ≤ fN σ 315) (hle : fN σ 315 ≤ fN u 315) (hl : GD u → l0 ≤ j) (hm : 24 ≤ m) (hm2 : m0 + 2 ≤ m)
    (st : St T (fun v q n u => shN T ν σ v q n (mm_setf u 346 y)) (fun n u => nid n (mm_setf u 346 y)) g w m0 e θ l0 (fun n v => Q (.inl (some (.inl n))) (mm_setf v 346 y)) b (h + 121) w A m e (s_b (s_plain T (s_lv T ν) false false 0 gen asy j) (fun _ k => s_r (n_k 11) k)) u j) :
    mm_W mt3077 (MC d) Q (84, [some (.inr (.inr (3, a))), some (.inl v1), some (.inl (flF asy gen)), some (.inl v3), some (.inl y), some (.inl v5), wv6], []) u := by
  have st2 := st.rw (r' := s_b (s_plain T (s_lv T ν) (!((0 : Int32) == 0)) ((0 : Int32) == 6) (plG 0) (nz (flF asy gen &&& 1)) (nz (flF asy gen &&& 2)) j) (fun _ k => s_r (n_k 11) k)) (fun _ => by rw [flF_1, flF_2]; rfl)
  refine b3077_84 _ _ _ _ _ _ _ _ _ _ (St.call (h := h + 1) (c_plain (s := 0) (fl := flF asy gen) (called := v3) (Or.inl rfl) hI hE hR hw (fun z => absurd z (by decide)) a) () (st2.mono (by omega)) (fun _ => rfl) hd (by rw [hw]; omega) hm rfl (fun v j2 B q n u2 st3 hf hj hs hn => ?_))
  refine St.node (h := h) st3 (by omega) (by omega) (fun n5 u5 st5 hf5 nw => ?_)
  have l2 := hf.nn
  have l5 := hf5.nn
  refine st5.ret (Z := fun n v => Q (.inl (some (.inl n))) (mm_setf v 346 y)) (fun _ => rfl) (fun _ => rfl) (fun gd => by have := hj (hf5.1 gd); have := hl (hf.1 (hf5.1 gd)); omega) 1 (fun _ => by omega) (fun _ => Nat.le_refl _) (fun gd => ?_) (fun _ => ?_)
  · obtain ⟨k, k1, k2⟩ := sh_k (T := T) (ν := ν) (σ0 := σ) nw h0 (by omega) rfl
    exact ⟨k, k1, k2.mono Fr_346 gd⟩
  · exact nw.nid.mono (Fr_346 (θ := θ))
theorem c_functionAt {asy : Bool} {K : Int32 → mmS → Prop} {X : Nat → mmS → Prop} (hI : cIt T ν) (hE : cEl T ν) (hR : cRst T ν) (hw : w_nu w = ν) (hsl : wSl w) (hd : 50 * ν + 26 ≤ d) (hq : g + 400 ≤ GQ (w_nu w)) (hm : 24 ≤ m) (en : cG T w A (m + 6) e σ i ∨ (false = true ∧ cB T (g + 0) σ)) (k : ∀ n u, Rs T (shN T ν σ) nid g w m e (th σ) i A (s_fnAt T (s_lv T ν) asy i) σ n u → K n u) :
    mm_ci (MC d) 3077 [.inr (.inr (3, a)), .inl (flF asy false)] σ K X := by
  obtain ⟨d, rfl, hd⟩ := mc_pos (c := 50 * ν + 25) (by omega)
  have hGQ := GQ_le (w_nu w)
  refine mc_ci (P := mt3077) (L := 7) rfl rfl ⟨by decide, Nat.le_of_ble_eq_true rfl⟩ fun Q hK hX => b3077_0 _ _ _ _ _ _ _ _ _ _ ?_
  have hG : cG T w A (m + 6) e σ i := by
    rcases en with y | y
    · exact y
    · exact absurd y.1 (by decide)
  have st : St T (shN T ν σ) nid g w m e (th σ) i (fun n u => Q (.inl (some (.inl n))) u) false 190 w A (m + 6) e (s_fnAt T (s_lv T ν) asy i) σ i := Or.inl ⟨hG, tle.rfl', by omega, fun n u rs => hK _ _ (k n u rs)⟩
  have n1 := hG.1.2.1.2.1
  rw [hw] at hq
  have e46 := hG.2.2.2.2.2.1.1
  have w15 : ∀ (gen : Bool) (m' j : Nat) (u : mmS) (v1 fl : Int32) (wv3 wv4 wv5 wv6 : Option mmV), fl = flF asy gen → m + 6 ≤ m' → i ≤ j → Fr (th σ) σ u →
      St T (shN T ν σ) nid g w m e (th σ) i (fun n u => Q (.inl (some (.inl n))) u) false 190 w A m' e (bif gen && asy then none else s_b (bif t_sg T j 2 then s_r () j else s_b (s_ident T j) (fun x k => bif n_bad x then none else s_r () k)) (fun _ j => s_b (s_plain T (s_lv T ν) false false 0 gen asy j) (fun _ k => s_r (n_k 11) k))) u j →
      mm_W mt3077 (MC d) Q (15, [some (.inr (.inr (3, a))), some (.inl v1), some (.inl fl), wv3, wv4, wv5, wv6], []) u := by
    intro gen m' j u v1 fl wv3 wv4 wv5 wv6 hfl hm' hj fr st
    subst hfl
    have gdu := st.good.2.1
    have ub := st.good.2.2.2.2.2.1.1
    have l0 := fr.nn
    have hsc : ∃ sc, mm_f u 346 = nI sc ∧ sc < fN u 324 := st.ci.2.2.2.2.2.1.1
    refine b3077_15 _ _ _ _ _ _ _ _ _ _ (br_p (fun c3 => ?_) (fun c3 => ?_))
    · exact st.fail (by omega) (fun gd => by rw [Bool.and_comm, flF_3.mp c3]; rfl) (fun u5 ng st5 hf5 => st5.bad ng (nid_0 st5.ci))
    · have hag : (gen && asy) = false := by
        cases hx : (gen && asy) with
        | false => rfl
        | true => rw [Bool.and_comm] at hx; exact absurd (flF_3.mpr hx) c3
      have st := st.f (fun _ => hag)
      refine st.sign (by omega) (fun z2 => ?_) (fun z2 _ => ?_)
      · have st := st.rw (r' := s_b (s_ident T j) (fun x k => bif n_bad x then none else s_b (s_plain T (s_lv T ν) false false 0 gen asy k) (fun _ k => s_r (n_k 11) k))) (fun gd => by
          rw [z2 gd, cond_false, s_b_b]
          congr 1
          funext x k
          cases n_bad x with
          | true => rfl
          | false => rw [cond_false, cond_false, s_b_r])
        refine st.ident (by omega) (fun x u2 st2 hf2 hx _ => ?_)
        have bad : (GD u2 → n_bad x = true) → mm_I (MC d) Q 3025 [.inr (.inr (3, a))] u2 (fun x8 σ7 => Q (.inl (some (.inl x8))) σ7) := fun hz =>
          st2.fail (by omega) (fun gd => by rw [hz gd]; rfl) (fun u5 ng st5 hf5 => st5.bad ng (nid_0 st5.ci))
        refine br_p (fun (c5 : x = 55) => bad (fun _ => by rw [c5]; rfl)) (fun (c5 : ¬ x = 55) => br_p (fun (c6 : x = 56) => bad (fun _ => by rw [c6]; rfl)) (fun (c6 : ¬ x = 56) => ?_))
        have hnb : n_bad x = false := by
          unfold n_bad
          rw [beq_eq_false_iff_ne.mpr c5, beq_eq_false_iff_ne.mpr c6]; rfl
        have st2 := st2.rw (r' := s_b (s_plain T (s_lv T ν) false false 0 gen asy (j + 1)) (fun _ k => s_r (n_k 11) k)) (fun _ => by rw [hnb]; rfl)
        have hcap := st2.cap
        refine c_OS (by omega) st2.ci (by omega) (fun u3 o3 f3 => ?_)
        have fn3 := o3.1.2.1
        have r3 := OS_row o3
        have l2 := hf2.nn
        have l3 := f3.nn
        have en3 : cG T (psW w (w_B w + 1) (fN u2 324)) ((6, []) :: A.1, A.2) (m' + 12 - 4) (e + 1) u3 (j + 1) ∨ cB T (g + 158 + 16) u3 := by
          by_cases gd2 : GD u2
          · exact Or.inl ((st2.gd gd2).OS o3 (by omega) (Nat.le_refl _) (by have := hsl.1; omega))
          · exact Or.inr (cB.OS (g := g + 158 + 16) ((st2.cb gd2).mono (by omega)) o3)
        refine c_AS (by omega) en3 (by omega) (fun _ => o3.2.1) (fun u4 f4 e24 e46' en4 => ⟨rfl, ?_⟩)
        have l4 := f4.nn
        have f24 : Fr (th u2) u2 u4 := f3.trans (f4.mono fun gd3 => by
          rcases en3 with q | q
          · exact th_le2 (st2.gd (f3.1 gd3)) q f3 (Nat.le_refl _)
          · exact absurd gd3 q.no)
        have hy2 : GD u2 → mm_f u 346 = mm_f u2 346 := fun gd2 => ub.trans (st2.gd gd2).2.2.2.2.2.1.1.symm
        have st6 := St.scope (B := w_B w + 1) (u := u4) (y := mm_f u 346) (x := 6) (es := [(cls 10, x)]) (m' := m' + 12 - 4) (e' := e) (h' := 158) (r := s_b (s_plain T (s_lv T ν) false false 0 gen asy (j + 1)) (fun _ k => s_r (n_k 11) k)) st2 (fun _ => rfl) (by
            obtain ⟨sc, z1, z2⟩ := hsc
            exact ⟨sc, z1, by have := hf2.2.2.2.2.1.2.1; omega⟩) hy2 (fun _ => (run_nev (A := ((6, [(cls 10, x)]) :: A.1, A.2)) (L2 := A.1) (ev_b ev_plain fun _ _ => ev_r)).imp (fun L L' z => ⟨⟨[(cls 10, x)], by rw [z.2]; exact z.1⟩, by rw [z.2]⟩)) f24 (fun _ => by rw [up_326 f4 (by omega)]; exact r3.1) (by omega) (fun q => by
            rcases en4 with ⟨-, z⟩ | ⟨z, -⟩
            · exact z
            · exact absurd (show GD u3 by unfold GD; rw [o3.2.2.1 303 (by decide) (by decide)]; exact q.2.1) z.no) (fun q => by
            rcases en4 with ⟨z, -⟩ | ⟨-, z⟩
            · exact absurd (f3.1 z.2.1) q.no
            · exact z) (fun gd => by have := st2.tl.2 gd; omega)
        exact fn_84 (h := 37) (w := psW w (w_B w + 1) (fN u2 324)) hI hE hR hw (by omega) (by omega) n1 (by omega) (fun gd4 => by omega) (by omega) (by omega) st6
      · have st := st.rw (r' := s_b (s_plain T (s_lv T ν) false false 0 gen asy j) (fun _ k => s_r (n_k 11) k)) (fun gd => by rw [z2 gd, cond_true, s_b_r])
        have st6 := (st.weakM (m' := m') (e' := e) (Nat.le_refl _) (Nat.le_refl _)).keep346 (y := mm_f u 346) (fun _ => rfl) hsc (fun _ => rfl)
        exact fn_84 (h := 69) hI hE hR hw (by omega) (by omega) n1 l0 (fun gd4 => by omega) (by omega) (by omega) st6
  refine st.eat (by omega) (fun z => ?_) (fun u z st2 hf2 => ?_)
  · refine w15 false (m + 6) i σ _ _ _ _ _ _ rfl (Nat.le_refl _) (Nat.le_refl _) Fr.rfl' (st.rw fun gd => ?_)
    unfold s_fnAt
    rw [z gd]; rfl
  · refine w15 true (m + 6 + 12) (i + 1) u _ _ _ _ _ _ (by cases asy <;> decide) (by omega) (by omega) hf2 (st2.rw fun gd => ?_)
    unfold s_fnAt
    rw [z (hf2.1 gd)]; rfl
end FNAT
