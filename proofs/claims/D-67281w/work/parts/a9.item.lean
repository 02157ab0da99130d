/-! PHASE 3. classHere(), itemIn(), item() -/
theorem rwD.lo {u : mmS} {lo lo' : Nat} (h1 : lo' ≤ lo) : ∀ {l : List (Nat × List Int32)} {x : Int32}, rwD u lo l x → rwD u lo' l x
  | [], _, h => h
  | y :: t, x, h => by
    obtain ⟨q1, q2, q3, ⟨j, f2, q4, q5⟩, q6⟩ := h
    exact ⟨q1, by omega, q3, ⟨j, f2, q4, tlR_same h1 (Nat.le_refl _) (fun _ _ _ _ _ _ => rfl) _ _ f2 _ _ _ _ (Nat.le_refl _) (Nat.le_refl _) q5⟩, rwD.lo h1 q6⟩
/-- the statement at i -/
def shIi (T : sT) (i lo : Nat) (l : List Int32) (_ : Nat) (n : Int32) (u : mmS) : Prop := ∃ k, n = nI k ∧ 1 ≤ lo ∧ lo ≤ k ∧ k < fN u 315 ∧
  ((t_wd T i 33 || t_wd T i 38 || t_wd T i 5) = true → ∃ ds : List (Nat × List Int32), rwD u lo ds (mm_a u 317 k) ∧ l = ds.flatMap (·.2)) ∧
  ((t_wd T i 18 || t_wd T i 4 || s_afun T i) = true → l = [mm_a u 317 k])
/-- a declaration's node, in any mode -/
def nIt (T : sT) (i : Nat) (n : Int32) (u : mmS) : Prop := (t_wd T i 33 || t_wd T i 38 || t_wd T i 5 || t_wd T i 18 || t_wd T i 4 || s_afun T i) = true → nid n u
section ITEM
variable {T : sT} {g : Nat} {w : cW} {A : cA} {m e : Nat} {σ u : mmS} {i j : Nat}
variable {ν a d : Nat} {Q : mmQ}
theorem c_itemIn {K : Int32 → mmS → Prop} {X : Nat → mmS → Prop} (hI : cIt T ν) (ih : cAsg T ν) (hE : cEl T ν) (hR : cRst T ν) (ihl : cLft T ν) (hsi : cSti T ν) (hw : w_nu w = ν) (hsl : wSl w) (hd : 50 * ν + 46 ≤ d) (hq : g + 1366 ≤ GQ ν) (hm : 24 ≤ m) (hG : cG T w A m e σ i) (k : ∀ n u, Rs T (shIi T i (fN σ 315)) (nIt T i) g w m e (th σ) (i + 1) A (s_item T (s_lv T ν) (w_x w) i) σ n u → K n u) :
    mm_ci (MC d) 3066 [.inr (.inr (3, a))] σ K X := by
  obtain ⟨d, rfl, hd⟩ := mc_pos (c := 50 * ν + 45) (by omega)
  have hGQ := GQ_le ν
  refine mc_ci (P := mt3066) (L := 3) rfl rfl ⟨by decide, Nat.le_of_ble_eq_true rfl⟩ fun Q hK hX => b3066_0 _ _ _ _ _ _ ?_
  have gd := hG.2.1
  have n1 := hG.1.2.1.2.1
  have tok : tokOK T := hG.1.1.2.2.2.2.2.2.2.2.2.1.1
  have st : St T (shIi T i (fN σ 315)) (nIt T i) g w m e (th σ) (i + 1) (fun n u => Q (.inl (some (.inl n))) u) false 1365 w A m e (s_item T (s_lv T ν) (w_x w) i) σ i := Or.inl ⟨hG, tle.rfl', by omega, fun n u rs => hK _ _ (k n u rs)⟩
  have e1 : fN (mm_setf σ 311 (mm_f σ 311 + 1)) 315 = fN σ 315 := fN_eq (f_other (by decide))
  -- a statement without names
  have stm : (t_wd T i 18 || s_afun T i || t_wd T i 4 || (t_wd T i 5 || t_wd T i 38) || t_wd T i 33) = false → mm_I (MC d) Q 3093 [.inr (.inr (3, a))] σ (fun x5 σ4 => Q (.inl (some (.inl x5))) σ4) := fun hz => by
    simp only [Bool.or_eq_false_iff] at hz
    obtain ⟨⟨⟨⟨z18, za⟩, z4⟩, z5, z38⟩, z33⟩ := hz
    have st2 := st.rw (r' := s_b (s_stmIn T (s_lv T ν) (w_x w) i) (fun _ k => s_r [] k)) (fun _ => by unfold s_item; rw [z18, za, z4, z5, z38, z33]; rfl)
    refine St.call (h := 0) (hsi a w hw hsl) () (st2.mono (by omega)) (fun _ => rfl) (by omega) (by rw [hw]; omega) hm rfl (fun v j B q n u2 st3 f3 hj3 hs3 hn3 => ?_)
    refine st3.ret (fun _ => rfl) (fun _ => rfl) hj3 0 (fun _ => by omega) (fun _ => Nat.le_refl _) (fun gd3 => ?_) (fun _ y => by rw [z33, z38, z5, z18, z4, za] at y; exact nomatch y)
    obtain ⟨kk, k1, k2, k3⟩ := hs3 gd3
    exact ⟨kk, k1, n1, k2, k3, fun y => (by rw [z33, z38, z5] at y; exact nomatch y), fun y => (by rw [z18, z4, za] at y; exact nomatch y)⟩
  have wdk : T.1 i = 1 → ∀ s : Int32, t_wd T i s = (t_v T i == s) := fun h s => by unfold t_wd t_v; rw [h]; rfl
  -- a function
  have w99 : ∀ (asy : Bool) (v1 : Int32) (wv2 : Option mmV), (asy = false ∧ v1 = 18 ∧ t_wd T i 18 = true) ∨ (asy = true ∧ v1 = 47 ∧ t_wd T i 18 = false ∧ s_afun T i = true) → mm_W mt3066 (MC d) Q (99, [some (.inr (.inr (3, a))), some (.inl v1), wv2], [.inl (flF asy false)]) σ := fun asy v1 wv2 hv => by
    have nzi : NZ T σ := by
      rcases hv with ⟨-, -, h⟩ | ⟨-, -, -, h⟩
      · exact NZ_wd hG.1 hG.2.2.1.1 h
      · unfold s_afun at h
        rw [Bool.and_eq_true, Bool.and_eq_true] at h
        exact NZ_wd hG.1 hG.2.2.1.1 h.1.1
    have key : ∀ (s0 : Int32) (j m2 : Nat), i + 1 ≤ j → m + 1 ≤ m2 → St T (shIi T i (fN σ 315)) (nIt T i) g w m e (th σ) (i + 1) (fun n u => Q (.inl (some (.inl n))) u) false 1365 w A m2 (e + 1) (s_hoist T (s_lv T ν) asy false j) (mm_setf σ 311 (mm_f σ 311 + s0)) j → mm_W mt3066 (MC d) Q (116, [some (.inr (.inr (3, a))), some (.inl v1), some (.inl (flF asy false))], [.inl s0, .inl (mm_f σ 311), .inr (.inr (3, a))]) σ := fun s0 j m2 hj hm2 st2 => by
      refine b3066_116 _ _ _ _ _ _ _ _ _ ?_
      have st2 := st2.rw (r' := s_b (s_hoist T (s_lv T ν) asy false j) (fun l k => s_r l k)) (fun _ => s_b_ret.symm)
      have l2 : fN (mm_setf σ 311 (mm_f σ 311 + s0)) 315 = fN σ 315 := fN_eq (f_other (by decide))
      refine St.callR (h := 10) (c := 0) (m' := m + 1) (e' := e) (θ1 := th (mm_setf σ 311 (mm_f σ 311 + s0))) (s := 0) (bb := false) (Sh' := shHo) (N' := any2) (r1 := s_hoist T (s_lv T ν) asy false) (C := fun _ u => mm_L u 317 0 (fun x2 => mm_L u 318 0 (fun x3 => mm_I (MC d) Q 3051 [.inr (.inr (3, a)), .inl 77, .inl x2, .inl x3, .inl (mm_f u 346)] u (fun x5 σ4 => Q (.inl (some (.inl x5))) σ4)))) (fun en kk => c_hoisted (unn := false) (m := m + 1) hI hE hR hw (by omega) (by rw [hw]; omega) (by omega) (en.imp (fun q => q.mono hm2 (Nat.le_refl _)) id) (fun u rs => kk 0 u rs)) [] (st2.mono (by omega)) (fun z => z) rfl (fun _ => tle.rfl') (fun v j4 B q n u4 st4 f4 hj4 hr4 hs4 hn4 => ?_)
      have l4 := f4.nn
      have p4 : 0 < fN u4 315 := by omega
      refine st4.rdn (kk := 0) (by decide) nI_0.symm p4 (st4.rdn (kk := 0) (by decide) nI_0.symm p4 ?_)
      refine St.node (h := 9) st4 (by omega) (by omega) (fun n5 u5 st5 f5 nw => ?_)
      have e5 := nw.2.1
      refine st5.ret (fun _ => rfl) (fun _ => rfl) (fun gd5 => by have := hj4 (f5.1 gd5); omega) 0 (fun _ => by omega) (fun _ => Nat.le_refl _) (fun gd5 => ⟨fN u4 315, nw.1, n1, by omega, by omega, fun y => ?_, fun _ => ?_⟩) (fun _ _ => nw.nid)
      · exfalso
        simp only [Bool.or_eq_true] at y
        rcases hv with ⟨-, -, h⟩ | ⟨-, -, -, h⟩
        · unfold t_wd at h y
          simp only [Bool.and_eq_true, beq_iff_eq] at h y
          rcases y with (y | y) | y <;> exact absurd (h.2.symm.trans y.2) (by decide)
        · unfold s_afun at h
          rw [Bool.and_eq_true, Bool.and_eq_true] at h
          have h := h.1.1
          unfold t_wd at h y
          simp only [Bool.and_eq_true, beq_iff_eq] at h y
          rcases y with (y | y) | y <;> exact absurd (h.2.symm.trans y.2) (by decide)
      · have h4 := hs4 (f5.1 gd5)
        rw [nw.2.2.2.1]
        exact h4
    refine b3066_99 _ _ _ _ _ _ _ ?_
    rcases hv with ⟨h1, h2, h3⟩ | ⟨h1, h2, h3, h4⟩
    · subst h1
      exact br_y h2 (key 1 (i + 1) (m + 12) (Nat.le_refl _) (by omega) ((st.advE nzi).rw fun _ => by unfold s_item; rw [h3]; rfl))
    · subst h1
      have h5 := h4
      unfold s_afun at h5
      rw [Bool.and_eq_true, Bool.and_eq_true] at h5
      have st1 := st.advE nzi
      have k2 : T.1 (i + 1) ≠ 0 := by
        have := h5.1.2
        unfold t_wd at this
        intro z
        rw [z] at this
        exact absurd this (by simp)
      have st2 := st1.adv ⟨i + 1, by rw [f_same, hG.2.2.1.1, nI_1], kz_lt hG.1 k2, k2⟩
      rw [adv2] at st2
      exact br_n (by rw [h2]; decide) (key 2 (i + 1 + 1) (m + 12 + 12) (by omega) (by omega) (st2.rw fun _ => by unfold s_item; rw [h3, h4]; rfl))
  -- let, const
  have decl : ∀ (v1 : Int32), cls v1 = 1 → (v1 == 2) = t_wd T i 5 → t_wd T i 18 = false → s_afun T i = false → t_wd T i 4 = false → (t_wd T i 5 || t_wd T i 38) = true → mm_I (MC d) Q 3091 [.inr (.inr (3, a)), .inl v1, .inl 1] (mm_setf σ 311 (mm_f σ 311 + 1)) (fun x2 σ1 => mm_V (MC d) Q 3021 [.inr (.inr (3, a))] σ1 (fun σ3 => Q (.inl (some (.inl x2))) σ3)) := fun v1 hc h5 z18 za z4 z => by
    have nzi : NZ T σ := by
      rw [Bool.or_eq_true] at z
      rcases z with z | z
      · exact NZ_wd hG.1 hG.2.2.1.1 z
      · exact NZ_wd hG.1 hG.2.2.1.1 z
    have st2 := (st.adv nzi).rw (r' := s_b (s_dec T (s_lv T ν) (w_x w).1 1 (v1 == 2) (i + 1)) (fun l k => s_b (s_semi T k) (fun _ m => s_r l m))) (fun _ => by unfold s_item; rw [z18, za, z4, z, h5]; rfl)
    refine St.callP (h := 20) (c := 0) (m' := m + 12 + 4) (s := 1) (bb := false) (Sh' := fun τ => decS True (fN τ 315)) (N' := nid) (r1 := s_dec T (s_lv T ν) (w_x w).1 1 (v1 == 2)) (fun en kk => c_decl (a := a) ih hE hR hw hc (by omega) (by omega) (by omega) (en.elim id fun z => absurd z.1 Bool.false_ne_true) kk) [] (st2.mono (by omega)) (fun z => z) rfl (fun v j2 B q n u2 st3 f3 hj3 hs3 hn3 => ?_)
    refine st3.semi (by omega) (fun u4 j4 st4 f4 hj4 => ?_)
    refine st4.ret (fun _ => rfl) (fun _ => rfl) (fun gd4 => by have := hj4 gd4; have := hj3 (f4.1 gd4); omega) 0 (fun _ => by omega) (fun _ => Nat.le_refl _) (fun gd4 => ?_) (fun _ _ => nid.mono (by
      by_cases gd2 : GD u2
      · obtain ⟨kk, k1, k2, k3, -⟩ := hs3 gd2
        exact ⟨kk, k1, k3⟩
      · exact hn3 gd2) f4)
    have h3 := hs3 (f4.1 gd4)
    rw [e1] at h3
    obtain ⟨kk, k1, k2, k3, k4⟩ := h3.mono n1 f4 gd4
    exact ⟨kk, k1, n1, k2, k3, fun _ => k4 trivial, fun y => by rw [z18, z4, za] at y; exact nomatch y⟩
  -- any other word
  have w149 : ∀ (v1 : Int32) (wv2 : Option mmV), T.1 i = 1 → t_v T i = v1 → ¬ v1 = 18 → s_afun T i = false → mm_W mt3066 (MC d) Q (149, [some (.inr (.inr (3, a))), some (.inl v1), wv2], []) σ := fun v1 wv2 k1 hv n18 za => by
    have hwd : ∀ s : Int32, t_wd T i s = (v1 == s) := fun s => by rw [wdk k1, hv]
    have z18 : t_wd T i 18 = false := by rw [hwd]; exact beq_eq_false_iff_ne.mpr n18
    refine b3066_149 _ _ _ _ _ _ (br_p (fun c4 => ?_) (fun c4 => ?_))
    · -- a class
      have z4 : t_wd T i 4 = true := by rw [hwd, c4]; rfl
      have nzi : NZ T σ := NZ_wd hG.1 hG.2.2.1.1 z4
      have st2 := (st.advE nzi).rw (r' := s_b (s_ident T (i + 1)) (fun x k => s_b (bif n_bad x then none else s_w (sA_ev 1 x) (true, [x]) k) (fun b k => s_b (s_class T (s_lv T ν) (w_x w).1 k) (fun _ m => s_r b.2 m)))) (fun _ => by unfold s_item; rw [z18, za, z4]; unfold s_named; rw [cond_false, cond_false, cond_true, s_b_b])
      refine st2.ident (by omega) (fun x u3 st3 f3 hx hb => ?_)
      have l3 := f3.nn
      have hcal : x = -1 ∨ ∃ k, x = nI k ∧ k < 2 ^ 31 := by
        refine Or.inr ?_
        by_cases gd3 : GD u3
        · obtain ⟨h1, h2⟩ := hx gd3
          have k2 : T.1 (i + 1) = 1 := by
            unfold t_id at h2
            rw [Bool.and_eq_true] at h2
            exact eq_of_beq h2.1
          obtain ⟨k, q1, q2⟩ := (tok (i + 1)).2 k2
          exact ⟨k, h1.trans q1, by omega⟩
        · exact ⟨0, by rw [(hb rfl gd3).2, nI_0], by decide⟩
      -- the class and its node
      have cls' : ∀ (Q2 : mmQ) (u : mmS) (b : Bool) (B : cA) (j : Nat), (∀ n v, Q (.inl (some (.inl n))) v → Q2 (.inl (some (.inl n))) v) → fN σ 315 ≤ fN u 315 → (GD u → i + 1 ≤ j) → (¬ GD u → mm_f u 311 = nI (t_e T)) → St T (shIi T i (fN σ 315)) (nIt T i) g w m e (th σ) (i + 1) (fun n u => Q (.inl (some (.inl n))) u) b 500 w B (m + 12 + 12) (e + 1) (s_b (bif n_bad x then none else s_class T (s_lv T ν) (w_x w).1 j) (fun _ m => s_r [x] m)) u j → ∀ d2, 50 * ν + 32 ≤ d2 → mm_I (MC d2) Q2 3068 [.inr (.inr (3, a)), .inl x] u (fun x3 σ2 => mm_I (MC d2) Q2 3051 [.inr (.inr (3, a)), .inl 78, .inl x, .inl x3, .inl 0] σ2 (fun x5 σ4 => Q2 (.inl (some (.inl x5))) σ4)) := fun Q2 u b B j hQ2 hlo hj h11 st2 d2 hd2 => by
        refine St.callR (h := 10) (c := 100) (m' := m + 12) (e' := e) (s := 0) (bb := true) (θ1 := th u) (Sh' := shN T ν) (N' := nid) (r1 := fun k => bif n_bad x then none else s_class T (s_lv T ν) (w_x w).1 k) (C := fun x3 σ2 => mm_I (MC d2) Q2 3051 [.inr (.inr (3, a)), .inl 78, .inl x, .inl x3, .inl 0] σ2 (fun x5 σ4 => Q2 (.inl (some (.inl x5))) σ4)) (fun en kk => c_classAt (a := a) hI hE hR ih ihl hw hsl (by omega) (by omega) (by omega) hcal (by
          rcases en with q | ⟨-, q⟩
          · exact Or.inl (q.mono (by omega) (Nat.le_refl _))
          · exact Or.inr ⟨q, h11 q.no⟩) kk) (n_k 0) (st2.tt.mono (by omega)) (fun _ => rfl) rfl st2.tl.1 (fun v j2 B q x6 u4 st4 f4 hj4 hr hs4 hn4 => ?_)
        have l4 := f4.nn
        refine St.node (h := 9) st4 (by omega) (by omega) (fun n5 u5 st5 f5 nw => ?_)
        have e5 := nw.2.1
        refine hQ2 _ _ (st5.ret (fun _ => rfl) (fun _ => rfl) (fun gd5 => by have := hj4 (f5.1 gd5); have := hj (f4.1 (f5.1 gd5)); omega) 0 (fun _ => by omega) (fun _ => Nat.le_refl _) (fun gd5 => ⟨fN u4 315, nw.1, n1, by omega, by omega, fun y => ?_, fun _ => by rw [nw.2.2.2.1]⟩) (fun _ _ => nw.nid))
        rw [hwd, hwd, hwd, c4] at y
        exact absurd y (by decide)
      obtain ⟨d, rfl, hd'⟩ := mc_pos (d := d) (c := 50 * ν + 32) (by omega)
      refine mc_ci (P := mt3067) (L := 2) rfl rfl ⟨by decide, Nat.le_of_ble_eq_true rfl⟩ fun Q2 hK2 hX2 => b3067_0 _ _ _ _ _ (st3.wrong (fun gd3 st3 => ?_) (fun ng => ?_))
      · have st4 := st3.rwR (r' := s_b (s_w (sA_ev 1 x) () (i + 1 + 1)) (fun _ k => s_b (bif n_bad x then none else s_class T (s_lv T ν) (w_x w).1 k) (fun _ m => s_r [x] m))) (fun _ => by
          cases hbx : n_bad x with
          | true =>
            show none = _
            rw [run_b, run_ev, show (1 : Nat) = cls 4 from rfl, h_ev_cls, h_dec_bad hbx]
          | false => rfl)
        refine St.declare (ro := 4) rfl st4 (by omega) rfl (fun u5 B st5 f5 h11 => ?_)
        have l5 := f5.nn
        exact cls' Q2 u5 true B (i + 1 + 1) (fun n v h => hK2 _ _ h) (by omega) (fun _ => by omega) h11 (st5.mono (by omega)) d (by omega)
      · exact cls' Q2 u3 true A (i + 1 + 1) (fun n v h => hK2 _ _ h) (by omega) (fun _ => by omega) (fun _ => (hb rfl ng).1) ((st3.rw fun z => absurd z ng).same (h' := 500) (m' := m + 12 + 12) (e' := e + 1) (i' := i + 1 + 1) Fr.rfl' (fun z => absurd z ng) (fun z => absurd z ng) (fun q => absurd q.2.1 ng) (fun c => c.mono (by omega))) d (by omega)
    · have z4 : t_wd T i 4 = false := by rw [hwd]; exact beq_eq_false_iff_ne.mpr c4
      refine br_p (fun c5 => b3066_184 _ _ _ _ _ _ (br_y c5 (decl 2 (by decide) (by rw [hwd, c5]; rfl) z18 za z4 (by rw [hwd, c5]; rfl)))) (fun c5 => br_p (fun c38 => b3066_184 _ _ _ _ _ _ (br_n c5 (decl 1 (by decide) (by rw [hwd, c38]; rfl) z18 za z4 (by rw [hwd, hwd, c38]; rfl)))) (fun c38 => ?_))
      by_cases c33 : v1 = 33
      · have st2 := st.rw (r' := s_b (s_dec T (s_lv T ν) (w_x w).1 0 false (i + 1)) (fun l k => s_b (s_semi T k) (fun _ m => s_r l m))) (fun _ => by
          unfold s_item
          rw [z18, za, z4, hwd 5, hwd 38, hwd 33, c33]; rfl)
        refine c_stmVar (g := g) ih hE hR hw (by omega) (by omega) hm hG k1 (hv.trans c33) (fun n v rs => ?_)
        have hz : (t_wd T i 18 || t_wd T i 4 || s_afun T i) = false := by rw [z18, z4, za]; rfl
        rcases st2 with ⟨q1, q2, q3, q4⟩ | ⟨q1, -⟩
        · refine q4 n v ⟨rs.1, ?_⟩
          rcases rs.2 with ⟨v2, j2, B, q, x1, x2, ⟨kk, y1, y2, y3, y4⟩, x4⟩ | x
          · exact Or.inl ⟨v2, j2, B, q, x1, x2, ⟨kk, y1, n1, y2, y3, fun _ => y4 trivial, fun y => by rw [hz] at y; exact nomatch y⟩, x4⟩
          · exact Or.inr ⟨x.1, x.2.1, fun _ => x.2.2⟩
        · exact nomatch q1
      · refine stm ?_
        rw [z18, za, z4, hwd 5, hwd 38, hwd 33, beq_eq_false_iff_ne.mpr c5, beq_eq_false_iff_ne.mpr c38, beq_eq_false_iff_ne.mpr c33]; rfl
  refine br_y gd (st.rdk (fun x1 h1 _ => br_p (fun c1 => st.rdv (fun x2 h2 => ?_)) (fun c1 => stm ?_)))
  · have k1 : T.1 i = 1 := (h1 gd).trans c1
    have h2 := h2 gd
    refine br_p (fun c18 => br_y c18 (w99 false x2 _ (Or.inl ⟨rfl, c18, by rw [wdk k1, h2, c18]; rfl⟩))) (fun c18 => ?_)
    have z18 : t_wd T i 18 = false := by rw [wdk k1, h2]; exact beq_eq_false_iff_ne.mpr c18
    refine br_p (fun c47 => st.rdk1 (fun x3 h3 _ => br_p (fun c3 => ?_) (fun c3 => ?_))) (fun c47 => w149 x2 _ k1 h2 c18 ?_)
    · refine b3066_59 _ _ _ _ _ _ (st.rdv1 (fun x4 h4 => br_p (fun d18 => st.lineAt1 (by omega) (fun zl => br_n c18 ?_) (fun zl => w149 x2 _ k1 h2 c18 ?_)) (fun d18 => w149 x2 _ k1 h2 c18 ?_)))
      · refine w99 true x2 _ (Or.inr ⟨rfl, c47, z18, ?_⟩)
        unfold s_afun
        rw [wdk k1, h2, c47, zl gd]
        unfold t_wd
        rw [h3 gd, c3, show T.2.1 (i + 1) = x4 from h4 gd, d18]; rfl
      · unfold s_afun
        rw [zl gd]; simp
      · unfold s_afun
        have : t_wd T (i + 1) 18 = false := by
          unfold t_wd
          rw [show T.2.1 (i + 1) = x4 from h4 gd, beq_eq_false_iff_ne.mpr d18, Bool.and_false]
        rw [this]; simp
    · refine w149 x2 _ k1 h2 c18 ?_
      unfold s_afun
      have : t_wd T (i + 1) 18 = false := by
        unfold t_wd
        rw [h3 gd, beq_eq_false_iff_ne.mpr c3]; rfl
      rw [this]; simp
    · unfold s_afun
      rw [wdk k1, h2, beq_eq_false_iff_ne.mpr c47]; rfl
  · have z : ∀ s, t_wd T i s = false := fun s => by
      unfold t_wd
      rw [h1 gd, beq_eq_false_iff_ne.mpr c1]; rfl
    unfold s_afun
    rw [z 18, z 4, z 5, z 38, z 47, z 33]; rfl
/-- item(), behind enter, where all is bad -/
theorem bd_itemIn {K : Int32 → mmS → Prop} {X : Nat → mmS → Prop} (ng : ¬ GD σ) (hd : 1 ≤ d) (k : K 0 σ) : mm_ci (MC d) 3066 [.inr (.inr (3, a))] σ K X := by
  obtain ⟨d, rfl, hd⟩ := mc_pos hd
  exact mc_ci (P := mt3066) (L := 3) rfl rfl ⟨by decide, Nat.le_of_ble_eq_true rfl⟩ fun Q hK hX => b3066_0 _ _ _ _ _ _ (br_n ng (hK _ _ k))
theorem it_no : cIt T 0 := by
  intro a w hw d g A m e i σ K X hd hq hm en k
  obtain ⟨d, rfl, hd⟩ := mc_pos (c := 9) (by omega)
  refine mc_ci (P := mt3065) (L := 3) rfl rfl ⟨by decide, Nat.le_of_ble_eq_true rfl⟩ fun Q hK hX => b3065_0 _ _ _ _ _ _ ?_
  rcases en with hG | ⟨z, -⟩
  · have st : St T (fun (_ : List Int32) _ _ _ => True) any2 g w m e (th σ) (i + 1) (fun n u => Q (.inl (some (.inl n))) u) false 0 w A m e ((s_lv T 0).2.2.2.2.2.2.1 (w_x w) i) σ i := Or.inl ⟨hG, tle.rfl', by have := GQ_le (w_nu w); omega, fun n u rs => hK _ _ (k n u (by
      obtain ⟨f2, rs⟩ := rs
      refine ⟨f2, ?_⟩
      rcases rs with ⟨v1, j, B, q, x1, -⟩ | x
      · exact nomatch x1
      · exact Or.inr x))⟩
    refine st.enter (by omega) (fun _ => rfl) (fun u st hf hp he => ?_)
    have ng : ¬ GD u := fun z => by have := hp z; omega
    have ng2 : ¬ GD (mm_setf u 314 (mm_f u 311)) := ng
    refine bd_itemIn ng2 (by omega) ?_
    rcases st with ⟨q1, -⟩ | ⟨-, c, kb⟩
    · exact absurd q1.2.1 ng
    · exact kb 0 _ ((Fr_314.trans Fr_314).trans Fr_312') (((c.f14).f14).setf rfl (by decide) (by decide) (by decide)) trivial
  · exact absurd z Bool.false_ne_true
theorem it_up2 (hI : cIt T ν) (ih : cAsg T ν) (hE : cEl T ν) (hR : cRst T ν) (ihl : cLft T ν) (hsi : cSti T ν) (a : Nat) (w : cW) (hw : w_nu w = ν + 1) (d g : Nat) (A : cA) (m e i : Nat) (σ : mmS) (K : Int32 → mmS → Prop) (X : Nat → mmS → Prop) (hd : 50 * (ν + 1) + 10 ≤ d) (hq : g + 0 ≤ GQ (w_nu w)) (hm : 24 ≤ m) (en : cG T w A m e σ i ∨ (false = true ∧ cB T (g + 0) σ)) (k : ∀ n u, Rs T (shIt T σ) (nIt T i) g w m e (th σ) (i + 1) A ((s_lv T (ν + 1)).2.2.2.2.2.2.1 (w_x w) i) σ n u → K n u) :
    mm_ci (MC d) 3065 [.inr (.inr (3, a))] σ K X := by
  obtain ⟨d, rfl, hd⟩ := mc_pos (c := 50 * ν + 59) (by omega)
  refine mc_ci (P := mt3065) (L := 3) rfl rfl ⟨by decide, Nat.le_of_ble_eq_true rfl⟩ fun Q hK hX => b3065_0 _ _ _ _ _ _ ?_
  rcases en with hG | ⟨z, -⟩
  · have ok := hG.ok
    rw [hw] at hq
    have hQ : GQ ν = GQ (ν + 1) + 1370 := by
      have := ok.1
      unfold GQ
      omega
    have hGQ := GQ_le (ν + 1)
    have hν : w_nu w - 1 = ν := by omega
    have n1 := hG.1.2.1.2.1
    have st : St T (shIt T σ) (nIt T i) g w m e (th σ) (i + 1) (fun n u => Q (.inl (some (.inl n))) u) false 0 w A m e (s_item T (s_lv T ν) (w_x w) i) σ i := Or.inl ⟨hG, tle.rfl', by omega, fun n u rs => hK _ _ (k n u rs)⟩
    refine st.enter (by omega) (fun z => by omega) (fun u st hf hp he => ?_)
    rw [hν] at st
    by_cases gd : GD u
    · have st1 := (st.f14 (x := mm_f u 311)).strong (show GD (mm_setf u 314 (mm_f u 311)) from gd)
      have st2 := st1.rw (r' := s_b (s_item T (s_lv T ν) (w_x w) i) (fun l k => s_r l k)) (fun _ => s_b_ret.symm)
      have l1 := hf.nn
      have e315 : fN (mm_setf u 314 (mm_f u 311)) 315 = fN u 315 := fN_eq (f_other (by decide))
      refine St.callP (h := 0) (c := 0) (m' := m) (s := 1) (bb := false) (Sh' := fun τ => shIi T i (fN τ 315)) (N' := nIt T i) (r1 := s_item T (s_lv T ν) (w_x w)) (C := fun n v => Q (.inl (some (.inl n))) (mm_setf (mm_setf v 314 (mm_f u 314)) 312 ((mm_f (mm_setf v 314 (mm_f u 314)) 312) - 1))) (fun en kk => c_itemIn (w := dn w ν) (a := a) hI ih hE hR ihl hsi rfl (wSl_dn ok (by omega)) (by omega) (by omega) hm (en.elim id fun z => absurd z.1 Bool.false_ne_true) kk) [] st2 (fun z => z) rfl (fun v j B q n u4 st4 f4 hj4 hs4 hn4 => ?_)
      rw [← hν] at st4
      have st5 := (st4.f14 (x := mm_f u 314)).leave (fun _ => by omega) ok
      refine st5.ret (fun _ => rfl) (fun _ => rfl) (fun gd => hj4 gd) q (fun _ => Nat.le_refl _) (fun _ => Nat.le_refl _) (fun gd5 => ?_) (fun ng5 y => nid.mono (θ := (0, 0, 0, 0)) (nid.mono (θ := (0, 0, 0, 0)) (hn4 ng5 y) Fr_314) Fr_312')
      obtain ⟨kk, k1, k2, k3, k4, k5, k6⟩ := hs4 gd5
      have e11 : fN σ 311 = i := by
        show (mm_f σ 311).toNatClampNeg = i
        have he := hG.1.1.2.2.2.2.2.2.2.1
        have := hG.2.2.1.2
        rw [hG.2.2.1.1, nI_clamp (by omega)]
      refine ⟨kk, k1, n1, by omega, k4, fun y => ?_, fun y => ?_⟩
      · rw [e11] at y
        obtain ⟨ds, d1, d2⟩ := k5 y
        refine ⟨ds, ?_, d2⟩
        have d1 := d1.lo (show fN σ 315 ≤ fN (mm_setf u 314 (mm_f u 311)) 315 by omega)
        have f5 : Fr (th u4) u4 (mm_setf (mm_setf u4 314 (mm_f u 314)) 312 (mm_f (mm_setf u4 314 (mm_f u 314)) 312 - 1)) := Fr_314.trans Fr_312'
        exact d1.mono n1 f5 gd5
      · rw [e11] at y
        exact k6 y
    · have ng2 : ¬ GD (mm_setf u 314 (mm_f u 311)) := gd
      refine bd_itemIn ng2 (by omega) ?_
      rcases st with ⟨q1, -⟩ | ⟨-, c, kb⟩
      · exact absurd q1.2.1 gd
      · exact kb 0 _ ((Fr_314.trans Fr_314).trans Fr_312') (((c.f14).f14).setf rfl (by decide) (by decide) (by decide)) (fun _ => nid_0 (((c.f14 (x := mm_f u 311)).f14 (x := mm_f u 314)).setf (k := 312) (x := mm_f (mm_setf (mm_setf u 314 (mm_f u 311)) 314 (mm_f u 314)) 312 - 1) rfl (by decide) (by decide) (by decide)).1)
  · exact absurd z Bool.false_ne_true
theorem it_up (hI : cIt T ν) (ih : cAsg T ν) (hE : cEl T ν) (hR : cRst T ν) (ihl : cLft T ν) (hsi : cSti T ν) : cIt T (ν + 1) := by
  intro a w hw d g A m e i σ K X hd hq hm en k
  exact it_up2 hI ih hE hR ihl hsi a w hw d g A m e i σ K X hd hq hm en (fun n u rs => k n u ⟨rs.1, rs.2.imp id (fun x => ⟨x.1, x.2.1, trivial⟩)⟩)
end ITEM
