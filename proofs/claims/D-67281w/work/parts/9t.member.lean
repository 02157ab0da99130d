/-! PHASE 3. member() -/
/-- the class's node while its members are read -/
def clR (k : Nat) (heir ct : Bool) (u : mmS) : Prop := mm_a u 316 k = 12 ∧ mm_a u 322 k = 0 ∧ mm_a u 323 k = 0 ∧ (mm_a u 318 k = 0 ↔ heir = false) ∧ (mm_a u 320 k < 0 ↔ ct = false)
def shMb (θ : cTh) (w : cW) (ty : Nat) (heir : Bool) (v : Bool × List (Int32 × Nat)) (_ : Nat) (n : Int32) (u : mmS) : Prop := (n = 0 ∨ ∃ kx, n = nI kx ∧ ty < kx ∧ kx < fN u 315) ∧ clP θ.2.2.1 (w_sc w) v.2 u ∧ clR ty heir v.1 u
def s_mtail (T : sT) (E : sE) (heir ct fixed gen asy : Bool) (gs : Nat) (lit : Bool) (x : Int32) (D : List (Int32 × Nat)) (j : Nat) : sR (Bool × List (Int32 × Nat)) :=
  bif !gen && !asy && gs == 0 && !t_sg T j 2 then
    s_b (bif t_sg T j 40 then s_fn 0 (s_b (E.1 s_inner true (j + 1)) (fun _ q => s_r () q)) else s_r () j) (fun _ q => s_b (s_semi T q) (fun _ m => s_r (ct, D) m))
  else bif lit && x == 53 && !fixed then
    (bif gen || asy || !(gs == 0) || ct then none else s_b (s_plain T E true heir 0 false false j) (fun _ q => s_r (true, D) q))
  else s_b (s_plain T E true false gs gen asy j) (fun _ q => s_r (ct, D) q)
def s_mhh (gs : Nat) (fixed : Bool) : Nat := bif gs == 0 then 0 else 2 * gs + bif fixed then 1 else 0
theorem s_mrest_eq {T : sT} {E : sE} {heir ct fixed gen asy hid lit : Bool} {gs k : Nat} {x : Int32} {D : List (Int32 × Nat)} : s_mrest T E heir ct fixed gen asy gs hid lit x D k =
  bif (lit && fixed && x == 54) || (!gen && !asy && gs == 0 && !t_sg T k 2 && lit && x == 53) then none else
  s_b (bif hid then s_b (s_w (sA_ok (s_prv D x (s_mhh gs fixed))) () k) (fun _ k => s_w (sA_ev 7 x) (D ++ [(x, s_mhh gs fixed)]) k) else s_r D k) (fun D2 j => s_mtail T E heir ct fixed gen asy gs lit x D2 j) := rfl
theorem clR.mono {k : Nat} {heir ct : Bool} {σ u : mmS} (c : clR k heir ct σ) (h1 : 1 ≤ k) (h2 : k < fN σ 315) (f : Fr (th σ) σ u) (gd : GD u) : clR k heir ct u := by
  have fg := (f.2.2.2.2.2.2.2 gd).2.1
  have e (s : Nat) (s1 : 316 ≤ s) (s2 : s ≤ 323) : mm_a u s k = mm_a σ s k := fg s s1 s2 k h1 h2
  obtain ⟨c1, c2, c3, c4, c5⟩ := c
  exact ⟨by rw [e 316 (by decide) (by decide)]; exact c1, by rw [e 322 (by decide) (by decide)]; exact c2, by rw [e 323 (by decide) (by decide)]; exact c3, by rw [e 318 (by decide) (by decide)]; exact c4, by rw [e 320 (by decide) (by decide)]; exact c5⟩
theorem clR.of {k : Nat} {heir ct : Bool} {σ u : mmS} (c : clR k heir ct σ) (e : ∀ s, 316 ≤ s → s ≤ 323 → s ≠ 321 → mm_a u s k = mm_a σ s k) : clR k heir ct u := by
  obtain ⟨c1, c2, c3, c4, c5⟩ := c
  exact ⟨by rw [e 316 (by decide) (by decide) (by decide)]; exact c1, by rw [e 322 (by decide) (by decide) (by decide)]; exact c2, by rw [e 323 (by decide) (by decide) (by decide)]; exact c3, by rw [e 318 (by decide) (by decide) (by decide)]; exact c4, by rw [e 320 (by decide) (by decide) (by decide)]; exact c5⟩
theorem flF_51 {asy gen : Bool} : nz ((flF asy gen ||| 512) &&& 1) = gen := by cases asy <;> cases gen <;> decide
theorem flF_52 {asy gen : Bool} : nz ((flF asy gen ||| 512) &&& 2) = asy := by cases asy <;> cases gen <;> decide
section MEMBER
variable {β : Type} {T : sT} {g : Nat} {m0 e0 : Nat} {θ : cTh} {l0 : Nat} {b : Bool} {h : Nat} {w : cW} {A : cA} {m e : Nat} {σ u : mmS} {i j : Nat}
variable {ν a d ty : Nat} {heir ct : Bool} {D : List (Int32 × Nat)} {Q : mmQ} {es : hE} {L : hC}
/-- what is known of the class, later -/
theorem mbv {Sh : β → Nat → Int32 → mmS → Prop} {γ : Type} {Sg : γ → Nat → Int32 → mmS → Prop} {N N2 : Int32 → mmS → Prop} {w0 w1 : cW} {m1 e1 l1 h1 : Nat} {θ1 : cTh} {Z Z2 : Int32 → mmS → Prop} {b2 : Bool} {g2 m2 e2 : Nat} {r : sR β} {r2 : sR γ} {B : cA} (hv : GD σ → clP θ.2.2.1 (w_sc w) D σ ∧ clR ty heir ct σ) (st : St T Sh N g w0 m0 e0 θ l0 Z b h w A m e r σ i) (st2 : St T Sg N2 g2 w1 m1 e1 θ1 l1 Z2 b2 h1 w B m2 e2 r2 u j) (hA : GD σ → A.1 = (8, es) :: L) (hB : GD u → B.1 = A.1) (f : Fr (th σ) σ u) (hsc : w_sc w < 2 ^ 31) (ty1 : 1 ≤ ty) (ty2 : ty < fN σ 315) : GD u → clP θ.2.2.1 (w_sc w) D u ∧ clR ty heir ct u := fun gd => by
  have gs := f.1 gd
  have hG := st.gd gs
  have hG2 := st2.gd gd
  rw [show A = ((8, es) :: L, A.2) from Prod.ext (hA gs) rfl] at hG
  rw [show B = ((8, es) :: L, B.2) from Prod.ext ((hB gd).trans (hA gs)) rfl] at hG2
  exact ⟨(hv gs).1.mono hsc hG hG2 f, (hv gs).2.mono ty1 ty2 f gd⟩
/-- the node of an element -/
theorem mb_fin {x y z dv v2 : Int32} (st : St T (shMb θ w ty heir) nid g w m0 e0 θ l0 (fun n u => Q (.inl (some (.inl n))) u) b (h + 1) w A (m) (e) (s_r (ct, D) j) u j) (hd : 4 ≤ d) (hm : m0 + 1 ≤ m) (hm2 : 1 ≤ m) (he : e0 ≤ e) (hl : GD u → l0 ≤ j) (hv : GD u → clP θ.2.2.1 (w_sc w) D u ∧ clR ty heir ct u) (hA : GD u → A.1 = (8, es) :: L) (hsc : w_sc w < 2 ^ 31) (ty1 : 1 ≤ ty) (ty2 : ty < fN u 315) :
    mm_I (MC d) Q 3056 [.inr (.inr (3, a)), .inl 40, .inl x, .inl y, .inl z, .inl dv] u (fun x3 σ2 => mm_S σ2 321 x3 v2 (fun σ4 => Q (.inl (some (.inl x3))) σ4)) := by
  refine St.node5 (h := h) st hd hm2 (fun n2 u2 st2 f2 nw => ?_)
  have hv2 := mbv hv st st2 hA (fun _ => rfl) f2 hsc ty1 ty2
  refine st2.setown (by decide) (own_new nw f2 st) (fun k k1 k2 st3 f3 => ?_)
  have n1 := nw.1
  have n2' := nw.2.1
  refine st3.ret (fun _ => rfl) (fun _ => rfl) (fun gd => hl (f2.1 (f3.1 gd))) 0 (fun _ => by omega) (fun _ => he) (fun gd => ?_) (fun _ => ⟨k, k1, k2⟩)
  obtain ⟨c1, c2⟩ := hv2 (f3.1 gd)
  exact ⟨Or.inr ⟨fN u 315, n1, ty2, by show fN u 315 < fN u2 315; omega⟩, c1.setn (Or.inl (by decide)), c2.of (fun s s1 s2 s3 => by rw [a_seta_n s3])⟩
theorem mb_703 {v2 v3 v4 v5 v6 v7 v8 v9 v10 v11 v13 : Int32} (wv12 wv14 wv15 wv16 wv17 wv18 wv19 : Option mmV) (st : St T (shMb θ w ty heir) nid g w m0 e0 θ l0 (fun n u => Q (.inl (some (.inl n))) u) b (h + 1) w A (m) (e) (s_b (s_semi T j) (fun _ q => s_r (ct, D) q)) u j) (hd : 4 ≤ d) (hm : m0 + 1 ≤ m) (he : e0 ≤ e) (hl : GD u → l0 ≤ j) (hv : GD u → clP θ.2.2.1 (w_sc w) D u ∧ clR ty heir ct u) (hA : GD u → A.1 = (8, es) :: L) (hsc : w_sc w < 2 ^ 31) (ty1 : 1 ≤ ty) (ty2 : ty < fN u 315) :
    mm_W mt3086 (MC d) Q (703, [some (.inr (.inr (3, a))), some (.inl (nI ty)), some (.inl v2), some (.inl v3), some (.inl v4), some (.inl v5), some (.inl v6), some (.inl v7), some (.inl v8), some (.inl v9), some (.inl v10), some (.inl v11), wv12, some (.inl v13), wv14, wv15, wv16, wv17, wv18, wv19], []) u := by
  refine b3086_703 _ _ _ _ _ _ _ _ _ _ _ _ _ _ _ _ _ _ _ _ _ _ _ (st.semi (by omega) (fun u1 j1 st1 f1 hj1 => ?_))
  have l1 := f1.nn
  exact mb_fin st1 hd hm (by omega) he (fun gd => by have := hj1 gd; have := hl (f1.1 gd); omega) (mbv hv st st1 hA (fun _ => rfl) f1 hsc ty1 ty2) (fun gd => hA (f1.1 gd)) hsc ty1 (by omega)
theorem mb_815 {v2 v4 v5 v6 v7 v8 v9 v10 v11 s0 : Int32} {asy gen : Bool} {gs : Nat} (wv12 wv13 wv14 wv15 wv16 wv17 wv18 wv19 : Option mmV) (hp : plS s0) (hs1 : (s0 == 0) = false) (hs2 : (s0 == 6) = false) (hs3 : plG s0 = gs) (hI : cIt T ν) (hE : cEl T ν) (hR : cRst T ν) (hw : w_nu w = ν) (h4 : s0 = 4 → 2 ≤ t_e T) (st : St T (shMb θ w ty heir) nid g w m0 e0 θ l0 (fun n u => Q (.inl (some (.inl n))) u) b (h + 122) w A (m + 1) (e) (s_b (s_plain T (s_lv T ν) true false gs gen asy j) (fun _ q => s_r (ct, D) q)) u j) (hd : 50 * ν + 26 ≤ d) (hq : g + h + 202 ≤ GQ ν) (hm0 : 24 ≤ m) (hm : m0 + 1 ≤ m) (he : e0 ≤ e) (hl : GD u → l0 ≤ j) (hv : GD u → clP θ.2.2.1 (w_sc w) D u ∧ clR ty heir ct u) (hA : GD u → A.1 = (8, es) :: L) (hsc : w_sc w < 2 ^ 31) (ty1 : 1 ≤ ty) (ty2 : ty < fN u 315) :
    mm_W mt3086 (MC d) Q (815, [some (.inr (.inr (3, a))), some (.inl (nI ty)), some (.inl v2), some (.inl (flF asy gen)), some (.inl v4), some (.inl v5), some (.inl v6), some (.inl v7), some (.inl v8), some (.inl v9), some (.inl v10), some (.inl v11), wv12, wv13, wv14, wv15, wv16, wv17, wv18, wv19], [.inl s0, .inr (.inr (3, a)), .inl v10, .inl 40, .inr (.inr (3, a))]) u := by
  have st2 := st.rw (r' := s_b (s_plain T (s_lv T ν) (!(s0 == 0)) (s0 == 6) (plG s0) (nz ((flF asy gen ||| 512) &&& 1)) (nz ((flF asy gen ||| 512) &&& 2)) j) (fun _ q => s_r (ct, D) q)) (fun _ => by rw [flF_51, flF_52, hs1, hs2, hs3]; rfl)
  refine b3086_815 _ _ _ _ _ _ _ _ _ _ _ _ _ _ _ _ _ _ _ _ _ _ _ _ _ _ _ _ (St.methodR (h := h + 1) hp hI hE hR hw h4 (st2.mono (by omega)) rfl hd (by omega) hm0 (fun j3 B q n u3 st3 f3 hj3 hB on => ?_))
  have l3 := f3.nn
  exact mb_fin (L := L) (es := es) st3 (by omega) (by omega) (by omega) he (fun gd => by have := hj3 gd; have := hl (f3.1 gd); omega) (mbv hv st st3 hA hB f3 hsc ty1 ty2) (fun gd => (hB gd).trans (hA (f3.1 gd))) hsc ty1 (by omega)
theorem mb_769 {v2 v3 v4 v5 v6 v7 v8 v9 v10 v11 s0 : Int32} (wv12 wv13 wv14 wv15 wv16 wv17 wv18 wv19 : Option mmV) (hp : s0 = 5 ∨ s0 = 6) (hI : cIt T ν) (hE : cEl T ν) (hR : cRst T ν) (hw : w_nu w = ν) (hs : GD u → (s0 == 6) = heir) (st : St T (shMb θ w ty heir) nid g w m0 e0 θ l0 (fun n u => Q (.inl (some (.inl n))) u) b (h + 122) w A (m) (e) (s_b (s_plain T (s_lv T ν) true heir 0 false false j) (fun _ q => s_r (true, D) q)) u j) (hd : 50 * ν + 26 ≤ d) (hq : g + h + 202 ≤ GQ ν) (hm0 : 24 ≤ m) (hm : m0 ≤ m) (he : e0 ≤ e) (hl : GD u → l0 ≤ j) (hv : GD u → clP θ.2.2.1 (w_sc w) D u ∧ clR ty heir ct u) (hA : GD u → A.1 = (8, es) :: L) (hsc : w_sc w < 2 ^ 31) (ty1 : 1 ≤ ty) (ty2 : ty < fN u 315) (tyo : GD u → θ.1 ≤ ty) :
    mm_W mt3086 (MC d) Q (769, [some (.inr (.inr (3, a))), some (.inl (nI ty)), some (.inl v2), some (.inl v3), some (.inl v4), some (.inl v5), some (.inl v6), some (.inl v7), some (.inl v8), some (.inl v9), some (.inl v10), some (.inl v11), wv12, wv13, wv14, wv15, wv16, wv17, wv18, wv19], [.inl s0, .inr (.inr (3, a))]) u := by
  have hp2 : plS s0 ∧ (s0 == 0) = false ∧ plG s0 = 0 := by
    rcases hp with rfl | rfl
    · exact ⟨Or.inr (Or.inr (Or.inr (Or.inr (Or.inl rfl)))), rfl, rfl⟩
    · exact ⟨Or.inr (Or.inr (Or.inr (Or.inr (Or.inr rfl)))), rfl, rfl⟩
  obtain ⟨hp2, hs1, hs3⟩ := hp2
  have st2 := st.rw (r' := s_b (s_plain T (s_lv T ν) (!(s0 == 0)) (s0 == 6) (plG s0) (nz ((512 : Int32) &&& 1)) (nz ((512 : Int32) &&& 2)) j) (fun _ q => s_r (true, D) q)) (fun gd => by rw [hs gd, hs1, hs3]; rfl)
  refine b3086_769 _ _ _ _ _ _ _ _ _ _ _ _ _ _ _ _ _ _ _ _ _ _ _ _ _ (St.callR (h := h + 2) (c := 120) (s := 1) (bb := true) (m' := m) (e' := e) (θ1 := th u) (Sh' := shFn) (N' := any2) (r1 := s_plain T (s_lv T ν) (!(s0 == 0)) (s0 == 6) (plG s0) (nz ((512 : Int32) &&& 1)) (nz ((512 : Int32) &&& 2))) (fun en kk => c_plain (fl := 512) (called := -1) hp2 hI hE hR hw (fun z => by rcases hp with rfl | rfl <;> exact absurd z (by decide)) a d (g + (h + 2)) A m e j u _ _ (by omega) (by rw [hw]; omega) (by omega) en kk) () (st2.mono (by omega)) (fun _ => rfl) rfl st2.tl.1 (fun v j3 B q n u3 st3 f3 hj3 hr hsh hn => ?_))
  have hB : GD u3 → B.1 = A.1 := fun gd => run_nev1 ev_plain (hr gd)
  have hv3 := mbv hv st st3 hA hB f3 hsc ty1 ty2
  have l3 := f3.nn
  refine st3.setn (k := ty) (by decide) (Or.inl (by decide)) rfl (by omega) (fun gd => tyo (f3.1 gd)) (Or.inl ⟨by decide, by decide⟩) (fun st4 => ?_)
  refine st4.ret (fun _ => rfl) (fun _ => rfl) (fun gd => by have := hj3 gd; have := hl (f3.1 gd); omega) q (fun _ => by omega) (fun _ => he) (fun gd => ?_) (fun _ => nid_0 st4.ci)
  have gd3 : GD u3 := gd
  obtain ⟨c1, c2, c3, c4, c5, c6⟩ := hv3 gd3
  have cp := (st.gd (f3.1 gd3)).caps
  have n0 (s : Nat) (hs : s ≠ 320) : mm_a (mm_seta u3 320 ty n) s = mm_a u3 s := a_seta_n hs
  refine ⟨Or.inl rfl, c1.setn (Or.inl (by decide)), by rw [n0 316 (by decide)]; exact c2, by rw [n0 322 (by decide)]; exact c3, by rw [n0 323 (by decide)]; exact c4, by rw [n0 318 (by decide)]; exact c5, ⟨fun z => ?_, fun z => nomatch z⟩⟩
  rw [a_seta_s, hsh gd3] at z
  exact absurd z (nI_pos (by omega))
theorem mb_600 {v2 v3 v4 v5 v6 v7 v8 v9 v10 v11 : Int32} {fixed asy gen lit : Bool} {gs : Nat} (wv12 wv13 wv14 wv15 wv16 wv17 wv18 wv19 : Option mmV) (hI : cIt T ν) (hE : cEl T ν) (hR : cRst T ν) (ih : cAsg T ν) (hw : w_nu w = ν) (e3 : v3 = flF asy gen) (e4 : (gs = 0 ∧ v4 = 3) ∨ (gs = 1 ∧ v4 = 1) ∨ (gs = 2 ∧ v4 = 2)) (hga : gs ≠ 0 → asy = false ∧ gen = false) (e9 : v9 = bI (lit && v8 == 53 && !fixed)) (e11 : GD u → (v11 = 0 ↔ (!gen && !asy && gs == 0 && !t_sg T j 2) = false)) (h2 : gs = 2 → 2 ≤ t_e T)
    (st : St T (shMb θ w ty heir) nid g w m0 e0 θ l0 (fun n u => Q (.inl (some (.inl n))) u) b (h + 180) w A (m + 1) (e) (s_mtail T (s_lv T ν) heir ct fixed gen asy gs lit v8 D j) u j) (hd : 50 * ν + 26 ≤ d) (hq : g + h + 260 ≤ GQ ν) (hm0 : 24 ≤ m) (hm : m0 + 2 ≤ m) (he : e0 ≤ e) (hl : GD u → l0 ≤ j) (hv : GD u → clP θ.2.2.1 (w_sc w) D u ∧ clR ty heir ct u) (hA : GD u → A.1 = (8, es) :: L) (hsc : w_sc w < 2 ^ 31) (ty1 : 1 ≤ ty) (ty2 : ty < fN u 315) (tyo : GD u → θ.1 ≤ ty) :
    mm_W mt3086 (MC d) Q (600, [some (.inr (.inr (3, a))), some (.inl (nI ty)), some (.inl v2), some (.inl v3), some (.inl v4), some (.inl v5), some (.inl v6), some (.inl v7), some (.inl v8), some (.inl v9), some (.inl v10), some (.inl v11), wv12, wv13, wv14, wv15, wv16, wv17, wv18, wv19], []) u := by
  have hGQ := GQ_le ν
  subst e3
  refine b3086_600 _ _ _ _ _ _ _ _ _ _ _ _ _ _ _ _ _ _ _ _ _ _ _ (br_p (fun c11 => br_p (fun c9 => ?_) (fun c9 => ?_)) (fun c11 => ?_))
  · -- a method
    have hmk : (lit && v8 == 53 && !fixed) = false := bI_0.mp (e9.symm.trans c9)
    have st2 := st.rw (r' := s_b (s_plain T (s_lv T ν) true false gs gen asy j) (fun _ q => s_r (ct, D) q)) (fun gd => by unfold s_mtail; rw [(e11 gd).mp c11, hmk]; rfl)
    rcases e4 with ⟨g0, e4⟩ | ⟨g0, e4⟩ | ⟨g0, e4⟩
    · subst g0; subst e4
      exact br_n (by decide) (br_n (by decide) (mb_815 (h := h) (s0 := 2) _ _ _ _ _ _ _ _ (Or.inr (Or.inl rfl)) rfl rfl rfl hI hE hR hw (fun z => absurd z (by decide)) (st2.mono (by omega)) hd (by omega) hm0 (by omega) he hl hv hA hsc ty1 ty2))
    · subst g0; subst e4
      exact br_y rfl (mb_815 (h := h) (s0 := 3) _ _ _ _ _ _ _ _ (Or.inr (Or.inr (Or.inl rfl))) rfl rfl rfl hI hE hR hw (fun z => absurd z (by decide)) (st2.mono (by omega)) hd (by omega) hm0 (by omega) he hl hv hA hsc ty1 ty2)
    · subst g0; subst e4
      exact br_n (by decide) (br_y rfl (mb_815 (h := h) (s0 := 4) _ _ _ _ _ _ _ _ (Or.inr (Or.inr (Or.inr (Or.inl rfl)))) rfl rfl rfl hI hE hR hw (fun _ => h2 rfl) (st2.mono (by omega)) hd (by omega) hm0 (by omega) he hl hv hA hsc ty1 ty2))
  · -- the constructor
    have hmk : (lit && v8 == 53 && !fixed) = true := by
      cases hx : (lit && v8 == 53 && !fixed) with
      | true => rfl
      | false => rw [hx] at e9; exact absurd e9 c9
    have st2 := st.rw (r' := bif gen || asy || !(gs == 0) || ct then none else s_b (s_plain T (s_lv T ν) true heir 0 false false j) (fun _ q => s_r (true, D) q)) (fun gd => by unfold s_mtail; rw [(e11 gd).mp c11, hmk]; rfl)
    have bad : (GD u → (gen || asy || !(gs == 0) || ct) = true) → mm_I (MC d) Q 3025 [.inr (.inr (3, a))] u (fun x8 σ7 => Q (.inl (some (.inl x8))) σ7) := fun hz =>
      st2.fail (by omega) (fun gd => by rw [hz gd]; rfl) (fun u5 ng st5 hf5 => st5.bad ng (nid_0 st5.ci))
    refine br_p (fun c3 => br_p (fun c4 => ?_) (fun c4 => bad (fun _ => ?_))) (fun c3 => bad (fun _ => ?_))
    · have hga2 : asy = false ∧ gen = false := by
        have := flF_0.mp c3
        cases asy <;> cases gen <;> simp_all
      have g0 : gs = 0 := by
        rcases e4 with ⟨g0, e4⟩ | ⟨g0, e4⟩ | ⟨g0, e4⟩
        · exact g0
        · rw [e4] at c4; exact absurd c4 (by decide)
        · rw [e4] at c4; exact absurd c4 (by decide)
      refine st2.rdn (by decide) rfl ty2 (br_p (fun c5 => ?_) (fun c5 => bad (fun gd => ?_)))
      · have st3 := st2.f (fun gd => by rw [hga2.1, hga2.2, g0, (hv gd).2.2.2.2.2.mp c5]; rfl)
        refine st2.rdn (by decide) rfl ty2 (br_p (fun c6 => ?_) (fun c6 => ?_))
        · exact mb_769 (h := h) (s0 := 5) _ _ _ _ _ _ _ _ (Or.inl rfl) hI hE hR hw (fun gd => by rw [(hv gd).2.2.2.2.1.mp c6]; rfl) (st3.mono (by omega)) hd (by omega) (by omega) (by omega) he hl hv hA hsc ty1 ty2 tyo
        · exact mb_769 (h := h) (s0 := 6) _ _ _ _ _ _ _ _ (Or.inr rfl) hI hE hR hw (fun gd => by
            cases hx : heir with
            | true => rfl
            | false => exact absurd ((hv gd).2.2.2.2.1.mpr hx) c6) (st3.mono (by omega)) hd (by omega) (by omega) (by omega) he hl hv hA hsc ty1 ty2 tyo
      · have : ct = true := by
          cases hx : ct with
          | true => rfl
          | false => exact absurd ((hv gd).2.2.2.2.2.mpr hx) c5
        rw [this]; simp
    · rcases e4 with ⟨g0, e4⟩ | ⟨g0, e4⟩ | ⟨g0, e4⟩
      · exact absurd e4 c4
      · rw [g0]; simp
      · rw [g0]; simp
    · have : ¬ (!asy && !gen) = true := fun z => c3 (flF_0.mpr z)
      cases asy <;> cases gen <;> simp_all
  · -- a field
    have st2 := st.rw (r' := s_b (bif t_sg T j 40 then s_fn 0 (s_b ((s_lv T ν).1 s_inner true (j + 1)) (fun _ q => s_r () q)) else s_r () j) (fun _ q => s_b (s_semi T q) (fun _ m => s_r (ct, D) m))) (fun gd => by
      unfold s_mtail
      cases hx : (!gen && !asy && gs == 0 && !t_sg T j 2) with
      | true => rfl
      | false => exact absurd ((e11 gd).mpr hx) c11)
    refine st2.sign (by omega) (fun z => ?_) (fun z nz => ?_)
    · have st3 := st2.rw (r' := s_b (s_semi T j) (fun _ m => s_r (ct, D) m)) (fun gd => by rw [z gd, cond_false, s_b_r])
      exact mb_703 (h := h) (m := m + 1) _ _ _ _ _ _ _ (st3.mono (by omega)) (by omega) (by omega) he hl hv hA hsc ty1 ty2
    · have st3 := st2.rw (r' := s_b (s_fn 0 (s_b ((s_lv T ν).1 s_inner true (j + 1)) (fun _ q => s_r () q))) (fun _ q => s_b (s_semi T q) (fun _ m => s_r (ct, D) m))) (fun gd => by rw [z gd, cond_true])
      refine St.callR (h := h + 100) (c := 40) (s := 1) (bb := true) (m' := m + 1 - 1) (e' := e) (θ1 := th u) (Sh' := shU (β := Unit)) (N' := any2) (r1 := fun k => s_fn 0 (s_b ((s_lv T ν).1 s_inner true (k + 1)) (fun _ q => s_r () q))) (C := fun _ v => ∀ x18 : Int32, mm_I (MC d) Q 3051 [.inr (.inr (3, a)), .inl 11, .inl (nI (fN u 336)), .inl (-1), .inl 0] v (fun x4 σ3 => mm_W mt3086 (MC d) Q (703, [some (.inr (.inr (3, a))), some (.inl (nI ty)), some (.inl v2), some (.inl (flF asy gen)), some (.inl v4), some (.inl v5), some (.inl v6), some (.inl v7), some (.inl v8), some (.inl v9), some (.inl v10), some (.inl v11), mm_lost (mm_lost wv12), some (.inl x4), some (.inl (mm_f u 346)), some (.inl (mm_f u 347)), some (.inr (.inl (kpt u))), none, some (.inl (nI (fN u 336))), some (.inl x18)], []) σ3))
        (fun en kk => ?_) () (st3.mono (by omega)) (fun _ => rfl) rfl st3.tl.1 (fun v j3 B q n u3 st4 f4 hj4 hr hsh hn => ?_)
      · exact c_fld (K := fun x14 x18 v => mm_I (MC d) Q 3051 [.inr (.inr (3, a)), .inl 11, .inl x14, .inl (-1), .inl 0] v (fun x4 σ3 => mm_W mt3086 (MC d) Q (703, [some (.inr (.inr (3, a))), some (.inl (nI ty)), some (.inl v2), some (.inl (flF asy gen)), some (.inl v4), some (.inl v5), some (.inl v6), some (.inl v7), some (.inl v8), some (.inl v9), some (.inl v10), some (.inl v11), mm_lost (mm_lost wv12), some (.inl x4), some (.inl (mm_f u 346)), some (.inl (mm_f u 347)), some (.inr (.inl (kpt u))), none, some (.inl x14), some (.inl x18)], []) σ3)) ih hw (by omega) (by omega) (by omega) en nz (fun x14 x18 v hh => b3086_670 _ _ _ _ _ _ _ _ _ _ _ _ _ _ _ _ _ _ _ _ _ _ _ hh) kk
      · intro x18
        have hB : GD u3 → B.1 = A.1 := fun gd => run_nev1 ev_fn (hr gd)
        have hv4 := mbv hv st st4 hA hB f4 hsc ty1 ty2
        have hA4 : GD u3 → B.1 = (8, es) :: L := fun gd => (hB gd).trans (hA (f4.1 gd))
        have l4 := f4.nn
        refine St.node (h := h + 99) st4 (by omega) (by omega) (fun n5 u5 st5 f5 nw => ?_)
        have hv5 := mbv hv4 st4 st5 hA4 (fun _ => rfl) f5 hsc ty1 (by omega)
        have l5 := f5.nn
        exact mb_703 (h := h) _ _ _ _ _ _ _ (st5.mono (by omega)) (by omega) (by omega) he (fun gd => by have := hj4 (f5.1 gd); have := hl (f4.1 (f5.1 gd)); omega) hv5 (fun gd => hA4 (f5.1 gd)) hsc ty1 (by omega)
theorem mhh_k {gs : Nat} {fixed fld : Bool} {v4 : Int32} (e4 : (gs = 0 ∧ v4 = 3) ∨ (gs = 1 ∧ v4 = 1) ∨ (gs = 2 ∧ v4 = 2)) (hf : fld = true → gs = 0) : ((bif fld then 0 else v4) = 1 ∧ bI fixed = 0 ∧ s_mhh gs fixed = 2) ∨ ((bif fld then 0 else v4) = 1 ∧ bI fixed = 1 ∧ s_mhh gs fixed = 3) ∨ ((bif fld then 0 else v4) = 2 ∧ bI fixed = 0 ∧ s_mhh gs fixed = 4) ∨ ((bif fld then 0 else v4) = 2 ∧ bI fixed = 1 ∧ s_mhh gs fixed = 5) ∨ (((bif fld then 0 else v4) = 0 ∨ (bif fld then 0 else v4) = 3) ∧ (bI fixed = 0 ∨ bI fixed = 1) ∧ s_mhh gs fixed = 0) := by
  cases fld with
  | true =>
    have := hf rfl
    subst this
    cases fixed <;> simp [s_mhh, bI]
  | false =>
    rcases e4 with ⟨rfl, rfl⟩ | ⟨rfl, rfl⟩ | ⟨rfl, rfl⟩ <;> cases fixed <;> simp [s_mhh, bI]
theorem mb_517 {v3 v4 v5 v7 v8 v9 v10 v11 : Int32} {fixed asy gen lit hid : Bool} {gs : Nat} (wv12 wv13 wv14 wv15 wv16 wv17 wv18 wv19 : Option mmV) (hI : cIt T ν) (hE : cEl T ν) (hR : cRst T ν) (ih : cAsg T ν) (hw : w_nu w = ν) (e3 : v3 = flF asy gen) (e4 : (gs = 0 ∧ v4 = 3) ∨ (gs = 1 ∧ v4 = 1) ∨ (gs = 2 ∧ v4 = 2)) (hga : gs ≠ 0 → asy = false ∧ gen = false) (e9 : v9 = bI (lit && v8 == 53 && !fixed)) (e11 : GD u → (v11 = 0 ↔ (!gen && !asy && gs == 0 && !t_sg T j 2) = false)) (h2 : gs = 2 → 2 ≤ t_e T)
    (hb : hid = true → b = false) (st : St T (shMb θ w ty heir) nid g w m0 e0 θ l0 (fun n u => Q (.inl (some (.inl n))) u) b (h + 180) w A (m + 1) (bif hid then e + 1 else e) (s_b (bif hid then s_b (s_w (sA_ok (s_prv D v8 (s_mhh gs fixed))) () j) (fun _ k => s_w (sA_ev 7 v8) (D ++ [(v8, s_mhh gs fixed)]) k) else s_r D j) (fun D2 j => s_mtail T (s_lv T ν) heir ct fixed gen asy gs lit v8 D2 j)) u j) (hd : 50 * ν + 26 ≤ d) (hq : g + h + 260 ≤ GQ ν) (hm0 : 24 ≤ m) (hm : m0 + 2 ≤ m) (he : e0 ≤ e) (hl : GD u → l0 ≤ j) (hv : GD u → clP θ.2.2.1 (w_sc w) D u ∧ clR ty heir ct u) (hA : GD u → A.1 = (8, es) :: L) (cn : GD u → clN es D) (hsc : w_sc w < 2 ^ 31) (ty1 : 1 ≤ ty) (ty2 : ty < fN u 315) (tyo : GD u → θ.1 ≤ ty) :
    mm_W mt3086 (MC d) Q (517, [some (.inr (.inr (3, a))), some (.inl (nI ty)), some (.inl (bI fixed)), some (.inl v3), some (.inl v4), some (.inl v5), some (.inl (bI hid)), some (.inl v7), some (.inl v8), some (.inl v9), some (.inl v10), some (.inl v11), wv12, wv13, wv14, wv15, wv16, wv17, wv18, wv19], []) u := by
  refine b3086_517 _ _ _ _ _ _ _ _ _ _ _ _ _ _ _ _ _ _ _ _ _ _ _ (br_0 (fun z => ?_) (fun z => ?_))
  · subst z
    exact mb_600 (h := h) _ _ _ _ _ _ _ _ hI hE hR ih hw e3 e4 hga e9 e11 h2 (st.rw fun _ => by rw [cond_false, s_b_r]) hd hq hm0 hm he hl hv hA hsc ty1 ty2 tyo
  · subst z
    have hb := hb rfl
    subst hb
    have gd := st.good.2.1
    have hA0 := hA gd
    have eA : A = ((8, es) :: L, A.2) := Prod.ext hA0 rfl
    have st2 : St T (shMb θ w ty heir) nid g w m0 e0 θ l0 (fun n u => Q (.inl (some (.inl n))) u) false (h + 180) w ((8, es) :: L, A.2) (m + 1) (e + 1) (s_b (s_b (s_w (sA_ok (s_prv D v8 (s_mhh gs fixed))) () j) (fun _ k => s_w (sA_ev 7 v8) (D ++ [(v8, s_mhh gs fixed)]) k)) (fun D2 j => s_mtail T (s_lv T ν) heir ct fixed gen asy gs lit v8 D2 j)) u j := by
      rw [eA] at st
      exact st
    have go : ∀ fld : Bool, (!gen && !asy && gs == 0 && !t_sg T j 2) = fld → (v11 = 0 ↔ fld = false) → _ := fun fld hf hvf => St.prv (kd := bif fld then 0 else v4) (sf := bI fixed) (h := h + 180) (C1 := fun x4 σ3 => mm_br (v11 = 0) (mm_V (MC d) Q 3089 [.inr (.inr (3, a)), .inl x4, .inl v4, .inl (bI fixed)] σ3 (fun σ5 => mm_W mt3086 (MC d) Q (600, [some (.inr (.inr (3, a))), some (.inl (nI ty)), some (.inl (bI fixed)), some (.inl v3), some (.inl v4), some (.inl v5), some (.inl 1), some (.inl v7), some (.inl v8), some (.inl v9), some (.inl v10), some (.inl v11), some (.inl x4), wv13, wv14, wv15, wv16, wv17, wv18, wv19], []) σ5)) (mm_V (MC d) Q 3089 [.inr (.inr (3, a)), .inl x4, .inl 0, .inl (bI fixed)] σ3 (fun σ5 => mm_W mt3086 (MC d) Q (600, [some (.inr (.inr (3, a))), some (.inl (nI ty)), some (.inl (bI fixed)), some (.inl v3), some (.inl v4), some (.inl v5), some (.inl 1), some (.inl v7), some (.inl v8), some (.inl v9), some (.inl v10), some (.inl v11), some (.inl x4), wv13, wv14, wv15, wv16, wv17, wv18, wv19], []) σ5)))
      (C2 := fun x2 σ1 => mm_br (v11 = 0) (mm_I (MC d) Q 3090 [.inr (.inr (3, a)), .inl x2, .inl v4, .inl (bI fixed)] σ1 (fun x8 v => mm_br (x8 = 0) (mm_I (MC d) Q 3025 [.inr (.inr (3, a))] v (fun x10 z => Q (.inl (some (.inl x10))) z)) (mm_W mt3086 (MC d) Q (600, [some (.inr (.inr (3, a))), some (.inl (nI ty)), some (.inl (bI fixed)), some (.inl v3), some (.inl v4), some (.inl v5), some (.inl 1), some (.inl v7), some (.inl v8), some (.inl v9), some (.inl v10), some (.inl v11), some (.inl x2), wv13, wv14, wv15, wv16, wv17, wv18, wv19], []) v))) (mm_I (MC d) Q 3090 [.inr (.inr (3, a)), .inl x2, .inl 0, .inl (bI fixed)] σ1 (fun x8 v => mm_br (x8 = 0) (mm_I (MC d) Q 3025 [.inr (.inr (3, a))] v (fun x10 z => Q (.inl (some (.inl x10))) z)) (mm_W mt3086 (MC d) Q (600, [some (.inr (.inr (3, a))), some (.inl (nI ty)), some (.inl (bI fixed)), some (.inl v3), some (.inl v4), some (.inl v5), some (.inl 1), some (.inl v7), some (.inl v8), some (.inl v9), some (.inl v10), some (.inl v11), some (.inl x2), wv13, wv14, wv15, wv16, wv17, wv18, wv19], []) v))))
      (K := fun x2 v => mm_W mt3086 (MC d) Q (600, [some (.inr (.inr (3, a))), some (.inl (nI ty)), some (.inl (bI fixed)), some (.inl v3), some (.inl v4), some (.inl v5), some (.inl 1), some (.inl v7), some (.inl v8), some (.inl v9), some (.inl v10), some (.inl v11), some (.inl x2), wv13, wv14, wv15, wv16, wv17, wv18, wv19], []) v) rfl (fun v hv => nid_0 hv) st2 (a := a) (d := d) (Q := Q) (hh := s_mhh gs fixed) (by omega) hsc (hv gd).1 (cn gd) (mhh_k e4 (fun z => by rw [z] at hf; simp at hf; exact hf.1.2)) (fun x4 v hh => by
        cases fld with
        | true => exact br_n (fun z => nomatch hvf.mp z) hh
        | false => exact br_y (hvf.mpr rfl) hh) (fun x2 v hh => by
        cases fld with
        | true => exact br_n (fun z => nomatch hvf.mp z) hh
        | false => exact br_y (hvf.mpr rfl) hh) (fun x2 v st3 f3 h311 hrow h315 cp3 cn3 => by
        refine mb_600 (h := h) (es := bif (h_find es v8).isSome then es else es ++ [(1, v8)]) (L := L) (ct := ct) _ _ _ _ _ _ _ _ hI hE hR ih hw e3 e4 hga e9 (fun _ => by rw [hf]; exact hvf) h2 st3.weak hd hq hm0 hm he (fun _ => hl gd) (fun _ => ⟨cp3, (hv gd).2.of (fun s s1 s2 _ => by rw [hrow s s1 s2])⟩) (fun _ => rfl) hsc ty1 (by omega) (fun _ => tyo gd))
    exact go _ rfl (e11 gd)
theorem mb_453 {v3 v4 v5 v8 v9 v10 : Int32} {fixed asy gen lit hid : Bool} {gs : Nat} (wv11 wv12 wv13 wv14 wv15 wv16 wv17 wv18 wv19 : Option mmV) (hI : cIt T ν) (hE : cEl T ν) (hR : cRst T ν) (ih : cAsg T ν) (hw : w_nu w = ν) (e3 : v3 = flF asy gen) (e4 : (gs = 0 ∧ v4 = 3) ∨ (gs = 1 ∧ v4 = 1) ∨ (gs = 2 ∧ v4 = 2)) (hga : gs ≠ 0 → asy = false ∧ gen = false) (e9 : v9 = bI (lit && v8 == 53 && !fixed)) (h2 : gs = 2 → 2 ≤ t_e T)
    (hb : hid = true → b = false) (st : St T (shMb θ w ty heir) nid g w m0 e0 θ l0 (fun n u => Q (.inl (some (.inl n))) u) b (h + 180) w A (m + 1) (bif hid then e + 1 else e) (s_mrest T (s_lv T ν) heir ct fixed gen asy gs hid lit v8 D j) u j) (hd : 50 * ν + 26 ≤ d) (hq : g + h + 260 ≤ GQ ν) (hm0 : 24 ≤ m) (hm : m0 + 2 ≤ m) (he : e0 ≤ e) (hl : GD u → l0 ≤ j) (hv : GD u → clP θ.2.2.1 (w_sc w) D u ∧ clR ty heir ct u) (hA : GD u → A.1 = (8, es) :: L) (cn : GD u → clN es D) (hsc : w_sc w < 2 ^ 31) (ty1 : 1 ≤ ty) (ty2 : ty < fN u 315) (tyo : GD u → θ.1 ≤ ty) :
    mm_W mt3086 (MC d) Q (453, [some (.inr (.inr (3, a))), some (.inl (nI ty)), some (.inl (bI fixed)), some (.inl v3), some (.inl v4), some (.inl v5), some (.inl (bI hid)), some (.inl (bI lit)), some (.inl v8), some (.inl v9), some (.inl v10), wv11, wv12, wv13, wv14, wv15, wv16, wv17, wv18, wv19], []) u := by
  have st := st.rw (r' := bif (lit && fixed && v8 == 54) || (!gen && !asy && gs == 0 && !t_sg T j 2 && lit && v8 == 53) then none else
    s_b (bif hid then s_b (s_w (sA_ok (s_prv D v8 (s_mhh gs fixed))) () j) (fun _ k => s_w (sA_ev 7 v8) (D ++ [(v8, s_mhh gs fixed)]) k) else s_r D j) (fun D2 j => s_mtail T (s_lv T ν) heir ct fixed gen asy gs lit v8 D2 j)) (fun _ => rfl)
  have fail : (GD u → ((lit && fixed && v8 == 54) || (!gen && !asy && gs == 0 && !t_sg T j 2 && lit && v8 == 53)) = true) → mm_I (MC d) Q 3025 [.inr (.inr (3, a))] u (fun x4 σ3 => Q (.inl (some (.inl x4))) σ3) := fun hz =>
    st.fail (by omega) (fun gd => by rw [hz gd]; rfl) (fun u5 ng st5 hf5 => st5.bad ng (nid_0 st5.ci))
  have w517 : ∀ (v11 : Int32) (wv12 wv13 wv14 wv15 wv16 wv17 wv18 wv19 : Option mmV), (GD u → ((lit && fixed && v8 == 54) || (!gen && !asy && gs == 0 && !t_sg T j 2 && lit && v8 == 53)) = false) → (GD u → (v11 = 0 ↔ (!gen && !asy && gs == 0 && !t_sg T j 2) = false)) → mm_W mt3086 (MC d) Q (517, [some (.inr (.inr (3, a))), some (.inl (nI ty)), some (.inl (bI fixed)), some (.inl v3), some (.inl v4), some (.inl v5), some (.inl (bI hid)), some (.inl (bI lit)), some (.inl v8), some (.inl v9), some (.inl v10), some (.inl v11), wv12, wv13, wv14, wv15, wv16, wv17, wv18, wv19], []) u := fun v11 wv12 wv13 wv14 wv15 wv16 wv17 wv18 wv19 hz h11 =>
    mb_517 (h := h) _ _ _ _ _ _ _ _ hI hE hR ih hw e3 e4 hga e9 h11 h2 hb (st.f hz) hd hq hm0 hm he hl hv hA cn hsc ty1 ty2 tyo
  have w495 : ∀ (v11 : Int32) (wv12 wv13 wv14 wv15 wv16 wv17 wv18 wv19 : Option mmV), (lit && fixed && v8 == 54) = false → (GD u → (v11 = 0 ↔ (!gen && !asy && gs == 0 && !t_sg T j 2) = false)) → mm_W mt3086 (MC d) Q (495, [some (.inr (.inr (3, a))), some (.inl (nI ty)), some (.inl (bI fixed)), some (.inl v3), some (.inl v4), some (.inl v5), some (.inl (bI hid)), some (.inl (bI lit)), some (.inl v8), some (.inl v9), some (.inl v10), some (.inl v11), wv12, wv13, wv14, wv15, wv16, wv17, wv18, wv19], []) u := fun v11 wv12 wv13 wv14 wv15 wv16 wv17 wv18 wv19 h54 h11 => by
    refine b3086_495 _ _ _ _ _ _ _ _ _ _ _ _ _ _ _ _ _ _ _ _ _ _ _ (br_p (fun c => w517 _ _ _ _ _ _ _ _ _ (fun gd => ?_) h11) (fun c => br_0 (fun z => w517 _ _ _ _ _ _ _ _ _ (fun gd => ?_) h11) (fun z => br_p (fun c53 => fail (fun gd => ?_)) (fun c53 => w517 _ _ _ _ _ _ _ _ _ (fun gd => ?_) h11))))
    · rw [h54, (h11 gd).mp c]; rfl
    · rw [h54, z, Bool.and_false]; rfl
    · have : (!gen && !asy && gs == 0 && !t_sg T j 2) = true := by
        cases hx : (!gen && !asy && gs == 0 && !t_sg T j 2) with
        | true => rfl
        | false => exact absurd ((h11 gd).mpr hx) c
      rw [h54, this, z, c53]; rfl
    · rw [h54, beq_eq_false_iff_ne.mpr c53, Bool.and_false]; rfl
  have w476 : ∀ (s0 : Int32) (wv11 wv12 wv13 wv14 wv15 wv16 wv17 wv18 wv19 : Option mmV), (GD u → (s0 = 0 ↔ (!gen && !asy && gs == 0 && !t_sg T j 2) = false)) → mm_W mt3086 (MC d) Q (476, [some (.inr (.inr (3, a))), some (.inl (nI ty)), some (.inl (bI fixed)), some (.inl v3), some (.inl v4), some (.inl v5), some (.inl (bI hid)), some (.inl (bI lit)), some (.inl v8), some (.inl v9), some (.inl v10), wv11, wv12, wv13, wv14, wv15, wv16, wv17, wv18, wv19], [.inl s0]) u := fun s0 wv11 wv12 wv13 wv14 wv15 wv16 wv17 wv18 wv19 h11 => by
    refine b3086_476 _ _ _ _ _ _ _ _ _ _ _ _ _ _ _ _ _ _ _ _ _ _ _ _ (br_0 (fun z => w495 _ _ _ _ _ _ _ _ _ (by rw [z]; rfl) h11) (fun z => br_p (fun c1 => br_p (fun c54 => fail (fun _ => ?_)) (fun c54 => w495 _ _ _ _ _ _ _ _ _ (by rw [beq_eq_false_iff_ne.mpr c54, Bool.and_false]) h11)) (fun c1 => w495 _ _ _ _ _ _ _ _ _ (by
      cases hx : fixed with
      | false => rw [Bool.and_false]; rfl
      | true => rw [hx] at c1; exact absurd rfl c1) h11)))
    have : fixed = true := by
      cases hx : fixed with
      | true => rfl
      | false => rw [hx] at c1; exact absurd c1 (by decide)
    rw [this, z, c54]; rfl
  subst e3
  refine b3086_453 _ _ _ _ _ _ _ _ _ _ _ _ _ _ _ _ _ _ _ _ _ _ _ (br_p (fun c3 => br_p (fun c4 => st.sign (by omega) (fun z => w476 1 _ _ _ _ _ _ _ _ _ (fun gd => ?_)) (fun z _ => w476 0 _ _ _ _ _ _ _ _ _ (fun gd => ?_))) (fun c4 => w476 0 _ _ _ _ _ _ _ _ _ (fun _ => ?_))) (fun c3 => w476 0 _ _ _ _ _ _ _ _ _ (fun _ => ?_)))
  · have hag := flF_0.mp c3
    have g0 : gs = 0 := by
      rcases e4 with ⟨g0, e4⟩ | ⟨g0, e4⟩ | ⟨g0, e4⟩
      · exact g0
      · rw [e4] at c4; exact absurd c4 (by decide)
      · rw [e4] at c4; exact absurd c4 (by decide)
    rw [z gd, g0]
    cases asy <;> cases gen <;> simp_all
  · rw [z gd]; simp
  · have g0 : (gs == 0) = false := by
      rcases e4 with ⟨g0, e4⟩ | ⟨g0, e4⟩ | ⟨g0, e4⟩
      · exact absurd e4 c4
      · rw [g0]; rfl
      · rw [g0]; rfl
    rw [g0]; simp
  · have : ¬ (!asy && !gen) = true := fun z => c3 (flF_0.mpr z)
    cases asy <;> cases gen <;> simp_all
/-- behind the flags, get and set -/
def s_mbC (T : sT) (E : sE) (cx : sC) (heir ct fixed gen asy : Bool) (gs : Nat) (D : List (Int32 × Nat)) (j : Nat) : sR (Bool × List (Int32 × Nat)) :=
  bif t_kd T j 2 then (bif t_v T j == 53 then none else s_mrest T E heir ct fixed gen asy gs true false (t_v T j) D (j + 1))
  else s_b (s_key T E cx j) (fun _ k => s_mrest T E heir ct fixed gen asy gs false (t_kd T j 1 || t_kd T j 6) (t_v T j) D k)
def s_mbB (T : sT) (E : sE) (cx : sC) (heir ct fixed gen asy : Bool) (D : List (Int32 × Nat)) (j : Nat) : sR (Bool × List (Int32 × Nat)) :=
  bif asy && gen then none else s_mbC T E cx heir ct fixed gen asy (bif asy || gen then 0 else t_gs T j) D (bif (bif asy || gen then 0 else t_gs T j) == 0 then j else j + 1)
theorem s_member2_eq {T : sT} {E : sE} {cx : sC} {heir ct fixed : Bool} {D : List (Int32 × Nat)} {j : Nat} : s_member2 T E cx heir ct fixed D j = s_mbB T E cx heir ct fixed (t_sg T (bif t_asy T j then j + 1 else j) 20) (t_asy T j) D (bif t_sg T (bif t_asy T j then j + 1 else j) 20 then (bif t_asy T j then j + 1 else j) + 1 else (bif t_asy T j then j + 1 else j)) := rfl
theorem mb_403 {v3 v4 v5 x : Int32} {fixed asy gen : Bool} {gs : Nat} (wv9 wv10 wv11 wv12 wv13 wv14 wv15 wv16 wv17 wv18 wv19 : Option mmV) (hI : cIt T ν) (hE : cEl T ν) (hR : cRst T ν) (ih : cAsg T ν) (hw : w_nu w = ν) (e3 : v3 = flF asy gen) (e4 : (gs = 0 ∧ v4 = 3) ∨ (gs = 1 ∧ v4 = 1) ∨ (gs = 2 ∧ v4 = 2)) (hga : gs ≠ 0 → asy = false ∧ gen = false) (h2 : gs = 2 → 2 ≤ t_e T) (hx : x = t_v T j)
    (st : St T (shMb θ w ty heir) nid g w m0 e0 θ l0 (fun n u => Q (.inl (some (.inl n))) u) false (h + 190) w A (m) (e) (s_mbC T (s_lv T ν) (w_x w).1 heir ct fixed gen asy gs D j) u j) (hd : 50 * ν + 26 ≤ d) (hq : g + h + 270 ≤ GQ ν) (hm0 : 24 ≤ m) (hm : m0 ≤ m) (he : e0 ≤ e) (hl : l0 ≤ j + 1) (hv : GD u → clP θ.2.2.1 (w_sc w) D u ∧ clR ty heir ct u) (hA : GD u → A.1 = (8, es) :: L) (cn : GD u → clN es D) (hsc : w_sc w < 2 ^ 31) (ty1 : 1 ≤ ty) (ty2 : ty < fN u 315) (tyo : GD u → θ.1 ≤ ty) :
    mm_W mt3086 (MC d) Q (403, [some (.inr (.inr (3, a))), some (.inl (nI ty)), some (.inl (bI fixed)), some (.inl v3), some (.inl v4), some (.inl v5), some (.inl (bI (t_kd T j 2))), some (.inl (bI (t_kd T j 1 || t_kd T j 6))), some (.inl x), wv9, wv10, wv11, wv12, wv13, wv14, wv15, wv16, wv17, wv18, wv19], [.inl (bI ((t_kd T j 1 || t_kd T j 6) && x == 53 && !fixed))]) u := by
  have gd := st.good.2.1
  have hGQ := GQ_le ν
  have hEv := ev_lv (T := T) ν
  refine b3086_403 _ _ _ _ _ _ _ _ _ _ _ _ _ _ _ _ _ _ _ _ _ _ _ _ (br_0 (fun z => ?_) (fun z => br_p (fun c53 => ?_) (fun c53 => ?_)))
  · have st2 := st.rw (r' := s_b (s_key T (s_lv T ν) (w_x w).1 j) (fun _ k => s_mrest T (s_lv T ν) heir ct fixed gen asy gs false (t_kd T j 1 || t_kd T j 6) x D k)) (fun _ => by unfold s_mbC; rw [z, hx]; rfl)
    refine St.callR (h := h + 186) (c := 4) (s := 1) (bb := true) (m' := m + 10) (e' := e) (θ1 := th u) (Sh' := keyS T j) (N' := nid) (r1 := s_key T (s_lv T ν) (w_x w).1) (fun en kk => c_key (a := a) ih hw (by omega) (by rw [hw]; omega) (by omega) en kk) () (st2.mono (by omega)) (fun _ => rfl) rfl st2.tl.1 (fun v j3 B q n u3 st3 f3 hj3 hr hsh hn => ?_)
    have hB : GD u3 → B.1 = A.1 := fun gd => run_nev1 (ev_key hEv) (hr gd)
    have l3 := f3.nn
    rw [z]
    exact mb_453 (h := h) (m := m + 9 + q) (hid := false) (es := es) (L := L) (ct := ct) _ _ _ _ _ _ _ _ _ hI hE hR ih hw e3 e4 hga rfl h2 (fun z => nomatch z) (by rw [show m + 9 + q + 1 = m + 10 + q by omega]; exact st3.mono (by omega)) hd (by omega) (by omega) (by omega) he (fun gd => by have := hj3 gd; omega) (mbv hv st st3 hA hB f3 hsc ty1 ty2) (fun gd => (hB gd).trans (hA (f3.1 gd))) (fun gd => cn (f3.1 gd)) hsc ty1 (by omega) (fun gd => tyo (f3.1 gd))
  · refine st.fail (by omega) (fun _ => ?_) (fun u5 ng st5 hf5 => st5.bad ng (nid_0 st5.ci))
    unfold s_mbC
    rw [z, ← hx, c53]; rfl
  · have k2 : T.1 j ≠ 0 := by
      unfold t_kd at z
      rw [eq_of_beq z]; decide
    have hl0 : (t_kd T j 1 || t_kd T j 6) = false := by
      unfold t_kd at z ⊢
      rw [eq_of_beq z]; rfl
    have st2 := st.rw (r' := s_mrest T (s_lv T ν) heir ct fixed gen asy gs true false x D (j + 1)) (fun _ => by unfold s_mbC; rw [z, ← hx, beq_eq_false_iff_ne.mpr c53]; rfl)
    have st3 := st2.advE ⟨j, st.good.2.2.1.1, kz_lt st.ci k2, k2⟩
    have l3 : fN (mm_setf u 311 (mm_f u 311 + 1)) 315 = fN u 315 := fN_eq (f_other (by decide))
    have hv3 := mbv hv st st3 hA (fun _ => rfl) Fr_adv hsc ty1 ty2
    rw [z, hl0]
    refine St.node (h := h + 189) st3 (by omega) (by omega) (fun n4 u4 st4 f4 nw => ?_)
    have l4 := f4.nn
    exact mb_453 (h := h) (m := m + 10) (hid := true) (lit := false) (es := es) (L := L) (ct := ct) _ _ _ _ _ _ _ _ _ hI hE hR ih hw e3 e4 hga rfl h2 (fun _ => rfl) (by rw [show m + 10 + 1 = m + 12 - 1 by omega]; exact st4.mono (by omega)) hd (by omega) (by omega) (by omega) he (fun _ => hl) (mbv hv3 st3 st4 hA (fun _ => rfl) f4 hsc ty1 (by omega)) (fun _ => hA gd) (fun _ => cn gd) hsc ty1 (by omega) (fun _ => tyo gd)
theorem mb_317 {v3 v4 v5 : Int32} {fixed asy gen : Bool} {gs : Nat} (wv6 wv7 wv8 wv9 wv10 wv11 wv12 wv13 wv14 wv15 wv16 wv17 wv18 wv19 : Option mmV) (hI : cIt T ν) (hE : cEl T ν) (hR : cRst T ν) (ih : cAsg T ν) (hw : w_nu w = ν) (e3 : v3 = flF asy gen) (e4 : (gs = 0 ∧ v4 = 3) ∨ (gs = 1 ∧ v4 = 1) ∨ (gs = 2 ∧ v4 = 2)) (hga : gs ≠ 0 → asy = false ∧ gen = false) (h2 : gs = 2 → 2 ≤ t_e T)
    (st : St T (shMb θ w ty heir) nid g w m0 e0 θ l0 (fun n u => Q (.inl (some (.inl n))) u) false (h + 190) w A (m) (e) (s_mbC T (s_lv T ν) (w_x w).1 heir ct fixed gen asy gs D j) u j) (hd : 50 * ν + 26 ≤ d) (hq : g + h + 270 ≤ GQ ν) (hm0 : 24 ≤ m) (hm : m0 ≤ m) (he : e0 ≤ e) (hl : l0 ≤ j + 1) (hv : GD u → clP θ.2.2.1 (w_sc w) D u ∧ clR ty heir ct u) (hA : GD u → A.1 = (8, es) :: L) (cn : GD u → clN es D) (hsc : w_sc w < 2 ^ 31) (ty1 : 1 ≤ ty) (ty2 : ty < fN u 315) (tyo : GD u → θ.1 ≤ ty) :
    mm_W mt3086 (MC d) Q (317, [some (.inr (.inr (3, a))), some (.inl (nI ty)), some (.inl (bI fixed)), some (.inl v3), some (.inl v4), some (.inl v5), wv6, wv7, wv8, wv9, wv10, wv11, wv12, wv13, wv14, wv15, wv16, wv17, wv18, wv19], []) u := by
  have gd := st.good.2.1
  have w369 : ∀ (wv7 wv8 wv9 wv10 wv11 wv12 wv13 wv14 wv15 wv16 wv17 wv18 wv19 : Option mmV) (c : Int32), c = bI (t_kd T j 1 || t_kd T j 6) → mm_W mt3086 (MC d) Q (369, [some (.inr (.inr (3, a))), some (.inl (nI ty)), some (.inl (bI fixed)), some (.inl v3), some (.inl v4), some (.inl v5), some (.inl (bI (t_kd T j 2))), wv7, wv8, wv9, wv10, wv11, wv12, wv13, wv14, wv15, wv16, wv17, wv18, wv19], [.inl c]) u := fun wv7 wv8 wv9 wv10 wv11 wv12 wv13 wv14 wv15 wv16 wv17 wv18 wv19 c hc => by
    subst hc
    refine b3086_369 _ _ _ _ _ _ _ _ _ _ _ _ _ _ _ _ _ _ _ _ _ _ _ _ (st.rdv (fun x1 hx1 => ?_))
    have t : ∀ (wv9 wv10 wv11 wv12 wv13 wv14 wv15 wv16 wv17 wv18 wv19 : Option mmV) (c : Int32), c = bI ((t_kd T j 1 || t_kd T j 6) && x1 == 53 && !fixed) → mm_W mt3086 (MC d) Q (403, [some (.inr (.inr (3, a))), some (.inl (nI ty)), some (.inl (bI fixed)), some (.inl v3), some (.inl v4), some (.inl v5), some (.inl (bI (t_kd T j 2))), some (.inl (bI (t_kd T j 1 || t_kd T j 6))), some (.inl x1), wv9, wv10, wv11, wv12, wv13, wv14, wv15, wv16, wv17, wv18, wv19], [.inl c]) u := fun wv9 wv10 wv11 wv12 wv13 wv14 wv15 wv16 wv17 wv18 wv19 c hc => by
      subst hc
      exact mb_403 (a := a) (h := h) (v5 := v5) (x := x1) wv9 wv10 wv11 wv12 wv13 wv14 wv15 wv16 wv17 wv18 wv19 hI hE hR ih hw e3 e4 hga h2 (hx1 gd).symm st hd hq hm0 hm he hl hv hA cn hsc ty1 ty2 tyo
    refine br_0 (fun z => ?_) (fun z => br_p (fun c53 => br_0 (fun zf => ?_) (fun zf => ?_)) (fun c53 => ?_))
    · exact t _ _ _ _ _ _ _ _ _ _ _ _ (by rw [z]; rfl)
    · exact t _ _ _ _ _ _ _ _ _ _ _ _ (by rw [z, c53, zf]; rfl)
    · exact t _ _ _ _ _ _ _ _ _ _ _ _ (by rw [z, c53, zf]; rfl)
    · exact t _ _ _ _ _ _ _ _ _ _ _ _ (by rw [z, beq_eq_false_iff_ne.mpr c53]; rfl)
  have w335 : ∀ (wv6 wv7 wv8 wv9 wv10 wv11 wv12 wv13 wv14 wv15 wv16 wv17 wv18 wv19 : Option mmV) (c : Int32), c = bI (t_kd T j 2) → mm_W mt3086 (MC d) Q (335, [some (.inr (.inr (3, a))), some (.inl (nI ty)), some (.inl (bI fixed)), some (.inl v3), some (.inl v4), some (.inl v5), wv6, wv7, wv8, wv9, wv10, wv11, wv12, wv13, wv14, wv15, wv16, wv17, wv18, wv19], [.inl c]) u := fun wv6 wv7 wv8 wv9 wv10 wv11 wv12 wv13 wv14 wv15 wv16 wv17 wv18 wv19 c hc => by
    subst hc
    refine b3086_335 _ _ _ _ _ _ _ _ _ _ _ _ _ _ _ _ _ _ _ _ _ _ _ _ (st.rdk (fun x1 h1 _ => br_p (fun c1 => ?_) (fun c1 => st.rdk (fun x2 h2' _ => br_p (fun c6 => ?_) (fun c6 => ?_)))))
    · exact w369 _ _ _ _ _ _ _ _ _ _ _ _ _ _ (by unfold t_kd; rw [h1 gd, c1]; rfl)
    · exact w369 _ _ _ _ _ _ _ _ _ _ _ _ _ _ (by unfold t_kd; rw [h2' gd, c6]; rfl)
    · have e12 : x1 = x2 := (h1 gd).symm.trans (h2' gd)
      exact w369 _ _ _ _ _ _ _ _ _ _ _ _ _ _ (by unfold t_kd; rw [h2' gd, beq_eq_false_iff_ne.mpr c6, ← e12, beq_eq_false_iff_ne.mpr c1]; rfl)
  refine b3086_317 _ _ _ _ _ _ _ _ _ _ _ _ _ _ _ _ _ _ _ _ _ _ _ (st.rdk (fun x1 h1 _ => br_p (fun c => ?_) (fun c => ?_)))
  · exact w335 _ _ _ _ _ _ _ _ _ _ _ _ _ _ _ (by unfold t_kd; rw [h1 gd, c]; rfl)
  · exact w335 _ _ _ _ _ _ _ _ _ _ _ _ _ _ _ (by unfold t_kd; rw [h1 gd, beq_eq_false_iff_ne.mpr c]; rfl)
theorem mb_246 {v3 v5 : Int32} {fixed asy gen : Bool} (wv6 wv7 wv8 wv9 wv10 wv11 wv12 wv13 wv14 wv15 wv16 wv17 wv18 wv19 : Option mmV) (hI : cIt T ν) (hE : cEl T ν) (hR : cRst T ν) (ih : cAsg T ν) (hw : w_nu w = ν) (e3 : v3 = flF asy gen)
    (st : St T (shMb θ w ty heir) nid g w m0 e0 θ l0 (fun n u => Q (.inl (some (.inl n))) u) false (h + 190) w A (m) (e) (s_mbB T (s_lv T ν) (w_x w).1 heir ct fixed gen asy D j) u j) (hd : 50 * ν + 26 ≤ d) (hq : g + h + 270 ≤ GQ ν) (hm0 : 24 ≤ m) (hm : m0 ≤ m) (he : e0 ≤ e) (hl : l0 ≤ j + 1) (hv : GD u → clP θ.2.2.1 (w_sc w) D u ∧ clR ty heir ct u) (hA : GD u → A.1 = (8, es) :: L) (cn : GD u → clN es D) (hsc : w_sc w < 2 ^ 31) (ty1 : 1 ≤ ty) (ty2 : ty < fN u 315) (tyo : GD u → θ.1 ≤ ty) :
    mm_W mt3086 (MC d) Q (246, [some (.inr (.inr (3, a))), some (.inl (nI ty)), some (.inl (bI fixed)), some (.inl v3), some (.inl 3), some (.inl v5), wv6, wv7, wv8, wv9, wv10, wv11, wv12, wv13, wv14, wv15, wv16, wv17, wv18, wv19], []) u := by
  have gd := st.good.2.1
  subst e3
  -- get, set
  have w278 : asy = false → gen = false → (t_wd T j 49 || t_wd T j 51) = true → ∀ wv6 wv7 wv8 wv9 wv10 wv11 wv12 wv13 wv14 wv15 wv16 wv17 wv18 wv19 : Option mmV, mm_W mt3086 (MC d) Q (278, [some (.inr (.inr (3, a))), some (.inl (nI ty)), some (.inl (bI fixed)), some (.inl (flF asy gen)), some (.inl 3), some (.inl v5), wv6, wv7, wv8, wv9, wv10, wv11, wv12, wv13, wv14, wv15, wv16, wv17, wv18, wv19], []) u := fun ea eg hgs wv6 wv7 wv8 wv9 wv10 wv11 wv12 wv13 wv14 wv15 wv16 wv17 wv18 wv19 => by
    refine b3086_278 _ _ _ _ _ _ _ _ _ _ _ _ _ _ _ _ _ _ _ _ _ _ _ (st.isKey1 (by omega) (fun z => ?_) (fun z => ?_))
    · refine mb_317 (h := h) (gs := 0) _ _ _ _ _ _ _ _ _ _ _ _ _ _ hI hE hR ih hw rfl (Or.inl ⟨rfl, rfl⟩) (fun z => absurd rfl z) (fun z => absurd z (by decide)) (st.rw fun _ => ?_) hd hq hm0 hm he hl hv hA cn hsc ty1 ty2 tyo
      unfold s_mbB t_gs
      rw [z gd, ea, eg]; rfl
    · have z := z gd
      obtain ⟨p, p1, p2, p3⟩ := st.p
      have p3 := p3 gd
      subst p3
      have hnz : NZ T u := by
        cases h49 : t_wd T p 49 with
        | true => exact NZ_wd st.ci p1 h49
        | false =>
          rw [h49, Bool.false_or] at hgs
          exact NZ_wd st.ci p1 hgs
      have st2 := st.adv hnz
      have hte : 2 ≤ t_e T := by
        have := lt_e st2.ci st2.good.2.2.1.2 (isk_nz z)
        omega
      have hgsv : t_gs T p = bif t_wd T p 49 then 1 else 2 := by
        unfold t_gs
        rw [z, cond_true]
        cases h49 : t_wd T p 49 with
        | true => rfl
        | false =>
          rw [h49, Bool.false_or] at hgs
          rw [hgs]; rfl
      have l3 : fN (mm_setf u 311 (mm_f u 311 + 1)) 315 = fN u 315 := fN_eq (f_other (by decide))
      have hv3 := mbv hv st st2 hA (fun _ => rfl) Fr_adv hsc ty1 ty2
      refine c_isWord (by omega) st.ci.1 p1 (by omega) (br_0 (fun h49 => ?_) (fun h49 => ?_))
      · rw [h49] at hgsv
        refine mb_317 (h := h) (gs := 2) _ _ _ _ _ _ _ _ _ _ _ _ _ _ hI hE hR ih hw rfl (Or.inr (Or.inr ⟨rfl, rfl⟩)) (fun _ => ⟨ea, eg⟩) (fun _ => hte) (st2.rw fun _ => ?_) hd hq (by omega) (by omega) he (by omega) hv3 hA cn hsc ty1 (by omega) tyo
        unfold s_mbB
        rw [ea, eg, hgsv]; rfl
      · rw [h49] at hgsv
        refine mb_317 (h := h) (gs := 1) _ _ _ _ _ _ _ _ _ _ _ _ _ _ hI hE hR ih hw rfl (Or.inr (Or.inl ⟨rfl, rfl⟩)) (fun _ => ⟨ea, eg⟩) (fun _ => hte) (st2.rw fun _ => ?_) hd hq (by omega) (by omega) he (by omega) hv3 hA cn hsc ty1 (by omega) tyo
        unfold s_mbB
        rw [ea, eg, hgsv]; rfl
  refine b3086_246 _ _ _ _ _ _ _ _ _ _ _ _ _ _ _ _ _ _ _ _ _ _ _ (br_p (fun c3 => ?_) (fun c3 => ?_))
  · exact st.fail (by omega) (fun gd => by unfold s_mbB; rw [flF_3.mp c3]; rfl) (fun u5 ng st5 hf5 => st5.bad ng (nid_0 st5.ci))
  · have hag : (asy && gen) = false := by
      cases hx : (asy && gen) with
      | false => rfl
      | true => exact absurd (flF_3.mpr hx) c3
    have no : (bif asy || gen then 0 else t_gs T j) = 0 → ∀ wv6 wv7 wv8 wv9 wv10 wv11 wv12 wv13 wv14 wv15 wv16 wv17 wv18 wv19 : Option mmV, mm_W mt3086 (MC d) Q (317, [some (.inr (.inr (3, a))), some (.inl (nI ty)), some (.inl (bI fixed)), some (.inl (flF asy gen)), some (.inl 3), some (.inl v5), wv6, wv7, wv8, wv9, wv10, wv11, wv12, wv13, wv14, wv15, wv16, wv17, wv18, wv19], []) u := fun hz wv6 wv7 wv8 wv9 wv10 wv11 wv12 wv13 wv14 wv15 wv16 wv17 wv18 wv19 => by
      refine mb_317 (h := h) (gs := 0) _ _ _ _ _ _ _ _ _ _ _ _ _ _ hI hE hR ih hw rfl (Or.inl ⟨rfl, rfl⟩) (fun z => absurd rfl z) (fun z => absurd z (by decide)) (st.rw fun _ => ?_) hd hq hm0 hm he hl hv hA cn hsc ty1 ty2 tyo
      unfold s_mbB
      rw [hag, hz]; rfl
    refine br_p (fun c0 => ?_) (fun c0 => no ?_ _ _ _ _ _ _ _ _ _ _ _ _ _ _)
    · have ef : asy = false ∧ gen = false := by
        have := flF_0.mp c0
        cases asy <;> cases gen <;> simp_all
      refine st.word (by omega) (fun z49 => st.word (by omega) (fun z51 => no ?_ _ _ _ _ _ _ _ _ _ _ _ _ _ _) (fun z51 _ => w278 ef.1 ef.2 (by rw [z51 gd, Bool.or_true]) _ _ _ _ _ _ _ _ _ _ _ _ _ _)) (fun z49 _ => w278 ef.1 ef.2 (by rw [z49 gd, Bool.true_or]) _ _ _ _ _ _ _ _ _ _ _ _ _ _)
      rw [ef.1, ef.2]
      unfold t_gs
      rw [z49 gd, z51 gd]
      cases t_isk T (j + 1) <;> rfl
    · have : ¬ (!asy && !gen) = true := fun z => c0 (flF_0.mpr z)
      cases asy <;> cases gen <;> simp_all
theorem mb_171 {v5 : Int32} {fixed : Bool} (wv6 wv7 wv8 wv9 wv10 wv11 wv12 wv13 wv14 wv15 wv16 wv17 wv18 wv19 : Option mmV) (hI : cIt T ν) (hE : cEl T ν) (hR : cRst T ν) (ih : cAsg T ν) (hw : w_nu w = ν)
    (st : St T (shMb θ w ty heir) nid g w m0 e0 θ l0 (fun n u => Q (.inl (some (.inl n))) u) false (h + 190) w A (m) (e) (s_member2 T (s_lv T ν) (w_x w).1 heir ct fixed D j) u j) (hd : 50 * ν + 26 ≤ d) (hq : g + h + 270 ≤ GQ ν) (hm0 : 24 ≤ m) (hm : m0 ≤ m) (he : e0 ≤ e) (hl : l0 ≤ j + 1) (hv : GD u → clP θ.2.2.1 (w_sc w) D u ∧ clR ty heir ct u) (hA : GD u → A.1 = (8, es) :: L) (cn : GD u → clN es D) (hsc : w_sc w < 2 ^ 31) (ty1 : 1 ≤ ty) (ty2 : ty < fN u 315) (tyo : GD u → θ.1 ≤ ty) :
    mm_W mt3086 (MC d) Q (171, [some (.inr (.inr (3, a))), some (.inl (nI ty)), some (.inl (bI fixed)), some (.inl 0), some (.inl 3), some (.inl v5), wv6, wv7, wv8, wv9, wv10, wv11, wv12, wv13, wv14, wv15, wv16, wv17, wv18, wv19], []) u := by
  have gd := st.good.2.1
  have l3 : fN (mm_setf u 311 (mm_f u 311 + 1)) 315 = fN u 315 := fN_eq (f_other (by decide))
  have noa : t_asy T j = false → ∀ wv6 wv7 wv8 wv9 wv10 wv11 wv12 wv13 wv14 wv15 wv16 wv17 wv18 wv19 : Option mmV, mm_I (MC d) Q 3022 [.inr (.inr (3, a)), .inl 20] u (fun x6 σ5 => mm_br (x6 = 0) (mm_W mt3086 (MC d) Q (246, [some (.inr (.inr (3, a))), some (.inl (nI ty)), some (.inl (bI fixed)), some (.inl 0), some (.inl 3), some (.inl v5), wv6, wv7, wv8, wv9, wv10, wv11, wv12, wv13, wv14, wv15, wv16, wv17, wv18, wv19], []) σ5) (mm_W mt3086 (MC d) Q (246, [some (.inr (.inr (3, a))), some (.inl (nI ty)), some (.inl (bI fixed)), some (.inl (0 ||| 1)), some (.inl 3), some (.inl v5), wv6, wv7, wv8, wv9, wv10, wv11, wv12, wv13, wv14, wv15, wv16, wv17, wv18, wv19], []) σ5)) := fun hz wv6 wv7 wv8 wv9 wv10 wv11 wv12 wv13 wv14 wv15 wv16 wv17 wv18 wv19 => by
    refine st.eat (by omega) (fun z => ?_) (fun u2 z st2 f2 => ?_)
    · exact mb_246 (h := h) _ _ _ _ _ _ _ _ _ _ _ _ _ _ hI hE hR ih hw (asy := false) (gen := false) rfl (st.rw fun gd => by rw [s_member2_eq, hz, cond_false, z gd, cond_false]) hd hq hm0 hm he hl hv hA cn hsc ty1 ty2 tyo
    · have l2 := f2.nn
      exact mb_246 (h := h) _ _ _ _ _ _ _ _ _ _ _ _ _ _ hI hE hR ih hw (asy := false) (gen := true) rfl (st2.rw fun gd2 => by rw [s_member2_eq, hz, cond_false, z gd, cond_true]) hd hq (by omega) (by omega) he (by omega) (mbv hv st st2 hA (fun _ => rfl) f2 hsc ty1 ty2) (fun _ => hA gd) (fun _ => cn gd) hsc ty1 (by omega) (fun _ => tyo gd)
  have yes : t_wd T j 47 = true → t_asy T j = true → ∀ wv6 wv7 wv8 wv9 wv10 wv11 wv12 wv13 wv14 wv15 wv16 wv17 wv18 wv19 : Option mmV, mm_W mt3086 (MC d) Q (221, [some (.inr (.inr (3, a))), some (.inl (nI ty)), some (.inl (bI fixed)), some (.inl 0), some (.inl 3), some (.inl v5), wv6, wv7, wv8, wv9, wv10, wv11, wv12, wv13, wv14, wv15, wv16, wv17, wv18, wv19], []) u := fun h47 hz wv6 wv7 wv8 wv9 wv10 wv11 wv12 wv13 wv14 wv15 wv16 wv17 wv18 wv19 => by
    have nz : NZ T u := NZ_wd st.ci (st.good).2.2.1.1 h47
    have st2 := st.adv nz
    have hv2 := mbv hv st st2 hA (fun _ => rfl) Fr_adv hsc ty1 ty2
    refine b3086_221 _ _ _ _ _ _ _ _ _ _ _ _ _ _ _ _ _ _ _ _ _ _ _ (st2.eat (by omega) (fun z => ?_) (fun u3 z st3 f3 => ?_))
    · exact mb_246 (h := h) _ _ _ _ _ _ _ _ _ _ _ _ _ _ hI hE hR ih hw (asy := true) (gen := false) rfl (st2.rw fun gd => by rw [s_member2_eq, hz, cond_true, z gd, cond_false]) hd hq (by omega) (by omega) he (by omega) hv2 hA cn hsc ty1 (by omega) tyo
    · have l3' := f3.nn
      exact mb_246 (h := h) _ _ _ _ _ _ _ _ _ _ _ _ _ _ hI hE hR ih hw (asy := true) (gen := true) rfl (st3.rw fun gd => by rw [s_member2_eq, hz, cond_true, z (f3.1 gd), cond_true]) hd hq (by omega) (by omega) he (by omega) (mbv hv2 st2 st3 hA (fun _ => rfl) f3 hsc ty1 (by omega)) (fun _ => hA gd) (fun _ => cn gd) hsc ty1 (by omega) (fun _ => tyo gd)
  refine b3086_171 _ _ _ _ _ _ _ _ _ _ _ _ _ _ _ _ _ _ _ _ _ _ _ (st.word (by omega) (fun z47 => noa (by unfold t_asy; rw [z47 gd]; rfl) _ _ _ _ _ _ _ _ _ _ _ _ _ _) (fun z47 _ => st.lineAt1 (by omega) (fun zl => st.isKey1 (by omega) (fun zk => st.signAt1 (by omega) (fun zs => noa (by unfold t_asy; rw [zk gd, zs gd, Bool.or_false, Bool.and_false]) _ _ _ _ _ _ _ _ _ _ _ _ _ _) (fun zs _ => yes (z47 gd) (by unfold t_asy; rw [z47 gd, zl gd, zs gd, Bool.or_true]; rfl) _ _ _ _ _ _ _ _ _ _ _ _ _ _)) (fun zk => yes (z47 gd) (by unfold t_asy; rw [z47 gd, zl gd, zk gd]; rfl) _ _ _ _ _ _ _ _ _ _ _ _ _ _)) (fun zl => noa (by unfold t_asy; rw [zl gd, Bool.not_true, Bool.and_false]; rfl) _ _ _ _ _ _ _ _ _ _ _ _ _ _)))
theorem c_member {K : Int32 → mmS → Prop} {X : Nat → mmS → Prop} (hI : cIt T ν) (hE : cEl T ν) (hR : cRst T ν) (ih : cAsg T ν) (hw : w_nu w = ν) (hd : 50 * ν + 27 ≤ d) (hq : g + 300 ≤ GQ ν) (hm : 24 ≤ m) (hG : cG T w A m e σ i) (hA : A.1 = (8, es) :: L) (cp : clP θ.2.2.1 (w_sc w) D σ) (cn : clN es D) (cr : clR ty heir ct σ) (hsc : w_sc w < 2 ^ 31) (tl : tle θ (th σ)) (tyo : θ.1 ≤ ty) (ty1 : 1 ≤ ty) (ty2 : ty < fN σ 315)
    (k : ∀ n u, Rs T (shMb θ w ty heir) nid g w m e θ (i + 1) A (s_member T (s_lv T ν) (w_x w).1 heir ct D i) σ n u → K n u) : mm_ci (MC d) 3086 [.inr (.inr (3, a)), .inl (nI ty)] σ K X := by
  obtain ⟨d, rfl, hd⟩ := mc_pos (c := 50 * ν + 26) (by omega)
  have hGQ := GQ_le ν
  refine mc_ci (P := mt3086) (L := 20) rfl rfl ⟨by decide, Nat.le_of_ble_eq_true rfl⟩ fun Q hK hX => b3086_0 _ _ _ _ _ _ _ _ _ _ _ _ _ _ _ _ _ _ _ _ _ _ _ ?_
  have st : St T (shMb θ w ty heir) nid g w m e θ (i + 1) (fun n u => Q (.inl (some (.inl n))) u) false 220 w A m e (s_member T (s_lv T ν) (w_x w).1 heir ct D i) σ i := Or.inl ⟨hG, tl, by omega, fun n u rs => hK _ _ (k n u rs)⟩
  have gd := hG.2.1
  have w171 : (t_wd T i 39 && (t_isk T (i + 1) || t_sg T (i + 1) 20 || t_sg T (i + 1) 0)) = false → ∀ (v5 : Int32) (wv6 wv7 wv8 wv9 wv10 wv11 wv12 wv13 wv14 wv15 wv16 wv17 wv18 wv19 : Option mmV), mm_W mt3086 (MC d) Q (171, [some (.inr (.inr (3, a))), some (.inl (nI ty)), some (.inl 0), some (.inl 0), some (.inl 3), some (.inl v5), wv6, wv7, wv8, wv9, wv10, wv11, wv12, wv13, wv14, wv15, wv16, wv17, wv18, wv19], []) σ := fun hz v5 wv6 wv7 wv8 wv9 wv10 wv11 wv12 wv13 wv14 wv15 wv16 wv17 wv18 wv19 =>
    mb_171 (h := 30) (fixed := false) _ _ _ _ _ _ _ _ _ _ _ _ _ _ hI hE hR ih hw (st.rw fun _ => by unfold s_member; rw [hz, cond_false]) (by omega) (by omega) hm (Nat.le_refl _) (Nat.le_refl _) (Nat.le_refl _) (fun _ => ⟨cp, cr⟩) (fun _ => hA) (fun _ => cn) hsc ty1 ty2 (fun _ => tyo)
  have w70 : t_wd T i 39 = true → (t_isk T (i + 1) || t_sg T (i + 1) 20 || t_sg T (i + 1) 0) = true → ∀ (v5 : Int32) (wv6 wv7 wv8 wv9 wv10 wv11 wv12 wv13 wv14 wv15 wv16 wv17 wv18 wv19 : Option mmV), mm_W mt3086 (MC d) Q (70, [some (.inr (.inr (3, a))), some (.inl (nI ty)), some (.inl 0), some (.inl 0), some (.inl 3), some (.inl v5), wv6, wv7, wv8, wv9, wv10, wv11, wv12, wv13, wv14, wv15, wv16, wv17, wv18, wv19], []) σ := fun h39 hz v5 wv6 wv7 wv8 wv9 wv10 wv11 wv12 wv13 wv14 wv15 wv16 wv17 wv18 wv19 => by
    have nz : NZ T σ := NZ_wd st.ci hG.2.2.1.1 h39
    have st2 := st.adv nz
    have l3 : fN (mm_setf σ 311 (mm_f σ 311 + 1)) 315 = fN σ 315 := fN_eq (f_other (by decide))
    have hv2 := mbv (fun _ => ⟨cp, cr⟩) st st2 (fun _ => hA) (fun _ => rfl) Fr_adv hsc ty1 ty2
    refine b3086_70 _ _ _ _ _ _ _ _ _ _ _ _ _ _ _ _ _ _ _ _ _ _ _ (st2.sign (by omega) (fun z => ?_) (fun z _ => ?_))
    · exact mb_171 (h := 30) (fixed := true) _ _ _ _ _ _ _ _ _ _ _ _ _ _ hI hE hR ih hw (st2.rw fun _ => by unfold s_member; rw [h39, hz, z gd]; rfl) (by omega) (by omega) (by omega) (by omega) (Nat.le_refl _) (by omega) hv2 (fun _ => hA) (fun _ => cn) hsc ty1 (by omega) (fun _ => tyo)
    · have st3 := st2.rw (r' := s_b (s_fn 0 (s_body T (s_lv T ν) (s_inner, false, false, false, []) true (i + 1))) (fun _ k => s_r (ct, D) k)) (fun _ => by unfold s_member; rw [h39, hz, z gd]; rfl)
      refine St.callR (h := 100) (c := 0) (s := 1) (bb := false) (m' := m + 12 - 4) (e' := e) (θ1 := th (mm_setf σ 311 (mm_f σ 311 + 1))) (Sh' := shU (β := Unit)) (N' := any2) (r1 := fun k => s_fn 0 (s_body T (s_lv T ν) (s_inner, false, false, false, []) true k)) (C := fun _ v => mm_W mt3086 (MC d) Q (138, [some (.inr (.inr (3, a))), some (.inl (nI ty)), some (.inl 1), some (.inl 0), some (.inl 3), some (.inl v5), some (.inl (mm_f (mm_setf σ 311 (mm_f σ 311 + 1)) 346)), some (.inl (mm_f (mm_setf σ 311 (mm_f σ 311 + 1)) 347)), some (.inr (.inl (kpt (mm_setf σ 311 (mm_f σ 311 + 1))))), none, some (.inl (nI (fN (mm_setf σ 311 (mm_f σ 311 + 1)) 336))), wv11, wv12, wv13, wv14, wv15, wv16, wv17, wv18, wv19], []) v)
        (fun en kk => ?_) () (st3.mono (by omega)) (fun z => z) rfl st3.tl.1 (fun v j3 B q n u3 st4 f4 hj4 hr hsh hn => ?_)
      · rcases en with hG2 | ⟨z, -⟩
        · exact c_blkI (C := fun x4 x6 v => mm_W mt3086 (MC d) Q (138, [some (.inr (.inr (3, a))), some (.inl (nI ty)), some (.inl 1), some (.inl 0), some (.inl 3), some (.inl v5), some (.inl (mm_f (mm_setf σ 311 (mm_f σ 311 + 1)) 346)), some (.inl (mm_f (mm_setf σ 311 (mm_f σ 311 + 1)) 347)), some (.inr (.inl x4)), none, some (.inl x6), wv11, wv12, wv13, wv14, wv15, wv16, wv17, wv18, wv19], []) v) hI hw (by omega) (by omega) (by omega) hG2 kk
        · exact absurd z (by decide)
      · have hB : GD u3 → B.1 = A.1 := fun gd => run_nev1 ev_fn (hr gd)
        have hv4 := mbv hv2 st2 st4 (fun _ => hA) hB f4 hsc ty1 (by omega)
        have hA4 : GD u3 → B.1 = (8, es) :: L := fun gd => (hB gd).trans hA
        have l4 := f4.nn
        refine b3086_138 _ _ _ _ _ _ _ _ _ _ _ _ _ _ _ _ _ _ _ _ _ _ _ (St.node (h := 99) st4 (by omega) (by omega) (fun n5 u5 st5 f5 nw => ?_))
        have l5 := f5.nn
        exact mb_fin (h := 98) st5 (by omega) (by omega) (by omega) (Nat.le_refl _) (fun gd => by have := hj4 (f5.1 gd); omega) (mbv hv4 st4 st5 hA4 (fun _ => rfl) f5 hsc ty1 (by omega)) (fun gd => hA4 (f5.1 gd)) hsc ty1 (by omega)
  have w40 : ∀ (s0 : Int32) (wv5 wv6 wv7 wv8 wv9 wv10 wv11 wv12 wv13 wv14 wv15 wv16 wv17 wv18 wv19 : Option mmV), (s0 = 0 ↔ (t_isk T (i + 1) || t_sg T (i + 1) 20) = false) → mm_W mt3086 (MC d) Q (40, [some (.inr (.inr (3, a))), some (.inl (nI ty)), some (.inl 0), some (.inl 0), some (.inl 3), wv5, wv6, wv7, wv8, wv9, wv10, wv11, wv12, wv13, wv14, wv15, wv16, wv17, wv18, wv19], [.inl s0]) σ := fun s0 wv5 wv6 wv7 wv8 wv9 wv10 wv11 wv12 wv13 wv14 wv15 wv16 wv17 wv18 wv19 hs => by
    refine b3086_40 _ _ _ _ _ _ _ _ _ _ _ _ _ _ _ _ _ _ _ _ _ _ _ _ (st.word (by omega) (fun z => w171 (by rw [z gd]; rfl) _ _ _ _ _ _ _ _ _ _ _ _ _ _ _) (fun z _ => br_p (fun c0 => st.signAt1 (by omega) (fun zs => w171 (by rw [hs.mp c0, zs gd]; simp) _ _ _ _ _ _ _ _ _ _ _ _ _ _ _) (fun zs _ => w70 (z gd) (by rw [zs gd, Bool.or_true]) _ _ _ _ _ _ _ _ _ _ _ _ _ _ _)) (fun c0 => w70 (z gd) (by
      cases hx : (t_isk T (i + 1) || t_sg T (i + 1) 20) with
      | true => rfl
      | false => exact absurd (hs.mpr hx) c0) _ _ _ _ _ _ _ _ _ _ _ _ _ _ _)))
  refine st.isKey1 (by omega) (fun zk => st.signAt1 (by omega) (fun zs => w40 0 _ _ _ _ _ _ _ _ _ _ _ _ _ _ _ ⟨fun _ => by rw [zk gd, zs gd]; rfl, fun _ => rfl⟩) (fun zs _ => w40 1 _ _ _ _ _ _ _ _ _ _ _ _ _ _ _ ⟨fun z => absurd z (by decide), fun z => by rw [zs gd, Bool.or_true] at z; exact nomatch z⟩)) (fun zk => w40 1 _ _ _ _ _ _ _ _ _ _ _ _ _ _ _ ⟨fun z => absurd z (by decide), fun z => by rw [zk gd, Bool.true_or] at z; exact nomatch z⟩)
end MEMBER
