/-! PHASE 3. The loop of a var's declaration -/
theorem Tk_fl {T : sT} {σ : mmS} (t : Tk T σ) : Tk T (fl T σ) := (t.setf (by decide)).setf (by decide)
theorem uTx_sam {T : sT} {σ u : mmS} (t : uTx T σ) (r : mm_r u = mm_r σ) (h : ∀ k, k = 204 ∨ k = 207 ∨ k = 208 ∨ k = 1002 → mm_a u k = mm_a σ k ∧ mm_n u k = mm_n σ k) : uTx T u := by
  obtain ⟨a4, n4⟩ := h 204 (Or.inl rfl)
  obtain ⟨a7, n7⟩ := h 207 (Or.inr (Or.inl rfl))
  obtain ⟨a8, n8⟩ := h 208 (Or.inr (Or.inr (Or.inl rfl)))
  obtain ⟨a2, n2⟩ := h 1002 (Or.inr (Or.inr (Or.inr rfl)))
  unfold uTx
  rw [r, a4, a7, a8, a2, n4, n7, n8, n2]
  exact t
def tkS (k : Nat) : Bool := k == 304 || k == 305 || k == 308 || k == 204 || k == 207 || k == 208 || k == 1002
theorem tkS_c {k : Nat} (h : tkS k = true) : k = 304 ∨ k = 305 ∨ k = 308 ∨ k = 204 ∨ k = 207 ∨ k = 208 ∨ k = 1002 := by
  simpa [tkS, or_assoc] using h
theorem Tk_sam {T : sT} {σ u : mmS} (t : Tk T σ) (s : ∀ k, tkS k = true → sam σ u k) (r : mm_r u = mm_r σ) (f : mm_f u 310 = mm_f σ 310) : Tk T u :=
  have h4 := s 304 rfl
  have h5 := s 305 rfl
  have h8 := s 308 rfl
  ⟨h4.1.trans t.1, h5.1.trans t.2.1, h8.1.trans t.2.2.1, h4.2.1.trans t.2.2.2.1, h5.2.1.trans t.2.2.2.2.1, h8.2.1.trans t.2.2.2.2.2.1, f.trans t.2.2.2.2.2.2.1, t.2.2.2.2.2.2.2.1, t.2.2.2.2.2.2.2.2.1, ⟨t.2.2.2.2.2.2.2.2.2.1.1, uTx_sam t.2.2.2.2.2.2.2.2.2.1.2 r (fun k hk => by rcases hk with rfl | rfl | rfl | rfl <;> exact ⟨(s _ rfl).1, (s _ rfl).2.1⟩)⟩, t.2.2.2.2.2.2.2.2.2.2⟩
theorem Tk_AS {T : sT} {σ u : mmS} {R : Nat → List Nat} {s : Nat} {n r : Int32} (t : Tk T σ) (a : AS σ R s n r u) : Tk T u := by
  obtain ⟨-, -, a3, a4, -, a6, -⟩ := a
  exact Tk_sam t (fun k hk => by rcases tkS_c hk with rfl | rfl | rfl | rfl | rfl | rfl | rfl <;> exact a6 _ ⟨Or.inr (by decide), by decide, by decide, by decide, by decide⟩) a4.1 (a3 310 (by decide))
theorem var_loop {T : sT} {d a : Nat} {n v2 : Int32} {w4 : Option mmV} (hd : 3 ≤ d) : ∀ (L : hC) (e : Int32) (b : Nat) (σ : mmS) (R : Nat → List Nat) {Q : mmQ}, Tk T σ → stru σ R → rsN σ → path σ R L e b → h_ok L = true → fN σ 325 + L.length ≤ 130000 →
    (∀ u R2 L2, DV T σ R b (hl L) u R2 → (mm_f u 303 = mm_f σ 303 ∧ mm_f u 311 = mm_f σ 311) → h_var n L = some L2 → path u R2 L2 e b → Q (.inl none) u) →
    (∀ u R2 L2, DV T σ R b (hl L) u R2 → (mm_f u 303 = 1 ∧ mm_f u 311 = nI (t_e T)) → h_var n L = none → path u R2 L2 e b → Q (.inl none) u) →
    mm_W mt3029 (MC d) Q (26, [some (.inr (.inr (3, a))), some (.inl n), some (.inl v2), some (.inl e), w4], []) σ
  | [], _, _, _, _, _, _, _, _, _, ho, _, _, _ => nomatch ho
  | (w, es) :: t, e, b, σ, R, Q, tk, hst, hr, hp, ho, hlen, hg, hb => by
    have hp0 := hp
    obtain ⟨k, rfl, kb, ks, pw, pe, pt⟩ := hp
    have pw : mm_a σ 327 k = w := pw
    have pe : ens σ (R k) = es := pe
    have hlen : fN σ 325 + (t.length + 1) ≤ 130000 := hlen
    have hl3 : ∀ r, r ∈ R k → r < fN σ 325 := (hst.2.2.1 k ks).2.2.1
    have c5 := hst.2.1
    have n2 := c5.2.1
    have n4 := c5.2.2.2.1
    have ff : (mm_f (fl T σ) 303 = 1 ∧ mm_f (fl T σ) 311 = nI (t_e T)) := by
      constructor
      · show mm_f (mm_setf (mm_setf σ 303 1) 311 (nI (t_e T))) 303 = _
        rw [f_other (by decide), f_same]
      · show mm_f (mm_setf (mm_setf σ 303 1) 311 (nI (t_e T))) 311 = _
        rw [f_same]
    refine b3029_26 _ _ _ _ _ _ _ _ ?_
    refine c_isTop (by omega) hst.1 ks ?_
    rw [pw]
    refine br_0 (fun hnt => ?_) (fun ht => ?_)
    · -- a scope on the way
      have w48 : ∀ σ1, (σ1 = σ ∧ h_find es n = none) ∨ (σ1 = fl T σ ∧ (h_find es n).isSome = true) → mm_W mt3029 (MC d) Q (48, [some (.inr (.inr (3, a))), some (.inl n), some (.inl v2), some (.inl (nI k)), w4], []) σ1 := by
        intro σ1 h1
        have g : Tk T σ1 ∧ stru σ1 R ∧ rsN σ1 ∧ path σ1 R t (mm_a σ1 326 k) k ∧ DV T σ R b 0 σ1 R ∧ fN σ1 325 = fN σ 325 ∧ fN σ1 324 = fN σ 324 ∧ mm_a σ1 327 k = w ∧ ens σ1 (R k) = es ∧ mm_n σ1 326 = mm_n σ 326 := by
          rcases h1 with ⟨rfl, -⟩ | ⟨rfl, -⟩
          · exact ⟨tk, hst, hr, pt, DV.rfl' hst hr, rfl, rfl, pw, pe, rfl⟩
          · refine ⟨Tk_fl tk, stru_fl hst, hr, path_fl pt, DV_fl hst hr, ?_, ?_, pw, pe, rfl⟩
            · show (mm_f (mm_setf (mm_setf σ 303 1) 311 (nI (t_e T))) 325).toNatClampNeg = _
              rw [f_other (by decide), f_other (by decide)]; rfl
            · show (mm_f (mm_setf (mm_setf σ 303 1) 311 (nI (t_e T))) 324).toNatClampNeg = _
              rw [f_other (by decide), f_other (by decide)]; rfl
        obtain ⟨gt, gs, gr, gp, gd, g5, g4, gw, ge, gn⟩ := g
        have ks1 : k < fN σ1 324 := by rw [g4]; exact ks
        have ho2 : h_ok t = true := by
          unfold h_ok at ho ⊢
          rw [List.any_cons, hnt, Bool.false_or] at ho
          exact ho
        have cap := gs.1.2.1
        have cap4 := gs.1.2.2.2.1
        -- on from a state that has es2 here
        have go : ∀ (u : mmS) (R2 : Nat → List Nat) (es2 : List (Nat × Int32)), es2 = (bif h_pass es n then es else es ++ [(8, n)]) → Tk T u → stru u R2 → rsN u → path u R2 t (mm_a u 326 k) k → DV T σ1 R b 1 u R2 → ((mm_f u 303 = mm_f σ1 303 ∧ mm_f u 311 = mm_f σ1 311)) → mm_a u 327 k = w → ens u (R2 k) = es2 → k < fN u 324 →
            mm_W mt3029 (MC d) Q (26, [some (.inr (.inr (3, a))), some (.inl n), some (.inl v2), some (.inl (mm_a u 326 k)), w4], []) u := by
          intro u R2 es2 he ut us ur up ud uf uw ue uk
          have uN : fN u 325 ≤ fN σ 325 + 1 := by have := ud.2.2.2.2.2.1; omega
          have up2 : ∀ (x : mmS) (R3 : Nat → List Nat) (t2 : hC), DV T u R2 k (hl t) x R3 → path x R3 t2 (mm_a u 326 k) k → path x R3 ((w, es2) :: t2) (nI k) b ∧ DV T σ R b (hl ((w, es) :: t)) x R3 := by
            intro x R3 t2 hx px
            obtain ⟨x1, x2, x3, x4, x5, -⟩ := id hx
            have f4 : fN x 324 = fN u 324 := by unfold fN; rw [x2 324 (by decide) (by decide) (by decide)]
            refine ⟨⟨k, rfl, kb, by rw [f4]; exact uk, ?_, ?_, ?_⟩, ?_⟩
            · rw [(x4 327 ⟨Or.inr (by decide), by decide, by decide, by decide, by decide⟩).1]; exact uw
            · rw [x5 k (Nat.le_refl _) uk]; exact ue
            · rw [(x4 326 ⟨Or.inr (by decide), by decide, by decide, by decide, by decide⟩).1]; exact px
            · have := (gd.trans ud (Nat.le_refl _)).trans hx (by omega)
              rw [show hl ((w, es) :: t) = 0 + 1 + hl t by rw [hl, hnt, cond_false]; omega]
              exact this
          refine var_loop hd t _ k u R2 ut us ur up ho2 (by omega) (fun x R3 t2 hx hf hv px => ?_) (fun x R3 t2 hx hf hv px => ?_)
          · obtain ⟨q1, q2⟩ := up2 x R3 t2 hx px
            rcases h1 with ⟨rfl, hn⟩ | ⟨rfl, hn⟩
            · refine hg x R3 _ q2 ⟨hf.1.trans uf.1, hf.2.trans uf.2⟩ ?_ q1
              rw [h_var, hnt, cond_false, hn, hv, he]; rfl
            · refine hb x R3 _ q2 ⟨by rw [hf.1, uf.1]; exact ff.1, by rw [hf.2, uf.2]; exact ff.2⟩ ?_ q1
              rw [h_var, hnt, cond_false, hn]; rfl
          · obtain ⟨q1, q2⟩ := up2 x R3 t2 hx px
            refine hb x R3 _ q2 hf ?_ q1
            rw [h_var, hnt, cond_false, hv]
            cases (h_find es n).isSome <;> rfl
        refine b3029_48 _ _ _ _ _ _ _ _ ?_
        refine c_passes (by omega) gs ks1 ?_
        rw [ge]
        refine br_0 (fun hz => ?_) (fun hz => ?_)
        · refine c_add hd gs ks1 (by omega) (gr.use gs.2.1).1 (gr.use gs.2.1).2 (fun u au => ⟨rfl, ?_⟩)
          have f4 : fN u 324 = fN σ1 324 := by unfold fN; rw [au.2.2.1 324 (by decide)]
          have s6 (j : Nat) (j1 : j = 326 ∨ j = 327) : sam σ1 u j := au.2.2.2.2.2.1 j ⟨Or.inr (by omega), by omega, by omega, by omega, by omega⟩
          refine rd (n := mm_n u 326) rfl (by rw [(s6 326 (Or.inl rfl)).2.1]; omega) (by rw [(s6 326 (Or.inl rfl)).2.1]; omega) ?_
          refine go u _ (es ++ [(8, n)]) (by rw [hz]; rfl) (Tk_AS gt au) au.1 (gr.add au) (by rw [(s6 326 (Or.inl rfl)).1]; exact path_add au gp (Nat.le_refl _)) (DV.add gr kb au) ⟨au.2.2.1 303 (by decide), au.2.2.1 311 (by decide)⟩ (by rw [(s6 327 (Or.inr rfl)).1]; exact gw) ?_ (by rw [f4]; exact ks1)
          rw [au.2.2.2.2.1 k ks1, if_pos rfl, ge]
          rfl
        · refine rd (n := mm_n σ1 326) rfl (by omega) (by omega) ?_
          refine go σ1 R es (by rw [hz]; rfl) gt gs gr gp (DV.rfl' gs gr) ⟨rfl, rfl⟩ gw ge ks1
      refine c_find (by omega) hst ks (fun q => br_y (by decide) (w48 σ (Or.inl ⟨rfl, by rw [← pe]; exact q⟩))) (fun r hr2 q => br_n (nI_pos (by have := hl3 r hr2; omega)) ?_)
      exact c_fail (by omega) tk ⟨rfl, w48 _ (Or.inr ⟨rfl, by rw [← pe, q]; rfl⟩)⟩
    · -- the top
      refine c_find (by omega) hst ks (fun q => br_y (by decide) ?_) (fun r hr2 q => br_n (nI_pos (by have := hl3 r hr2; omega)) ?_)
      · rw [pe] at q
        refine c_add hd hst ks (by omega) (hr.use hst.2.1).1 (hr.use hst.2.1).2 (fun u au => ⟨rfl, ?_⟩)
        have dv := DV.add (T := T) hr kb au
        refine hg u _ ((w, es ++ [(cls 0, n)]) :: t) (dv.mono hl_pos) ⟨au.2.2.1 303 (by decide), au.2.2.1 311 (by decide)⟩ ?_ (path_top au kb ks pw pe pt)
        rw [h_var, ht, cond_true, q]; rfl
      · rw [pe] at q
        have hrn := hl3 r hr2
        have r3 {V : Int32 → Prop} (v : V (mm_a σ 333 r)) : mm_L σ 333 (nI r) V := rd (c5.2.2.2.2 333 (by decide) (by decide)) (by omega) (by omega) v
        have good : h_var n ((w, es) :: t) = some ((w, es) :: t) → Q (.inl none) σ := fun z => hg σ R _ (DV.rfl' hst hr) ⟨rfl, rfl⟩ z hp0
        have bad : h_var n ((w, es) :: t) = none → Q (.inl none) (fl T σ) := fun z => hb (fl T σ) R _ (DV_fl hst hr) ff z (path_fl hp0)
        have hv : h_var n ((w, es) :: t) = bif cls (mm_a σ 333 r) == 0 || cls (mm_a σ 333 r) == 3 || (cls (mm_a σ 333 r) == 2 && !(w == 0)) then some ((w, es) :: t) else none := by
          rw [h_var, ht, cond_true, q]
        have s1 := hst.1.2.1
        have s4 := hst.1.2.2.2.1
        refine r3 (br_p (fun c0 => good (by rw [hv, cls_0.mpr c0]; rfl)) fun c0 => r3 (br_p (fun c1 => good (by rw [hv, show cls (mm_a σ 333 r) = 3 by rw [c1]; decide]; rfl)) fun c1 => r3 (br_p (fun c2 => ?_) fun c2 => c_fail (by omega) tk ⟨rfl, bad ?_⟩)))
        · refine rd (hst.1.2.2.2.2 327 (by decide) (by decide)) (by omega) (by omega) ?_
          rw [pw]
          have e2 : cls (mm_a σ 333 r) = 2 := by rw [c2]; decide
          refine br_p (fun z => c_fail (by omega) tk ⟨rfl, bad (by rw [hv, e2, z]; rfl)⟩) fun z => good (by rw [hv, e2, show (w == 0) = false from beq_eq_false_iff_ne.mpr z]; rfl)
        · rw [hv]
          have : cls (mm_a σ 333 r) = 1 ∨ cls (mm_a σ 333 r) = 8 := by
            unfold cls
            rw [if_neg c0, if_neg c2, if_neg c1]
            by_cases c8 : mm_a σ 333 r = 8
            · exact Or.inr (by rw [if_pos c8])
            · exact Or.inl (by rw [if_neg c8])
          rcases this with z | z <;> rw [z] <;> rfl
