/-! PHASE 3. A declaration behind the test of names -/
theorem dec_223 {T : sT} {d a : Nat} {n w : Int32} {v2 : Int32} {w4 : Option mmV} {x3 : Int32} {es : List (Nat × Int32)} {t : hC} {k b : Nat} {σ : mmS} {R : Nat → List Nat} {Q : mmQ} (hd : 3 ≤ d) (hst : stru σ R) (hr : rsN σ) (hlen : fN σ 325 + (t.length + 1) ≤ 130000) (hk : mm_f σ 346 = nI k) (kb : k < b) (ks : k < fN σ 324) (pw : mm_a σ 327 k = w) (pe : ens σ (R k) = es) (pt : path σ R t (mm_a σ 326 k) k)
    (hy : x3 < 0 → ∀ u R2, DV T σ R b (hl ((w, es) :: t)) u R2 → (mm_f u 303 = mm_f σ 303 ∧ mm_f u 311 = mm_f σ 311) → path u R2 ((w, es ++ [(2, n)]) :: t) (nI k) b → Q (.inl none) u) (hn : ¬ x3 < 0 → Q (.inl none) σ) :
    mm_W mt3029 (MC d) Q (223, [some (.inr (.inr (3, a))), some (.inl n), some (.inl v2), some (.inl x3), w4], []) σ := by
  refine b3029_223 _ _ _ _ _ _ _ _ (br_p (fun c => ?_) (fun c => hn c))
  rw [hk]
  exact dec_add (w := w) (es := es) (t := t) hd hst hr hlen kb ks pw pe pt (fun u R2 h1 h2 h3 x => ⟨rfl, hy c u R2 h1 h2 h3⟩)
theorem dec_17 {T : sT} {d a : Nat} {n r : Int32} {w3 w4 : Option mmV} {L : hC} {b : Nat} {σ : mmS} {R : Nat → List Nat} {Q : mmQ} (hd : 3 ≤ d) (tk : Tk T σ) (hst : stru σ R) (hr : rsN σ) (hp : path σ R L (mm_f σ 346) b) (ho : h_ok L = true) (hlen : fN σ 325 + L.length ≤ 130000)
    (hup : ∀ x t, L = x :: t → x.1 = 2 ∨ x.1 = 7 → t ≠ [])
    (hg : ∀ u R2 L2, DV T σ R b (hl L) u R2 → (mm_f u 303 = mm_f σ 303 ∧ mm_f u 311 = mm_f σ 311) → h_dec0 (cls r) n L = some L2 → path u R2 L2 (mm_f σ 346) b → Q (.inl none) u)
    (hb : ∀ u R2 L2, DV T σ R b (hl L) u R2 → (mm_f u 303 = 1 ∧ mm_f u 311 = nI (t_e T)) → h_dec0 (cls r) n L = none → path u R2 L2 (mm_f σ 346) b → Q (.inl none) u) :
    mm_W mt3029 (MC d) Q (17, [some (.inr (.inr (3, a))), some (.inl n), some (.inl r), w3, w4], []) σ := by
  refine b3029_17 _ _ _ _ _ _ _ _ (br_p (fun c => ?_) (fun c => ?_))
  · have e0 : cls r = 0 := cls_0.mpr c
    exact var_loop hd L _ b σ R tk hst hr hp ho hlen (fun u R2 L2 h1 h2 h3 h4 => hg u R2 L2 h1 h2 (by rw [e0]; exact h3) h4) (fun u R2 L2 h1 h2 h3 h4 => hb u R2 L2 h1 h2 (by rw [e0]; exact h3) h4)
  · have k0 : (cls r == 0) = false := beq_eq_false_iff_ne.mpr (fun z => c (cls_0.mp z))
    match L, hp, hlen, hup, hg, hb with
    | [], _, _, _, _, _ => cases ho
    | (w, es) :: t, hp, hlen, hup, hg, hb =>
      have hp0 := hp
      obtain ⟨k, hk, kb, ks, pw, pe, pt⟩ := hp
      have pw : mm_a σ 327 k = w := pw
      have pe : ens σ (R k) = es := pe
      rw [hk] at hg hb hp0 ⊢
      have s1 := hst.1.2.1
      have s4 := hst.1.2.2.2.1
      have c5 := hst.2.1
      have n2 := c5.2.1
      have n4 := c5.2.2.2.1
      -- the general end
      have w239 : ∀ x3 : Int32, (cls r == 2 && h_top w && !(w == 0)) = false → ((x3 < 0 ∧ h_find es n = none) ∨ (¬ x3 < 0 ∧ (h_find es n).isSome = true)) → mm_W mt3029 (MC d) Q (239, [some (.inr (.inr (3, a))), some (.inl n), some (.inl r), some (.inl x3), w4], []) σ := fun x3 z hx => by
        have e : h_dec0 (cls r) n ((w, es) :: t) = bif (h_find es n).isSome || h_pass es n || ((w == 2 || w == 7) && h_has t n) then none else some ((w, es ++ [(cls r, n)]) :: t) := by
          rw [h_dec0, k0, cond_false]
          show (bif cls r == 2 && h_top w && !(w == 0) then _ else _) = _
          rw [z, cond_false]
        exact dec_239 hd tk hst hr hlen hk kb ks pw pe pt (fun q => hup _ t rfl q) hx (fun q u R2 h1 h2 h3 => hg u R2 _ h1 h2 (by rw [e, q]; rfl) h3) (fun q u R2 h1 h2 h3 => hb u R2 _ h1 h2 (by rw [e, q]; rfl) h3)
      have rest : ∀ x3 : Int32, ((x3 < 0 ∧ h_find es n = none) ∨ (∃ z, z ∈ R k ∧ x3 = nI z ∧ h_find es n = some (cls (mm_a σ 333 z)))) →
          mm_br (r = 3) (mm_I (MC d) Q 3030 [.inr (.inr (3, a)), .inl (mm_f σ 346)] σ (fun x4 σ3 => mm_br (x4 = 0) (mm_W mt3029 (MC d) Q (239, [some (.inr (.inr (3, a))), some (.inl n), some (.inl r), some (.inl x3), w4], []) σ3) (mm_L σ3 327 (mm_f σ3 346) (fun x5 => mm_br (x5 = 0) (mm_W mt3029 (MC d) Q (239, [some (.inr (.inr (3, a))), some (.inl n), some (.inl r), some (.inl x3), w4], []) σ3) (mm_br (x3 < 0) (mm_W mt3029 (MC d) Q (223, [some (.inr (.inr (3, a))), some (.inl n), some (.inl r), some (.inl x3), w4], []) σ3) (mm_L σ3 333 x3 (fun x6 => mm_br (x6 = 0) (mm_W mt3029 (MC d) Q (223, [some (.inr (.inr (3, a))), some (.inl n), some (.inl r), some (.inl x3), w4], []) σ3) (mm_L σ3 333 x3 (fun x7 => mm_br (x7 = 5) (mm_W mt3029 (MC d) Q (223, [some (.inr (.inr (3, a))), some (.inl n), some (.inl r), some (.inl x3), w4], []) σ3) (mm_W mt3029 (MC d) Q (208, [some (.inr (.inr (3, a))), some (.inl n), some (.inl r), some (.inl x3), w4], []) σ3)))))))))) (mm_W mt3029 (MC d) Q (239, [some (.inr (.inr (3, a))), some (.inl n), some (.inl r), some (.inl x3), w4], []) σ) := by
        intro x3 hx
        have hx2 : (x3 < 0 ∧ h_find es n = none) ∨ (¬ x3 < 0 ∧ (h_find es n).isSome = true) := by
          rcases hx with hx | ⟨z, hz, rfl, q⟩
          · exact Or.inl hx
          · have := (hst.2.2.1 k ks).2.2.1 z hz
            exact Or.inr ⟨nI_pos (by omega), by rw [q]; rfl⟩
        refine br_p (fun c3 => ?_) (fun c3 => w239 x3 ?_ hx2)
        · have e2 : cls r = 2 := by rw [c3]; decide
          rw [hk]
          refine c_isTop (by omega) hst.1 ks ?_
          rw [pw]
          refine br_0 (fun ht => w239 x3 (by rw [ht, Bool.and_false, Bool.false_and]) hx2) (fun ht => ?_)
          rw [hk]
          refine rd (hst.1.2.2.2.2 327 (by decide) (by decide)) (by omega) (by omega) ?_
          rw [pw]
          refine br_p (fun c9 => w239 x3 (by rw [c9]; simp) hx2) (fun c9 => ?_)
          have e : h_dec0 (cls r) n ((w, es) :: t) = match h_find es n with
              | none => some ((w, es ++ [(2, n)]) :: t)
              | some q => bif q == 0 || q == 3 || q == 2 then some ((w, es) :: t) else none := by
            rw [h_dec0, k0, cond_false]
            show (bif cls r == 2 && h_top w && !(w == 0) then _ else _) = _
            rw [e2, ht, show (w == 0) = false from beq_eq_false_iff_ne.mpr c9]; rfl
          have w223 : (h_find es n = none ∧ x3 < 0) ∨ (h_dec0 (cls r) n ((w, es) :: t) = some ((w, es) :: t) ∧ ¬ x3 < 0) → mm_W mt3029 (MC d) Q (223, [some (.inr (.inr (3, a))), some (.inl n), some (.inl r), some (.inl x3), w4], []) σ := fun z => by
            refine dec_223 hd hst hr hlen hk kb ks pw pe pt (fun q u R2 h1 h2 h3 => hg u R2 _ h1 h2 ?_ h3) (fun q => hg σ R _ (DV.rfl' hst hr) ⟨rfl, rfl⟩ ?_ hp0)
            · rcases z with z | z
              · rw [e, z.1]
              · exact absurd q z.2
            · rcases z with z | z
              · exact absurd z.2 q
              · exact z.1
          rcases hx with ⟨h1, h2⟩ | ⟨z, hz, rfl, q⟩
          · exact br_y h1 (w223 (Or.inl ⟨h2, h1⟩))
          · have hzn := (hst.2.2.1 k ks).2.2.1 z hz
            have np : ¬ nI z < 0 := nI_pos (by omega)
            have r3 {V : Int32 → Prop} (v : V (mm_a σ 333 z)) : mm_L σ 333 (nI z) V := rd (c5.2.2.2.2 333 (by decide) (by decide)) (by omega) (by omega) v
            refine br_n np (r3 (br_p (fun c0 => w223 (Or.inr ⟨by rw [e, q, cls_0.mpr c0]; rfl, np⟩)) fun c0 => r3 (br_p (fun c1 => w223 (Or.inr ⟨by rw [e, q, show cls (mm_a σ 333 z) = 3 by rw [c1]; decide]; rfl, np⟩)) fun c1 => ?_)))
            refine b3029_208 _ _ _ _ _ _ _ _ (r3 (br_p (fun c2 => w223 (Or.inr ⟨by rw [e, q, show cls (mm_a σ 333 z) = 2 by rw [c2]; decide]; rfl, np⟩)) fun c2 => c_fail (by omega) tk ⟨rfl, ?_⟩))
            refine b3029_223 _ _ _ _ _ _ _ _ (br_n np (hb (fl T σ) R _ (DV_fl hst hr) fl_flags ?_ (path_fl hp0)))
            have : cls (mm_a σ 333 z) = 1 ∨ cls (mm_a σ 333 z) = 8 := by
              unfold cls
              rw [if_neg c0, if_neg c2, if_neg c1]
              by_cases c8 : mm_a σ 333 z = 8
              · exact Or.inr (by rw [if_pos c8])
              · exact Or.inl (by rw [if_neg c8])
            rw [e, q]
            rcases this with y | y <;> rw [y] <;> rfl
        · have : (cls r == 2) = false := beq_eq_false_iff_ne.mpr (fun z => c3 (by
            unfold cls at z
            by_cases d3 : r = 3
            · exact d3
            · rw [if_neg c, if_neg d3] at z
              by_cases d5 : r = 5
              · rw [if_pos d5] at z; cases z
              · rw [if_neg d5] at z
                by_cases d8 : r = 8
                · rw [if_pos d8] at z; cases z
                · rw [if_neg d8] at z; cases z))
          rw [this, Bool.false_and, Bool.false_and]
      refine c_find (by omega) hst ks (fun q => rest _ (Or.inl ⟨by decide, by rw [← pe]; exact q⟩)) (fun z hz q => rest _ (Or.inr ⟨z, hz, rfl, by rw [← pe]; exact q⟩))
