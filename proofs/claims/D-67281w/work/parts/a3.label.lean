/-! PHASE 3. labelled() -/
/-- with one label more -/
def lbW (w : cW) (x : Int32) (l : Bool) : cW := (((w_x w).1, (w_x w).2.1, (w_x w).2.2.1, (w_x w).2.2.2.1, (w_x w).2.2.2.2 ++ [(x, l)]), w_in w, w_nu w, w_B w, w_sc w, w_hr w, w_lb w, w_lk w, w_cl w)
section LABEL
variable {β : Type} {T : sT} {Sh : β → Nat → Int32 → mmS → Prop} {N : Int32 → mmS → Prop} {g : Nat} {w0 : cW} {m0 e0 : Nat} {θ : cTh} {l0 : Nat} {Z : Int32 → mmS → Prop} {b : Bool} {h : Nat} {w : cW} {A : cA} {m e : Nat} {r : sR β} {σ u : mmS} {i j : Nat}
variable {ν a d : Nat} {Q : mmQ}
theorem St.sameT {u : mmS} {w' : cW} (st : St T Sh N g w0 m0 e0 θ l0 Z b h w A m e r σ i) (hf : Fr θ σ u) (ht : GD σ → tle θ (th u)) (hg : cG T w A m e σ i → cG T w' A m e u i) (hb : cB T (g + h) σ → cB T (g + h) u) : St T Sh N g w0 m0 e0 θ l0 Z b h w' A m e r u i := by
  rcases st with ⟨q1, q2, q3, q4⟩ | ⟨q1, q2, q3⟩
  · have gd := q1.2.1
    refine Or.inl ⟨hg q1, ht gd, q3, fun n v rs => q4 n v ⟨hf.trans rs.1, ?_⟩⟩
    rcases rs.2 with x | ⟨x1 | x1, x2⟩
    · exact Or.inl x
    · exact Or.inr ⟨Or.inl x1, x2⟩
    · exact absurd (hg q1).2.1 x1
  · exact Or.inr ⟨q1, hb q2, fun n v f c hn => q3 n v (hf.trans f) c hn⟩
theorem Fr.lab {s j : Nat} {x : Int32} (hs : s = 361 ∨ s = 362) (hj : GD u → θ.2.2.2 ≤ j) : Fr θ u (mm_seta u s j x) :=
  have n (k : Nat) (hk : (k == 361 || k == 362) = false := by rfl) : mm_a (mm_seta u s j x) k = mm_a u k := a_seta_n (by
    simp only [Bool.or_eq_false_iff, beq_eq_false_iff_ne] at hk
    omega)
  ⟨id, fun _ _ => rfl, ⟨rfl, gro.of (n 328) (n 332) (n 334)⟩, fun k _ k2 => ⟨a_seta_n (fun e => by rw [e] at k2; rcases hs with rfl | rfl <;> exact absurd k2 (by decide)), rfl, rfl, rfl⟩, ⟨Nat.le_refl _, Nat.le_refl _, Nat.le_refl _, Nat.le_refl _⟩, fun t _ => ⟨by rw [n 326], by rw [n 327]⟩, fun t _ => ⟨by rw [n 337], by rw [n 339]⟩, fun gd => ⟨Nat.le_refl _, fun k k1 k2 i _ _ => by rw [a_seta_n (by omega)], fun j _ => ⟨by rw [n 338], by rw [n 342]⟩, fun k _ => ⟨by rw [n 369], by rw [n 370]⟩, fun k hk => by
    have := hj gd
    have ne : k ≠ j := by omega
    have e (s' : Nat) : mm_a (mm_seta u s j x) s' k = mm_a u s' k := by
      by_cases c : s' = s
      · rw [c, a_seta_i ne]
      · rw [a_seta_n c]
    exact ⟨e 361, e 362⟩⟩⟩
theorem cG.lbB {x : Int32} {l : Bool} (h : cG T (lbW w x l) A m e u i) : cG T w A m e (mm_setf u 356 (mm_f u 356 - 1)) i := by
  have hX := h.2.2.2.2.1
  obtain ⟨⟨c1, c2, c3, c4, c5, c6⟩, r, ⟨k1, k2, k3⟩, ⟨b1, b2, b3⟩, y1, y2, y3, y4⟩ := hX
  have f (k : Nat) (hk : (k == 356) = false := by rfl) : mm_f (mm_setf u 356 (mm_f u 356 - 1)) k = mm_f u k := f_other (beq_eq_false_iff_ne.mp hk)
  have ln : (w_x (lbW w x l)).2.2.2.2.length = (w_x w).2.2.2.2.length + 1 := by
    show ((w_x w).2.2.2.2 ++ [(x, l)]).length = _
    simp
  have y2 : mm_f u 356 = nI (w_lb w + (w_x (lbW w x l)).2.2.2.2.length) := y2
  have y3 : w_lb w + (w_x (lbW w x l)).2.2.2.2.length + w_nu w ≤ 48 := y3
  rw [ln] at y2 y3
  refine h.ctx (x2 := w_x w) (lk2 := w_lk w) (h.1.setf rfl) (fun k _ _ k3 => f_other k3) (fun _ _ _ => rfl) rfl ⟨⟨(f 348).trans c1, (f 349).trans c2, (f 350).trans c3, (f 351).trans c4, (f 352).trans c5, (f 353).trans c6⟩, ?_, ⟨(f 354).trans k1, k2, k3⟩, ⟨(f 355).trans b1, b2, b3⟩, (f 357).trans y1, ?_, ?_, fun k hk => ?_⟩
  · rw [fN_eq (f 347)]
    exact r
  · show mm_f (mm_setf u 356 (mm_f u 356 - 1)) 356 = nI (w_lb w + (w_x w).2.2.2.2.length)
    rw [f_same, y2, show w_lb w + ((w_x w).2.2.2.2.length + 1) = w_lb w + (w_x w).2.2.2.2.length + 1 by omega, nI_pred]
  · show w_lb w + (w_x w).2.2.2.2.length + w_nu w ≤ 48
    omega
  · have := y4 k (by rw [ln]; omega)
    have e : (w_x (lbW w x l)).2.2.2.2[k]'(by rw [ln]; omega) = (w_x w).2.2.2.2[k] := by
      show ((w_x w).2.2.2.2 ++ [(x, l)])[k]'_ = _
      exact List.getElem_append_left hk
    rw [e] at this
    exact this
theorem cG.lb {x : Int32} {l : Bool} (h : cG T w A m e u i) (hs : wSl w) (hx : 45 < x) : cG T (lbW w x l) A m e (mm_setf (mm_seta (mm_seta u 361 (w_lb w + (w_x w).2.2.2.2.length) x) 362 (w_lb w + (w_x w).2.2.2.2.length) (bI l)) 356 (mm_f u 356 + 1)) i := by
  have hX := h.2.2.2.2.1
  obtain ⟨⟨c1, c2, c3, c4, c5, c6⟩, r, ⟨k1, k2, k3⟩, ⟨b1, b2, b3⟩, y1, y2, y3, y4⟩ := hX
  generalize hp : w_lb w + (w_x w).2.2.2.2.length = p
  have f (k : Nat) (hk : (k == 356) = false := by rfl) : mm_f (mm_setf (mm_seta (mm_seta u 361 p x) 362 p (bI l)) 356 (mm_f u 356 + 1)) k = mm_f u k := f_other (beq_eq_false_iff_ne.mp hk)
  have n (k : Nat) (h1 : k ≠ 361) (h2 : k ≠ 362) : mm_a (mm_setf (mm_seta (mm_seta u 361 p x) 362 p (bI l)) 356 (mm_f u 356 + 1)) k = mm_a u k := (a_seta_n h2).trans (a_seta_n h1)
  have r1 : mm_a (mm_setf (mm_seta (mm_seta u 361 p x) 362 p (bI l)) 356 (mm_f u 356 + 1)) 361 = mm_a (mm_seta u 361 p x) 361 := a_seta_n (by decide)
  have r2 : ∀ k, k ≠ p → mm_a (mm_setf (mm_seta (mm_seta u 361 p x) 362 p (bI l)) 356 (mm_f u 356 + 1)) 362 k = mm_a u 362 k := fun k hk => (show mm_a (mm_seta (mm_seta u 361 p x) 362 p (bI l)) 362 k = mm_a u 362 k by rw [a_seta_i hk, a_seta_n (by decide)])
  have ln : (w_x (lbW w x l)).2.2.2.2.length = (w_x w).2.2.2.2.length + 1 := by
    show ((w_x w).2.2.2.2 ++ [(x, l)]).length = _
    simp
  have hs4 := hs.2.2.2.1
  refine h.ctx (x2 := w_x (lbW w x l)) (lk2 := w_lk w) (((h.1.seta rfl).seta rfl).setf rfl) (fun k _ _ k3 => f_other k3) n rfl ⟨⟨(f 348).trans c1, (f 349).trans c2, (f 350).trans c3, (f 351).trans c4, (f 352).trans c5, (f 353).trans c6⟩, ?_, ⟨(f 354).trans k1, k2, k3⟩, ⟨(f 355).trans b1, b2, b3⟩, (f 357).trans y1, ?_, ?_, fun k hk => ?_⟩
  · rw [fN_eq (f 347), n 337 (by decide) (by decide)]
    exact r
  · rw [f_same, y2, nI_1, ln]
    rfl
  · show w_lb w + (w_x (lbW w x l)).2.2.2.2.length + w_nu w ≤ 48
    rw [ln]
    omega
  · rw [ln] at hk
    by_cases c : k < (w_x w).2.2.2.2.length
    · have e : (w_x (lbW w x l)).2.2.2.2[k]'(by rw [ln]; omega) = (w_x w).2.2.2.2[k] := by
        show ((w_x w).2.2.2.2 ++ [(x, l)])[k]'_ = _
        exact List.getElem_append_left c
      have := y4 k c
      rw [e, r1, a_seta_i (show w_lb w + k ≠ p by omega), r2 _ (by omega)]
      exact this
    · have hk' : k = (w_x w).2.2.2.2.length := by omega
      subst hk'
      have e : (w_x (lbW w x l)).2.2.2.2[(w_x w).2.2.2.2.length]'(by rw [ln]; omega) = (x, l) := by
        show ((w_x w).2.2.2.2 ++ [(x, l)])[(w_x w).2.2.2.2.length]'_ = _
        exact List.getElem_concat_length rfl _
      rw [e, hp, r1, a_seta_s]
      exact ⟨rfl, a_seta_s, hx⟩
/-- is the label there? -/
theorem lab_loop {v1 : Int32} {wv3 : Option mmV} (hG : cG T w A m e u i) (kf : (w_x w).2.2.2.2.any (fun y => y.1 == v1) = true → mm_I (MC d) Q 3025 [.inr (.inr (3, a))] u (fun x3 σ2 => Q (.inl (some (.inl x3))) σ2)) (kn : (w_x w).2.2.2.2.any (fun y => y.1 == v1) = false → mm_br (mm_f u 356 = 48) (mm_I (MC d) Q 3025 [.inr (.inr (3, a))] u (fun x5 σ4 => Q (.inl (some (.inl x5))) σ4)) (mm_S (mm_setf u 311 (mm_f u 311 + 2)) 361 (mm_f (mm_setf u 311 (mm_f u 311 + 2)) 356) v1 (fun σ6 => mm_W mt3095 (MC d) Q (83, [some (.inr (.inr (3, a))), some (.inl v1), some (.inl (mm_f σ6 311)), wv3], []) σ6))) : ∀ (n p : Nat), p + n = (w_x w).2.2.2.2.length → ((w_x w).2.2.2.2.take p).any (fun y => y.1 == v1) = false →
    mm_W mt3095 (MC d) Q (15, [some (.inr (.inr (3, a))), some (.inl v1), some (.inl (nI (w_lb w + p))), wv3], []) u := by
  have hX := hG.2.2.2.2.1
  obtain ⟨-, -, -, -, y1, y2, y3, y4⟩ := hX
  have hl : mm_n u 361 = 50 := hG.1.2.2.2.2.2.2.1.1
  intro n
  induction n with
  | zero =>
    intro p hp ht
    refine b3095_15 _ _ _ _ _ _ _ (br_n (fun c => ?_) (kn ?_))
    · rw [y2] at c
      have := (nI_lt_iff (by omega) (by omega)).mp c
      omega
    · rw [List.take_of_length_le (by omega)] at ht
      exact ht
  | succ n ih =>
    intro p hp ht
    have hlt : p < (w_x w).2.2.2.2.length := by omega
    refine b3095_15 _ _ _ _ _ _ _ (br_y (by rw [y2]; exact (nI_lt_iff (by omega) (by omega)).mpr (by omega)) (rd hl (by omega) (by decide) ?_))
    rw [(y4 p hlt).1]
    refine br_p (fun c => kf ?_) (fun c => ?_)
    · rw [List.any_eq_true]
      exact ⟨(w_x w).2.2.2.2[p], List.getElem_mem _, by rw [c]; exact beq_self_eq_true _⟩
    · rw [nI_1]
      refine ih (p + 1) (by omega) ?_
      rw [List.take_add_one, List.any_append, ht, List.getElem?_eq_getElem hlt]
      simp [c]
/-- labels in a row -/
theorem lab83 {v1 : Int32} {wv3 : Option mmV} (t : cI T u) (hd : 1 ≤ d) : ∀ (f q : Nat), q ≤ t_e T → t_e T < f + q → mm_W mt3095 (MC d) Q (122, [some (.inr (.inr (3, a))), some (.inl v1), some (.inl (nI (t_labL T f q))), wv3], []) u →
    mm_W mt3095 (MC d) Q (83, [some (.inr (.inr (3, a))), some (.inl v1), some (.inl (nI q)), wv3], []) u := by
  have he := t.1.2.2.2.2.2.2.2.1
  intro f
  induction f with
  | zero => intro q h1 h2; omega
  | succ f ih =>
    intro q h1 h2 kk
    have stop : (t_id T q && t_sg T (q + 1) 39) = false → mm_W mt3095 (MC d) Q (122, [some (.inr (.inr (3, a))), some (.inl v1), some (.inl (nI q)), wv3], []) u := fun z => by
      rw [t_labL, z] at kk
      exact kk
    refine b3095_83 _ _ _ _ _ _ _ (t.1.k (by omega) (br_p (fun c1 => t.1.v (by omega) (br_p (fun c45 => ?_) (fun c45 => stop ?_))) (fun c1 => stop ?_)))
    · have hid : t_id T q = true := by
        have c45 : 45 < T.2.1 q := c45
        unfold t_id
        rw [c1, decide_eq_true c45]; rfl
      rw [nI_1]
      refine c_signAt hd t.1 (by omega) (br_0 (fun z => stop (by rw [z, Bool.and_false])) (fun z => ?_))
      have k1 : T.1 (q + 1) ≠ 0 := by
        intro z0
        unfold t_sg at z
        rw [z0] at z
        exact absurd z (by simp)
      have q1 := lt_e t h1 (by rw [c1]; decide)
      have q2 := lt_e t (show q + 1 ≤ t_e T by omega) k1
      rw [show nI q + 2 = nI (q + 2) by rw [show (2 : Int32) = nI 2 by decide]; exact nI_add q 2]
      refine ih (q + 2) (by omega) (by omega) ?_
      rw [t_labL, hid, z] at kk
      exact kk
    · have c45 : ¬ 45 < T.2.1 q := c45
      unfold t_id
      rw [decide_eq_false c45, Bool.and_false]; rfl
    · unfold t_id
      rw [beq_eq_false_iff_ne.mpr c1]; rfl
theorem c_labelled {K : Int32 → mmS → Prop} {X : Nat → mmS → Prop} (hS : cStm T ν) (hw : w_nu w = ν) (hsl : wSl w) (hd : 50 * ν + 12 ≤ d) (hq : g + 10 ≤ GQ ν) (hm : 24 ≤ m) (hG : cG T w A m e σ i) (k1 : T.1 i = 1) (k5 : 45 < t_v T i) (k3 : T.1 (i + 1) ≠ 0) (k : ∀ n u, Rs T (shS σ) any2 g w m e (th σ) (i + 1) A (s_label T (s_lv T ν) (w_x w) i) σ n u → K n u) :
    mm_ci (MC d) 3095 [.inr (.inr (3, a))] σ K X := by
  obtain ⟨d, rfl, hd⟩ := mc_pos (c := 50 * ν + 11) (by omega)
  have hGQ := GQ_le ν
  refine mc_ci (P := mt3095) (L := 4) rfl rfl ⟨by decide, Nat.le_of_ble_eq_true rfl⟩ fun Q hK hX => b3095_0 _ _ _ _ _ _ _ ?_
  have st : St T (shS σ) any2 g w m e (th σ) (i + 1) (fun n u => Q (.inl (some (.inl n))) u) false 4 w A m e (s_label T (s_lv T ν) (w_x w) i) σ i := Or.inl ⟨hG, tle.rfl', by omega, fun n u rs => hK _ _ (k n u rs)⟩
  have gd := hG.2.1
  have n1 := hG.1.2.1.2.1
  have he := hG.1.1.2.2.2.2.2.2.2.1
  have hX' := hG.2.2.2.2.1
  obtain ⟨-, -, -, -, y1, y2, y3, y4⟩ := hX'
  have i1 := lt_e hG.1 hG.2.2.1.2 (show T.1 i ≠ 0 by rw [k1]; decide)
  have i2 := lt_e hG.1 (show i + 1 ≤ t_e T by omega) k3
  refine st.rdv (fun v1 hv1 => ?_)
  have hv1 := hv1 gd
  subst hv1
  rw [y1]
  refine lab_loop hG (fun hz => ?_) (fun hz => ?_) (w_x w).2.2.2.2.length 0 (by omega) (by simp)
  · exact st.fail (by omega) (fun _ => by unfold s_label; rw [hz]; rfl) (fun u5 ng st5 hf5 => st5.bad ng trivial)
  · have hs4 := hsl.2.2.2.1
    refine br_n (fun z => ?_) ?_
    · rw [y2] at z
      have := nI_inj (by omega) (by decide) (z.trans (show (48 : Int32) = nI 48 by decide))
      omega
    have nz : NZ T σ := ⟨i, hG.2.2.1.1, kz_lt hG.1 (by rw [k1]; decide), by rw [k1]; decide⟩
    have st1 := st.adv nz
    have st2 := st1.adv ⟨i + 1, by rw [f_same, hG.2.2.1.1, nI_1], kz_lt hG.1 k3, k3⟩
    rw [adv2] at st2
    have f2 : Fr (th σ) σ (mm_setf σ 311 (mm_f σ 311 + 2)) := by rw [← adv2]; exact Fr_adv.trans Fr_adv
    have l2 : fN (mm_setf σ 311 (mm_f σ 311 + 2)) 315 = fN σ 315 := fN_eq (f_other (by decide))
    have e11 : mm_f (mm_setf σ 311 (mm_f σ 311 + 2)) 311 = nI (i + 1 + 1) := by
      rw [f_same, hG.2.2.1.1, show (2 : Int32) = nI 2 by decide, nI_add]
    have e56 : mm_f (mm_setf σ 311 (mm_f σ 311 + 2)) 356 = nI (w_lb w + (w_x w).2.2.2.2.length) := (f_other (by decide)).trans y2
    generalize hu : mm_setf σ 311 (mm_f σ 311 + 2) = u at st2 f2 l2 e11 e56 ⊢
    rw [e56]
    have hl1 : mm_n u 361 = 50 := st2.ci.2.2.2.2.2.2.1.1
    have hl2 : mm_n u 362 = 50 := st2.ci.2.2.2.2.2.2.1.2.1
    refine wr hl1 (by omega) (by decide) ?_
    generalize hp : w_lb w + (w_x w).2.2.2.2.length = p at e56 ⊢
    have I3 : cI T (mm_seta u 361 p (t_v T i)) := st2.ci.seta rfl
    rw [show mm_f (mm_seta u 361 p (t_v T i)) 311 = nI (i + 1 + 1) from e11]
    generalize hq3 : t_labL T (t_e T + 1) (i + 1 + 1) = q3
    have w178 : ∀ (wv3 : Option mmV) (v2 s0 : Int32), s0 = bI (t_isl T q3) → mm_W mt3095 (MC d) Q (178, [some (.inr (.inr (3, a))), some (.inl (t_v T i)), some (.inl v2), wv3], [.inl s0, .inl (mm_f (mm_seta u 361 p (t_v T i)) 356), .inr (.inr (362, mm_v (mm_seta u 361 p (t_v T i)) 362))]) (mm_seta u 361 p (t_v T i)) := fun wv3 v2 s0 hs0 => by
      subst hs0
      refine b3095_178 _ _ _ _ _ _ _ _ _ _ ?_
      show mm_S (mm_seta u 361 p (t_v T i)) 362 (mm_f u 356) _ _
      rw [e56]
      refine wr (σ := mm_seta u 361 p (t_v T i)) hl2 (by omega) (by decide) ?_
      have tu : (th σ).2.2.2 = p := by
        show fN σ 356 = p
        show (mm_f σ 356).toNatClampNeg = p
        rw [y2, hp, nI_clamp (by omega)]
      have st4 := st2.sameT (w' := lbW w (t_v T i) (t_isl T q3)) (u := mm_setf (mm_seta (mm_seta u 361 p (t_v T i)) 362 p (bI (t_isl T q3))) 356 (mm_f u 356 + 1)) (((Fr.lab (Or.inl rfl) (fun _ => by rw [tu]; exact Nat.le_refl _)).trans (Fr.lab (Or.inr rfl) (fun _ => by rw [tu]; exact Nat.le_refl _))).trans (Fr.setf rfl (by decide) (by decide) (by decide) (by decide) (by decide) (by decide))) (fun gu => ?_) (fun q => by
          have := q.lb (x := t_v T i) (l := t_isl T q3) hsl k5
          rw [hp] at this
          exact this) (fun q => absurd (show GD u by rw [← hu]; exact (f_other (by decide)).trans gd) q.no)
      · have st4 := st4.rw (r' := s_b ((s_lv T ν).2.2.2.2.2.2.2 (w_x (lbW w (t_v T i) (t_isl T q3))) (i + 1 + 1)) (fun _ k => s_r () k)) (fun _ => by
          unfold s_label
          rw [hz, cond_false, hq3]
          exact s_b_ret.symm)
        refine St.call (h := 4) (hS a (lbW w (t_v T i) (t_isl T q3)) hw) () st4 (fun _ => rfl) (by omega) (by show g + 4 + 0 ≤ GQ (w_nu w); rw [hw]; omega) (by omega) rfl (fun v5 j5 B5 q5 n5 u5 st5 f5 hj5 hs5 hn5 => ?_)
        have l5 : fN u 315 ≤ fN u5 315 := f5.nn
        refine St.node (h := 3) st5 (by omega) (by omega) (fun n6 u6 st6 f6 nw => ?_)
        have l6 := f6.nn
        have st7 := st6.sameT (w' := w) (u := mm_setf u6 356 (mm_f u6 356 - 1)) (Fr.setf rfl (by decide) (by decide) (by decide) (by decide) (by decide) (by decide)) (fun g6 => ?_) (fun q => q.lbB) (fun q => q.setf rfl (by decide) (by decide) (by decide))
        · refine st7.ret (fun _ => rfl) (fun _ => rfl) (fun gd7 => by have := hj5 (f6.1 gd7); omega) 0 (fun _ => by omega) (fun _ => Nat.le_refl _) (fun gd7 => ⟨fN u5 315, nw.1, by omega, ?_⟩) (fun _ => trivial)
          have := nw.2.1
          rw [fN_eq (f_other (by decide) : mm_f (mm_setf u6 356 (mm_f u6 356 - 1)) 315 = mm_f u6 315)]
          omega
        · have gB := (st6.gd g6).lbB
          have y := gB.2.2.2.2.1.2.2.2.2.2.1
          obtain ⟨t1, t2, t3, t4⟩ := st6.tl.1 g6
          have fo (k : Nat) (hk : k ≠ 356) : fN (mm_setf u6 356 (mm_f u6 356 - 1)) k = fN u6 k := fN_eq (f_other hk)
          refine ⟨by show fN σ 315 ≤ fN (mm_setf u6 356 (mm_f u6 356 - 1)) 315; rw [fo 315 (by decide)]; exact t1, by show fN σ 336 ≤ fN (mm_setf u6 356 (mm_f u6 356 - 1)) 336; rw [fo 336 (by decide)]; exact t2, by show fN σ 371 ≤ fN (mm_setf u6 356 (mm_f u6 356 - 1)) 371; rw [fo 371 (by decide)]; exact t3, ?_⟩
          rw [tu]
          show p ≤ (mm_f (mm_setf u6 356 (mm_f u6 356 - 1)) 356).toNatClampNeg
          rw [y, hp, nI_clamp (by omega)]
          exact Nat.le_refl _
      · obtain ⟨t1, t2, t3, t4⟩ := st2.tl.1 gu
        refine ⟨?_, ?_, ?_, ?_⟩
        · show fN σ 315 ≤ fN (mm_setf _ 356 _) 315
          rw [fN_eq (f_other (by decide))]; exact t1
        · show fN σ 336 ≤ fN (mm_setf _ 356 _) 336
          rw [fN_eq (f_other (by decide))]; exact t2
        · show fN σ 371 ≤ fN (mm_setf _ 356 _) 371
          rw [fN_eq (f_other (by decide))]; exact t3
        · rw [tu]
          show p ≤ (mm_f (mm_setf _ 356 _) 356).toNatClampNeg
          rw [f_same, e56, nI_1, nI_clamp (by omega)]
          omega
    have q3e : q3 ≤ t_e T := by
      rw [← hq3]
      have : ∀ (f q : Nat), q ≤ t_e T → t_labL T f q ≤ t_e T := by
        intro f
        induction f with
        | zero => intro q h; exact h
        | succ f ih =>
          intro q h
          rw [t_labL]
          cases hc : (t_id T q && t_sg T (q + 1) 39) with
          | false => exact h
          | true =>
            rw [Bool.and_eq_true] at hc
            have a1 : T.1 q ≠ 0 := by
              intro z0
              have := hc.1
              unfold t_id at this
              rw [z0] at this
              exact absurd this (by simp)
            have a2 : T.1 (q + 1) ≠ 0 := by
              intro z0
              have := hc.2
              unfold t_sg at this
              rw [z0] at this
              exact absurd this (by simp)
            have q1 := lt_e hG.1 h a1
            have q2 := lt_e hG.1 (show q + 1 ≤ t_e T by omega) a2
            exact ih (q + 2) (by omega)
      exact this _ _ (by omega)
    refine lab83 I3 (by omega) (t_e T + 1) (i + 1 + 1) (by omega) (by omega) ?_
    rw [hq3]
    refine b3095_122 _ _ _ _ _ _ _ (I3.1.k (by omega) (br_p (fun c1 => I3.1.v (by omega) (br_p (fun c17 => w178 _ _ _ ?_) (fun c17 => I3.1.v (by omega) (br_p (fun c35 => w178 _ _ _ ?_) (fun c35 => I3.1.v (by omega) (br_p (fun c10 => w178 _ _ _ ?_) (fun c10 => w178 _ _ _ ?_))))))) (fun c1 => w178 _ _ _ ?_)))
    · have c17 : T.2.1 q3 = 17 := c17
      unfold t_isl t_wd
      rw [c1, c17]; rfl
    · have c35 : T.2.1 q3 = 35 := c35
      unfold t_isl t_wd
      rw [c1, c35]; rfl
    · have c10 : T.2.1 q3 = 10 := c10
      unfold t_isl t_wd
      rw [c1, c10]; rfl
    · have c17 : ¬ T.2.1 q3 = 17 := c17
      have c35 : ¬ T.2.1 q3 = 35 := c35
      have c10 : ¬ T.2.1 q3 = 10 := c10
      unfold t_isl t_wd
      rw [beq_eq_false_iff_ne.mpr c17, beq_eq_false_iff_ne.mpr c35, beq_eq_false_iff_ne.mpr c10]
      simp
      rfl
    · unfold t_isl t_wd
      rw [beq_eq_false_iff_ne.mpr c1]; rfl
end LABEL
