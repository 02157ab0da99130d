/-! PHASE 3. method(), property() -/
/-- behind the flags of a property -/
def s_prA (T : sT) (E : sE) (cx : sC) (asy gen : Bool) (j2 k : Nat) : sR (Int32 × sN × Bool) :=
  bif asy || gen || t_sg T k 2 then s_b (s_plain T E true false 0 gen asy k) (fun _ m => s_r (3, n_k 11, false) m) else
  bif t_sg T k 39 then s_b (E.1 cx true (k + 1)) (fun v m => s_r (0, v, false) m) else
  bif t_id T j2 && !(t_v T j2 == 55 && cx.2.2.2.2.2) then
    (bif t_sg T k 40 then s_b (s_w (sA_cv 1) () (k + 1)) (fun _ q => s_b (E.1 cx true q) (fun _ m => s_r (5, n_id (t_v T j2), true) m)) else s_r (5, n_id (t_v T j2), false) k)
  else none
def s_prB (T : sT) (E : sE) (cx : sC) (asy gen : Bool) (j2 : Nat) : sR (Int32 × sN × Bool) :=
  bif (asy && gen) || t_kd T j2 2 then none else
  bif !asy && !gen && !(t_gs T j2 == 0) then
    (bif t_kd T (j2 + 1) 2 then none else s_b (s_key T E cx (j2 + 1)) (fun _ k => s_b (s_plain T E true false (t_gs T j2) false false k) (fun _ m => s_r (bif t_gs T j2 == 1 then 1 else 2, n_k 11, false) m)))
  else s_b (s_key T E cx j2) (fun _ k => s_prA T E cx asy gen j2 k)
theorem s_prop_eq {T : sT} {E : sE} {cx : sC} {i : Nat} : s_prop T E cx i = bif t_sg T i 7 then s_b (E.1 cx true (i + 1)) (fun v k => s_r (4, v, false) k) else s_prB T E cx (t_asy T i) (t_sg T (bif t_asy T i then i + 1 else i) 20) (bif t_sg T (bif t_asy T i then i + 1 else i) 20 then (bif t_asy T i then i + 1 else i) + 1 else (bif t_asy T i then i + 1 else i)) := rfl
def flF (asy gen : Bool) : Int32 := (bif asy then 2 else 0) ||| (bif gen then 1 else 0)
theorem flF_1 {asy gen : Bool} : nz (flF asy gen &&& 1) = gen := by cases asy <;> cases gen <;> decide
theorem flF_2 {asy gen : Bool} : nz (flF asy gen &&& 2) = asy := by cases asy <;> cases gen <;> decide
theorem flF_3 {asy gen : Bool} : flF asy gen = 3 ↔ (asy && gen) = true := by cases asy <;> cases gen <;> decide
theorem flF_0 {asy gen : Bool} : flF asy gen = 0 ↔ (!asy && !gen) = true := by cases asy <;> cases gen <;> decide
def shP (T : sT) (ν : Nat) (σ : mmS) (p : Int32 × sN × Bool) (q : Nat) (n : Int32) (u : mmS) : Prop := ∃ k, n = nI k ∧ fN σ 315 ≤ k ∧ k < fN u 315 ∧ mm_a u 322 k = 0 ∧ oE T (6 * ν + 4) (mm_a u) (k, fN σ 315, fN u 315, n_pc p, q, p.1 == 4)
section PROP
variable {β : Type} {T : sT} {Sh : β → Nat → Int32 → mmS → Prop} {N : Int32 → mmS → Prop} {g : Nat} {w0 : cW} {m0 e0 : Nat} {θ : cTh} {l0 : Nat} {Z : Int32 → mmS → Prop} {b : Bool} {h : Nat} {w : cW} {A : cA} {m e : Nat} {r : sR β} {σ σ0 : mmS} {i : Nat}
variable {ν a d : Nat} {Q : mmQ}
theorem St.method {s fl : Int32} {f : Unit → Nat → sR β} {C : Int32 → mmS → Prop} (hp : plS s) (hI : cIt T ν) (hE : cEl T ν) (hR : cRst T ν) (hw : w_nu w = ν) (h4 : s = 4 → 2 ≤ t_e T) (st : St T Sh N g w0 m0 e0 θ l0 Z b (h + 121) w A (m + 1) e (s_b (s_plain T (s_lv T ν) (!(s == 0)) (s == 6) (plG s) (nz (fl &&& 1)) (nz (fl &&& 2)) i) f) σ i) (hw0 : w_in w = w_in w0) (hd : 50 * ν + 26 ≤ d) (hg : g + h + 201 ≤ GQ ν) (hm : 24 ≤ m)
    (k : ∀ j B q n u, St T Sh N g w0 m0 e0 θ l0 Z true h w B (m + q) e (f () j) u j → Fr (th σ) σ u → (GD u → i + 1 ≤ j) → own (th σ) n u → C n u) : mm_I (MC d) Q 3083 [.inr (.inr (3, a)), .inl s, .inl fl] σ C := by
  obtain ⟨d, rfl, hd⟩ := mc_pos (c := 50 * ν + 25) (by omega)
  refine mc_ci (P := mt3083) (L := 3) rfl rfl ⟨by decide, Nat.le_of_ble_eq_true rfl⟩ fun Q2 hK hX => b3083_0 _ _ _ _ _ _ ?_
  refine St.call (h := h + 1) (c_plain (fl := fl) (called := -1) hp hI hE hR hw h4 a) () (st.mono (by omega)) (fun _ => rfl) (by omega) (by rw [hw]; omega) (by omega) hw0 (fun v j B q n u st2 hf hj hs hn => ?_)
  refine St.node (h := h) (m := m + 1 + q) st2 (by omega) (by omega) (fun n5 u5 st5 hf5 nw => hK _ _ (k j B q n5 u5 ?_ (hf.trans (hf5.mono fun gd => th_le (st.gd (hf.1 gd)) (st2.gd gd) hf)) (fun gd => hj (hf5.1 gd)) ⟨fN u 315, nw.1, by rw [nw.2.1]; omega, fun gd => hf.nn⟩))
  rw [show m + 1 + q - 1 = m + q by omega] at st5
  exact st5
theorem pr_ret {p : Int32 × sN × Bool} {q j : Nat} {x y z dv : Int32} (st : St T (shP T ν σ0) nid g w m0 e (th σ0) l0 (fun n u => Q (.inl (some (.inl n))) u) b (h + 1) w A m e (s_r p j) σ j) (hd : 4 ≤ d) (hm : m0 + q + 1 ≤ m) (hl : GD σ → l0 ≤ j) (hle : fN σ0 315 ≤ fN σ 315) (hE : GD σ → ∀ u, GD u → (∀ s, 316 ≤ s → s ≤ 323 → ∀ j, 1 ≤ j → j < fN σ 315 → mm_a u s j = mm_a σ s j) → mm_a u 318 (fN σ 315) = y → mm_a u 319 (fN σ 315) = z → mm_a u 320 (fN σ 315) = dv → fN u 315 = fN σ 315 + 1 → oE T (6 * ν + 4) (mm_a u) (fN σ 315, fN σ0 315, fN u 315, n_pc p, q, p.1 == 4)) :
    mm_I (MC d) Q 3056 [.inr (.inr (3, a)), .inl 40, .inl x, .inl y, .inl z, .inl dv] σ (fun x4 σ3 => Q (.inl (some (.inl x4))) σ3) := by
  refine St.node5 (h := h) st hd (by omega) (fun n u st2 hf nw => st2.ret (fun _ => rfl) (fun _ => rfl) (fun gd => hl (hf.1 gd)) q (fun _ => by omega) (fun _ => Nat.le_refl _) (fun gd => ?_) (fun _ => nw.nid))
  obtain ⟨n1, n2, n3, n4, n5, n6, n7, n8, n9, -⟩ := nw
  exact ⟨_, n1, hle, by omega, n8, hE (hf.1 gd) u gd (fun s s1 s2 j j1 j2 => (hf.2.2.2.2.2.2.2 gd).2.1 s s1 s2 j j1 j2) n5 n6 n7 n2⟩
theorem isk_nz {i : Nat} (h : t_isk T i = true) : T.1 i ≠ 0 := by
  intro e
  have : t_isk T i = false := by
    unfold t_isk t_key t_kd t_sg
    rw [e]; rfl
  rw [this] at h
  exact nomatch h
theorem plE.lo {D D' lo lo' hi k q : Nat} {R : Nat → Nat → Int32} {c : Option Int} (h : plE T D R lo hi k c q) (h1 : D ≤ D') (h2 : lo' ≤ lo) : plE T D' R lo' hi k c q := by
  obtain ⟨a1, a2, a3⟩ := h
  refine ⟨by omega, a2, ?_⟩
  rcases a3 with y | y
  · exact Or.inl y
  · exact Or.inr ⟨y.1, y.2.mono h1 h2 (Nat.le_refl _) a2 (fun _ _ _ _ _ _ _ => rfl)⟩
theorem c_property (hI : cIt T ν) (hE : cEl T ν) (hR : cRst T ν) (ih : cAsg T ν) (hw : w_nu w = ν) : CI T (shP T ν) nid (50 * ν + 28) 0 400 false 1 w (s_prop T (s_lv T ν) (w_x w).1) 3080 [.inr (.inr (3, a))] := by
  intro d g A m e i σ K X hd hq hm en k
  obtain ⟨d, rfl, hd⟩ := mc_pos (c := 50 * ν + 27) (by omega)
  refine mc_ci (P := mt3080) (L := 6) rfl rfl ⟨by decide, Nat.le_of_ble_eq_true rfl⟩ fun Q hK hX => b3080_0 _ _ _ _ _ _ _ _ _ ?_
  have st := St.start (K := fun n u => Q (.inl (some (.inl n))) u) hq (by decide) en (fun n u rs => hK _ _ (k n u rs))
  have hGQ := GQ_le (w_nu w)
  have gd := st.good.2.1
  have st := st.rise (h' := 180) gd (by omega)
  have n1 := st.ci.2.1.2.1
  rw [hw] at hq
  -- a name alone
  have w388 : ∀ (b' : Bool) (h' : Nat) (A' : cA) (m' j' j2 : Nat) (u : mmS) (v1 v2 v3 v4 v5 : Int32) (wv5 : Option mmV) (dn : Bool), m + 2 ≤ m' → (GD u → i + 1 ≤ j') → fN σ 315 ≤ fN u 315 → (GD u → v3 = t_v T j2) → (GD u → (v5 = 0 ↔ dn = false)) →
      St T (shP T ν σ) nid g w m e (th σ) (i + 1) (fun n u => Q (.inl (some (.inl n))) u) b' (h' + 2) w A' m' e (s_r (5, n_id (t_v T j2), dn) j') u j' →
      mm_W mt3080 (MC d) Q (388, [some (.inr (.inr (3, a))), some (.inl v1), some (.inl v2), some (.inl v3), some (.inl v4), some (.inl v5)], []) u := by
    intro b' h' A' m' j' j2 u v1 v2 v3 v4 v5 wv5 dn hm' hj hle h3 h5 st
    refine b3080_388 _ _ _ _ _ _ _ _ _ (St.node (h := h' + 1) st (by omega) (by omega) (fun n2 u2 st2 hf2 nw => ?_))
    have l2 := hf2.nn
    refine pr_ret (p := (5, n_id (t_v T j2), dn)) (q := 0) st2 (by omega) (by omega) (fun gd2 => hj (hf2.1 gd2)) (by omega) (fun gd2 u5 gd5 hr e18 e19 e20 e15 => ?_)
    obtain ⟨k1, k2, k3, k4, k5, k6, k7, k8, k9, -⟩ := nw
    have hcap := st2.cap.1
    have f16 : mm_a u5 316 (fN u 315) = 4 := (hr 316 (by decide) (by decide) _ (by omega) (by omega)).trans k3
    have f17 : mm_a u5 317 (fN u 315) = t_v T j2 := ((hr 317 (by decide) (by decide) _ (by omega) (by omega)).trans k4).trans (h3 (hf2.1 gd2))
    have f23 : mm_a u5 323 (fN u 315) = 0 := (hr 323 (by decide) (by decide) _ (by omega) (by omega)).trans k9
    refine Or.inr (Or.inr (Or.inl ⟨e20, rfl, fN u 315, fN u 315 + 1, n_tg (n_id (t_v T j2)), e18.trans k1, hle, by omega, by omega, ?_, ?_⟩))
    · refine (cv_sm (v := n_id (t_v T j2)) hle (by omega) ?_ ⟨f16, f23, fun _ => rfl⟩ (fun z => ?_)).mono (by omega) (Nat.le_refl _) (Nat.le_refl _) (by omega) (fun _ _ _ _ _ _ _ => rfl)
      · rw [f16, f17]; rfl
      · exact absurd (show (4 : Int32) = 9 ∨ (4 : Int32) = 10 from z.1) (by decide)
    · rw [e19]
      cases hdn : dn with
      | false =>
        rw [if_pos ((h5 (hf2.1 gd2)).mpr hdn)]
        rfl
      | true =>
        rw [if_neg (fun z => by rw [(h5 (hf2.1 gd2)).mp z] at hdn; exact nomatch hdn)]
        rfl
  have w359 : ∀ (b' : Bool) (A' : cA) (m' j' j2 : Nat) (u : mmS) (v1 v2 v3 v4 : Int32) (wv5 : Option mmV), m + 2 ≤ m' → 24 ≤ m' → (GD u → i + 1 ≤ j') → Fr (th σ) σ u → (GD u → v3 = t_v T j2) →
      St T (shP T ν σ) nid g w m e (th σ) (i + 1) (fun n u => Q (.inl (some (.inl n))) u) b' 4 w A' m' e (bif t_sg T j' 40 then s_b (s_w (sA_cv 1) () (j' + 1)) (fun _ q => s_b ((s_lv T ν).1 (w_x w).1 true q) (fun _ m => s_r (5, n_id (t_v T j2), true) m)) else s_r (5, n_id (t_v T j2), false) j') u j' →
      mm_W mt3080 (MC d) Q (359, [some (.inr (.inr (3, a))), some (.inl v1), some (.inl v2), some (.inl v3), some (.inl v4), wv5], []) u := by
    intro b' A' m' j' j2 u v1 v2 v3 v4 wv5 hm' hm24 hj fr h3 st
    have hA : GD u → A'.2.1 ≤ (j' : Int) := fun gd => (st.gd gd).2.2.2.2.2.2.2.1.2
    refine b3080_359 _ _ _ _ _ _ _ _ _ (st.eat (by omega) (fun z => ?_) (fun u1 z st1 hf1 => ?_))
    · exact w388 b' 2 A' m' j' j2 u v1 v2 v3 v4 0 none false hm' hj fr.nn h3 (fun _ => ⟨fun _ => rfl, fun _ => rfl⟩) (st.f z)
    · have st2 := (st1.t (fun gd1 => z (hf1.1 gd1))).cov (x := mm_f u1 313 + 1) (fun _ hx => by rw [hx, Int32.ofInt_add, show Int32.ofInt 1 = 1 from by decide]) (fun gd1 _ => by have := hA (hf1.1 gd1); omega)
      have l1 := hf1.nn
      have l0 := fr.nn
      refine St.call (h := 4) (ih a w true hw) (n_k 0) st2 (fun _ => rfl) (by omega) (by rw [hw]; omega) (by omega) rfl (fun v j B q n u3 st3 hf3 hj3 hs hn => ?_)
      have l3 := hf3.nn
      have e5 : fN (mm_setf u1 313 (mm_f u1 313 + 1)) 315 = fN u1 315 := fN_eq (f_other (by decide))
      refine w388 true 2 B _ j j2 u3 v1 v2 v3 v4 n none true (by omega) (fun gd3 => by have := hj3 gd3; have := hj (hf1.1 (hf3.1 gd3)); omega) (by omega) (fun gd3 => h3 (hf1.1 (hf3.1 gd3))) (fun gd3 => ⟨fun z => ?_, fun z => nomatch z⟩) st3
      obtain ⟨kk, k1, k2, k3, k4, -⟩ := (hs gd3).sh
      have := st3.cap.1
      exact absurd (k1.symm.trans z) (nI_ne0 (by omega) (by omega))
  have w278 : ∀ (asy gen b' : Bool) (A' : cA) (m' j' : Nat) (u : mmS) (v2 v3 v4 : Int32) (wv5 : Option mmV), m + 2 ≤ m' → 25 ≤ m' → (GD u → i + 1 ≤ j') → Fr (th σ) σ u →
      St T (shP T ν σ) nid g w m e (th σ) (i + 1) (fun n u => Q (.inl (some (.inl n))) u) b' 140 w A' m' e (s_b (s_plain T (s_lv T ν) true false 0 gen asy j') (fun _ m => s_r (3, n_k 11, false) m)) u j' →
      mm_W mt3080 (MC d) Q (278, [some (.inr (.inr (3, a))), some (.inl (flF asy gen)), some (.inl v2), some (.inl v3), some (.inl v4), wv5], []) u := by
    intro asy gen b' A' m' j' u v2 v3 v4 wv5 hm' hm24 hj fr st
    have st2 := st.rw (r' := s_b (s_plain T (s_lv T ν) (!((2 : Int32) == 0)) ((2 : Int32) == 6) (plG 2) (nz (flF asy gen &&& 1)) (nz (flF asy gen &&& 2)) j') (fun _ m => s_r (3, n_k 11, false) m)) (fun _ => by rw [flF_1, flF_2]; rfl)
    obtain ⟨m'', rfl⟩ : ∃ z, m' = z + 1 := ⟨m' - 1, by omega⟩
    refine b3080_278 _ _ _ _ _ _ _ _ _ (St.method (h := 19) (Or.inr (Or.inl rfl)) hI hE hR hw (fun z => absurd z (by decide)) st2 rfl (by omega) (by omega) (by omega) (fun j3 B q n u3 st3 hf3 hj3 on => ?_))
    have l3 := hf3.nn
    have l0 := fr.nn
    exact pr_ret (h := 18) (p := (3, n_k 11, false)) (q := 0) st3 (by omega) (by omega) (fun gd3 => by have := hj3 gd3; have := hj (hf3.1 gd3); omega) (by omega) (fun gd3 u5 gd5 hr e18 e19 e20 e15 => Or.inr (Or.inr (Or.inr ⟨by rw [e20]; decide, by rw [e20]; decide, by rw [e20]; decide, rfl, rfl⟩)))
  -- behind the flags, no getter and no setter
  have w249 : ∀ (asy gen : Bool) (m' j2 : Nat) (u : mmS) (s0 : Int32) (wv2 wv3 wv4 wv5 : Option mmV), m ≤ m' → i ≤ j2 → Fr (th σ) σ u → (s0 = 0 ↔ t_kd T j2 1 = false) →
      St T (shP T ν σ) nid g w m e (th σ) (i + 1) (fun n u => Q (.inl (some (.inl n))) u) false 180 w A m' e (s_b (s_key T (s_lv T ν) (w_x w).1 j2) (fun _ k => s_prA T (s_lv T ν) (w_x w).1 asy gen j2 k)) u j2 →
      mm_W mt3080 (MC d) Q (249, [some (.inr (.inr (3, a))), some (.inl (flF asy gen)), wv2, wv3, wv4, wv5], [.inl s0]) u := by
    intro asy gen m' j2 u s0 wv2 wv3 wv4 wv5 hm' hj2 fr hs0 st
    have hcx := (st.good).2.2.2.2.1.1.2.2.2.2.2
    have gdu := st.good.2.1
    refine b3080_249 _ _ _ _ _ _ _ _ _ _ (st.rdv (fun x1 hx1 => ?_))
    have hx1 := hx1 gdu
    refine St.callP (h := 176) (c := 4) (m' := m' + 10) (s := 1) (bb := true) (b := false) (Sh' := keyS T j2) (N' := nid) (r1 := s_key T (s_lv T ν) (w_x w).1) (fun en kk => c_key (a := a) ih hw (by omega) (by rw [hw]; omega) (by omega) en kk) () st (fun _ => rfl) rfl (fun v j B q n u2 st2 hf2 hj hs hn => ?_)
    have fr2 : Fr (th σ) σ u2 := fr.trans (hf2.mono st.tl.1)
    have hj' : GD u2 → i + 1 ≤ j := fun gd2 => by have := hj gd2; omega
    have out : (GD u2 → (asy || gen || t_sg T j 2) = true) → mm_W mt3080 (MC d) Q (278, [some (.inr (.inr (3, a))), some (.inl (flF asy gen)), some (.inl s0), some (.inl x1), some (.inl n), wv5], []) u2 := fun hz => by
      refine w278 asy gen true B _ j u2 s0 x1 n wv5 (by omega) (by omega) hj' fr2 ((st2.mono (by omega)).rw fun gd2 => by unfold s_prA; rw [hz gd2, cond_true])
    refine br_p (fun c0 => ?_) (fun c0 => out (fun _ => ?_))
    · have ef : asy = false ∧ gen = false := by
        have := flF_0.mp c0
        cases asy <;> cases gen <;> simp_all
      obtain ⟨ea, eg⟩ := ef
      subst ea; subst eg
      refine st2.sign (by omega) (fun z2 => ?_) (fun z2 _ => out (fun gd2 => by rw [z2 gd2]; rfl))
      refine st2.eat (by omega) (fun z39 => ?_) (fun u3 z39 st3 hf3 => ?_)
      · have st3 := st2.rw (r' := bif t_id T j2 && !(t_v T j2 == 55 && (w_x w).1.2.2.2.2.2) then (bif t_sg T j 40 then s_b (s_w (sA_cv 1) () (j + 1)) (fun _ q => s_b ((s_lv T ν).1 (w_x w).1 true q) (fun _ m => s_r (5, n_id (t_v T j2), true) m)) else s_r (5, n_id (t_v T j2), false) j) else none) (fun gd2 => by unfold s_prA; rw [z2 gd2, z39 gd2]; rfl)
        have bad : (GD u2 → (t_id T j2 && !(t_v T j2 == 55 && (w_x w).1.2.2.2.2.2)) = false) → mm_I (MC d) Q 3025 [.inr (.inr (3, a))] u2 (fun x9 σ8 => Q (.inl (some (.inl x9))) σ8) := fun hz =>
          st3.fail (by omega) (fun gd2 => by rw [hz gd2]; rfl) (fun u5 ng st5 hf5 => st5.bad ng (nid_0 st5.ci))
        have go : ∀ u5, (GD u5 → (t_id T j2 && !(t_v T j2 == 55 && (w_x w).1.2.2.2.2.2)) = true) → St T (shP T ν σ) nid g w m e (th σ) (i + 1) (fun n u => Q (.inl (some (.inl n))) u) true 176 w B (m' + 10 + q) e (bif t_id T j2 && !(t_v T j2 == 55 && (w_x w).1.2.2.2.2.2) then (bif t_sg T j 40 then s_b (s_w (sA_cv 1) () (j + 1)) (fun _ q => s_b ((s_lv T ν).1 (w_x w).1 true q) (fun _ m => s_r (5, n_id (t_v T j2), true) m)) else s_r (5, n_id (t_v T j2), false) j) else none) u5 j → Fr (th u2) u2 u5 →
            mm_W mt3080 (MC d) Q (359, [some (.inr (.inr (3, a))), some (.inl (flF false false)), some (.inl s0), some (.inl x1), some (.inl n), wv5], []) u5 := fun u5 hz st5 hf5 =>
          w359 true B _ j j2 u5 _ _ _ _ _ (by omega) (by omega) (fun gd5 => hj' (hf5.1 gd5)) (fr2.trans (hf5.mono st2.tl.1)) (fun _ => hx1.symm) ((st5.mono (by omega)).rw fun gd5 => by rw [hz gd5, cond_true])
        have hk (hkd : t_kd T j2 1 = true) : t_id T j2 = decide (45 < x1) := by
          unfold t_id
          unfold t_kd at hkd
          unfold t_v at hx1
          rw [hkd, hx1]; rfl
        refine br_p (fun c1 => bad (fun _ => ?_)) (fun c1 => br_p (fun c45 => br_p (fun c55 => br_p (fun c53 => ?_) (fun c53 => bad (fun gd2 => ?_))) (fun c55 => go u2 (fun _ => ?_) st3 Fr.rfl')) (fun c45 => bad (fun _ => ?_)))
        · have hkd := hs0.mp c1
          unfold t_kd at hkd
          unfold t_id
          rw [hkd]; rfl
        · have hkd : t_kd T j2 1 = true := by
            cases hx : t_kd T j2 1 with
            | true => rfl
            | false => exact absurd (hs0.mpr hx) c1
          refine st3.mark (by omega) (by decide) (fun u5 st5 hf5 _ => go u5 (fun gd5 => ?_) st5 hf5)
          have y := (st2.gd (hf5.1 gd5)).2.2.2.2.1.1.2.2.2.2.2
          have : (w_x w).1.2.2.2.2.2 = false := bI_0.mp (y.symm.trans c53)
          rw [hk hkd, this, Bool.and_false, decide_eq_true c45]; rfl
        · have y := (st2.gd gd2).2.2.2.2.1.1.2.2.2.2.2
          have : (w_x w).1.2.2.2.2.2 = true := by
            cases hx : (w_x w).1.2.2.2.2.2 with
            | true => rfl
            | false => exact absurd (y.trans (by rw [hx]; rfl)) c53
          rw [this, hx1, c55]
          simp
        · have hkd : t_kd T j2 1 = true := by
            cases hx : t_kd T j2 1 with
            | true => rfl
            | false => exact absurd (hs0.mpr hx) c1
          rw [hk hkd, decide_eq_true c45, hx1, beq_eq_false_iff_ne.mpr c55]; rfl
        · have hkd : t_kd T j2 1 = true := by
            cases hx : t_kd T j2 1 with
            | true => rfl
            | false => exact absurd (hs0.mpr hx) c1
          rw [hk hkd, decide_eq_false c45]; rfl
      · have st3 := st3.rw (r' := s_b ((s_lv T ν).1 (w_x w).1 true (j + 1)) (fun v m => s_r (0, v, false) m)) (fun gd3 => by unfold s_prA; rw [z2 (hf3.1 gd3), z39 (hf3.1 gd3)]; rfl)
        refine St.call (h := 176) (ih a w true hw) (n_k 0) st3 (fun _ => rfl) (by omega) (by rw [hw]; omega) (by omega) rfl (fun v4 j4 B4 q4 n4 u4 st4 hf4 hj4 hs4 hn4 => ?_)
        obtain ⟨kk, k1, k2, k3⟩ := asN_of hs4 hn4
        have l2 := fr2.nn
        have l3 := hf3.nn
        have l4 := hf4.nn
        refine pr_ret (p := (0, v4, false)) (q := q4) (h := 175) st4 (by omega) (by omega) (fun gd4 => by have := hj4 gd4; have := hj' (hf3.1 (hf4.1 gd4)); omega) (by omega) (fun gd4 u5 gd5 hr e18 e19 e20 e15 => ?_)
        obtain ⟨μ, eμ, sk⟩ := k3 gd4
        have pl := (plE_of sk).lo (D' := 6 * ν + 4) (lo' := fN σ 315) (by omega) (by omega)
        refine Or.inr (Or.inl ⟨e20, rfl, kk, fN u4 315, e18.trans k1, Nat.le_refl _, pl.congr (fun s s1 s2 j' j1 j2 _ => hr s s1 s2 j' (by omega) j2)⟩)
    · have : ¬ (!asy && !gen) = true := fun z => c0 (flF_0.mpr z)
      cases asy <;> cases gen <;> simp_all
  have w231 : ∀ (asy gen : Bool) (m' j2 : Nat) (u : mmS) (wv2 wv3 wv4 wv5 : Option mmV), m ≤ m' → i ≤ j2 → Fr (th σ) σ u →
      St T (shP T ν σ) nid g w m e (th σ) (i + 1) (fun n u => Q (.inl (some (.inl n))) u) false 180 w A m' e (s_b (s_key T (s_lv T ν) (w_x w).1 j2) (fun _ k => s_prA T (s_lv T ν) (w_x w).1 asy gen j2 k)) u j2 →
      mm_W mt3080 (MC d) Q (231, [some (.inr (.inr (3, a))), some (.inl (flF asy gen)), wv2, wv3, wv4, wv5], []) u := by
    intro asy gen m' j2 u wv2 wv3 wv4 wv5 hm' hj2 fr st
    have gdu := st.good.2.1
    refine b3080_231 _ _ _ _ _ _ _ _ _ (st.rdk (fun x1 hx1 _ => br_p (fun c => ?_) (fun c => ?_)))
    · exact w249 asy gen m' j2 u 1 _ _ _ _ hm' hj2 fr ⟨fun z => absurd z (by decide), fun z => by unfold t_kd at z; rw [hx1 gdu, c] at z; exact absurd z (by decide)⟩ st
    · exact w249 asy gen m' j2 u 0 _ _ _ _ hm' hj2 fr ⟨fun _ => by unfold t_kd; rw [hx1 gdu]; exact beq_eq_false_iff_ne.mpr c, fun _ => rfl⟩ st
  -- a getter or a setter
  have w146 : ∀ (m' j2 : Nat) (u : mmS) (wv2 wv3 wv4 wv5 : Option mmV), m ≤ m' → i ≤ j2 → Fr (th σ) σ u → (t_wd T j2 49 || t_wd T j2 51) = true → t_kd T j2 2 = false →
      St T (shP T ν σ) nid g w m e (th σ) (i + 1) (fun n u => Q (.inl (some (.inl n))) u) false 180 w A m' e (s_prB T (s_lv T ν) (w_x w).1 false false j2) u j2 →
      mm_W mt3080 (MC d) Q (146, [some (.inr (.inr (3, a))), some (.inl 0), wv2, wv3, wv4, wv5], []) u := by
    intro m' j2 u wv2 wv3 wv4 wv5 hm' hj2 fr hgs hk2 st
    have gdu := st.good.2.1
    refine b3080_146 _ _ _ _ _ _ _ _ _ (st.isKey1 (by omega) (fun z => ?_) (fun z => ?_))
    · refine w231 false false m' j2 u _ _ _ _ hm' hj2 fr (st.rw fun gd => ?_)
      unfold s_prB t_gs
      rw [z gd, hk2]; rfl
    · have z := z gdu
      obtain ⟨p, p1, p2, p3⟩ := st.p
      have p3 := p3 gdu
      subst p3
      have hnz : NZ T u := by
        cases h49 : t_wd T p 49 with
        | true => exact NZ_wd st.ci p1 h49
        | false =>
          rw [h49, Bool.false_or] at hgs
          exact NZ_wd st.ci p1 hgs
      have st2 := st.adv hnz
      have gdu2 := st2.good.2.1
      have hte : 2 ≤ t_e T := by
        have := lt_e st2.ci st2.good.2.2.1.2 (isk_nz z)
        omega
      have hgsv : t_gs T p = bif t_wd T p 49 then 1 else 2 := by
        unfold t_gs
        rw [z, cond_true]
        cases h49 : t_wd T p 49 with
        | true => rfl
        | false =>
          rw [h49, Bool.false_or] at hgs
          rw [hgs]; rfl
      have st2 := st2.rw (r' := bif t_kd T (p + 1) 2 then none else s_b (s_key T (s_lv T ν) (w_x w).1 (p + 1)) (fun _ k => s_b (s_plain T (s_lv T ν) true false (t_gs T p) false false k) (fun _ m => s_r (bif t_gs T p == 1 then 1 else 2, n_k 11, false) m))) (fun _ => by
        unfold s_prB
        rw [hk2, hgsv]
        cases t_wd T p 49 <;> rfl)
      refine c_isWord (by omega) st.ci.1 p1 (by omega) (st2.rdk (fun x5 hx5 _ => br_p (fun c5 => ?_) (fun c5 => ?_)))
      · exact st2.fail (by omega) (fun gd => by unfold t_kd; rw [hx5 gd, c5]; rfl) (fun u5 ng st5 hf5 => st5.bad ng (nid_0 st5.ci))
      · have st3 := st2.f (fun gd => by unfold t_kd; rw [hx5 gd]; exact beq_eq_false_iff_ne.mpr c5)
        refine St.callP (h := 176) (c := 4) (m' := m' + 12 + 10) (s := 1) (bb := true) (b := false) (Sh' := keyS T (p + 1)) (N' := nid) (r1 := s_key T (s_lv T ν) (w_x w).1) (fun en kk => c_key (a := a) ih hw (by omega) (by rw [hw]; omega) (by omega) en kk) () st3 (fun _ => rfl) rfl (fun v j B q n u4 st4 hf4 hj4 hs4 hn4 => ?_)
        have fr4 : Fr (th σ) σ u4 := (fr.trans (Fr.setf (θ := th σ) (σ := u) (k := 311) (x := mm_f u 311 + 1) rfl (by decide) (by decide) (by decide) (by decide) (by decide) (by decide))).trans (hf4.mono st3.tl.1)
        have l4 := fr4.nn
        -- by s0
        have fin : ∀ (s0 kd : Int32) (sn : Nat) (C : Int32 → mmS → Prop), plS s0 → (s0 = 3 ∧ sn = 1 ∧ kd = 1 ∨ s0 = 4 ∧ sn = 2 ∧ kd = 2) → t_gs T p = sn → (∀ x2 σ1, mm_I (MC d) Q 3056 [.inr (.inr (3, a)), .inl 40, .inl n, .inl x2, .inl 0, .inl kd] σ1 (fun x4 σ3 => Q (.inl (some (.inl x4))) σ3) → C x2 σ1) → mm_I (MC d) Q 3083 [.inr (.inr (3, a)), .inl s0, .inl 0] u4 C := by
          intro s0 kd sn C hp hs hsn hC
          have st5 := st4.rw (r' := s_b (s_plain T (s_lv T ν) (!(s0 == 0)) (s0 == 6) (plG s0) (nz ((0 : Int32) &&& 1)) (nz ((0 : Int32) &&& 2)) j) (fun _ m => s_r (bif sn == 1 then 1 else 2, n_k 11, false) m)) (fun _ => by
            rw [hsn]
            rcases hs with ⟨rfl, rfl, rfl⟩ | ⟨rfl, rfl, rfl⟩ <;> rfl)
          refine St.method (h := 55) (m := m' + 12 + 10 + q - 1) hp hI hE hR hw (fun _ => hte) (by rw [show m' + 12 + 10 + q - 1 + 1 = m' + 12 + 10 + q by omega]; exact st5) rfl (by omega) (by omega) (by omega) (fun j6 B6 q6 n6 u6 st6 hf6 hj6 on => ?_)
          have l6 := hf6.nn
          refine hC _ _ (pr_ret (h := 54) (q := 0) st6 (by omega) (by omega) (fun gd6 => by have := hj6 gd6; have := hj4 (hf6.1 gd6); omega) (by omega) (fun gd6 u7 gd7 hr e18 e19 e20 e15 => ?_))
          rcases hs with ⟨rfl, rfl, rfl⟩ | ⟨rfl, rfl, rfl⟩
          · exact Or.inr (Or.inr (Or.inr ⟨by rw [e20]; decide, by rw [e20]; decide, by rw [e20]; decide, rfl, rfl⟩))
          · exact Or.inr (Or.inr (Or.inr ⟨by rw [e20]; decide, by rw [e20]; decide, by rw [e20]; decide, rfl, rfl⟩))
        cases h49 : t_wd T p 49 with
        | false =>
          exact br_y rfl (b3080_213 _ _ _ _ _ _ _ _ _ _ _ _ _ _ (fin 4 2 2 _ (Or.inr (Or.inr (Or.inr (Or.inl rfl)))) (Or.inr ⟨rfl, rfl, rfl⟩) (by rw [hgsv, h49]; rfl) (fun x2 σ1 hz => br_y rfl hz)))
        | true =>
          exact br_n (by decide) (b3080_213 _ _ _ _ _ _ _ _ _ _ _ _ _ _ (fin 3 1 1 _ (Or.inr (Or.inr (Or.inl rfl))) (Or.inl ⟨rfl, rfl, rfl⟩) (by rw [hgsv, h49]; rfl) (fun x2 σ1 hz => br_n (by decide) hz)))
  have w101 : ∀ (asy gen : Bool) (m' j2 : Nat) (u : mmS) (fl : Int32) (wv2 wv3 wv4 wv5 : Option mmV), fl = flF asy gen → m ≤ m' → i ≤ j2 → Fr (th σ) σ u →
      St T (shP T ν σ) nid g w m e (th σ) (i + 1) (fun n u => Q (.inl (some (.inl n))) u) false 180 w A m' e (s_prB T (s_lv T ν) (w_x w).1 asy gen j2) u j2 →
      mm_W mt3080 (MC d) Q (101, [some (.inr (.inr (3, a))), some (.inl fl), wv2, wv3, wv4, wv5], []) u := by
    intro asy gen m' j2 u fl wv2 wv3 wv4 wv5 hfl hm' hj2 fr st
    subst hfl
    have gdu := st.good.2.1
    refine b3080_101 _ _ _ _ _ _ _ _ _ (br_p (fun c3 => ?_) (fun c3 => st.rdk (fun x3 hx3 _ => br_p (fun c2 => ?_) (fun c2 => ?_))))
    · exact st.fail (by omega) (fun gd => by unfold s_prB; rw [flF_3.mp c3]; rfl) (fun u5 ng st5 hf5 => st5.bad ng (nid_0 st5.ci))
    · exact st.fail (by omega) (fun gd => by unfold s_prB t_kd; rw [hx3 gd, c2, show ((2 : Int32) == 2) = true from rfl, Bool.or_true]; rfl) (fun u5 ng st5 hf5 => st5.bad ng (nid_0 st5.ci))
    · have hk2 : t_kd T j2 2 = false := by unfold t_kd; rw [hx3 gdu]; exact beq_eq_false_iff_ne.mpr c2
      have hag : (asy && gen) = false := by
        cases hx : (asy && gen) with
        | false => rfl
        | true => exact absurd (flF_3.mpr hx) c3
      have no : (!asy && !gen && !(t_gs T j2 == 0)) = false → mm_W mt3080 (MC d) Q (231, [some (.inr (.inr (3, a))), some (.inl (flF asy gen)), wv2, wv3, wv4, wv5], []) u := fun hz =>
        w231 asy gen m' j2 u _ _ _ _ hm' hj2 fr (st.rw fun gd => by unfold s_prB; rw [hag, hk2, hz]; rfl)
      refine br_p (fun c0 => ?_) (fun c0 => no ?_)
      · have ef : asy = false ∧ gen = false := by
          have := flF_0.mp c0
          cases asy <;> cases gen <;> simp_all
        obtain ⟨ea, eg⟩ := ef
        subst ea; subst eg
        refine st.word (by omega) (fun z49 => st.word (by omega) (fun z51 => no ?_) (fun z51 _ => w146 m' j2 u _ _ _ _ hm' hj2 fr (by rw [z51 gdu, Bool.or_true]) hk2 st)) (fun z49 _ => w146 m' j2 u _ _ _ _ hm' hj2 fr (by rw [z49 gdu, Bool.true_or]) hk2 st)
        unfold t_gs
        rw [z49 gdu, z51 gdu]
        cases t_isk T (j2 + 1) <;> rfl
      · have : ¬ (!asy && !gen) = true := fun z => c0 (flF_0.mpr z)
        cases hx : (!asy && !gen) with
        | true => exact absurd hx this
        | false => rfl
  -- the flags
  refine st.eat (by omega) (fun z7 => ?_) (fun u1 z7 st hf1 => ?_)
  · have st := st.rw (r' := s_prB T (s_lv T ν) (w_x w).1 (t_asy T i) (t_sg T (bif t_asy T i then i + 1 else i) 20) (bif t_sg T (bif t_asy T i then i + 1 else i) 20 then (bif t_asy T i then i + 1 else i) + 1 else (bif t_asy T i then i + 1 else i))) (fun gd => by rw [s_prop_eq, z7 gd]; rfl)
    have noa : t_asy T i = false → ∀ wv1 : Option mmV, mm_I (MC d) Q 3022 [.inr (.inr (3, a)), .inl 20] σ (fun x6 σ5 => mm_br (x6 = 0) (mm_W mt3080 (MC d) Q (101, [some (.inr (.inr (3, a))), some (.inl 0), none, none, none, none], []) σ5) (mm_W mt3080 (MC d) Q (101, [some (.inr (.inr (3, a))), some (.inl (0 ||| 1)), none, none, none, none], []) σ5)) := fun hz _ => by
      rw [hz] at st
      refine st.eat (by omega) (fun z => ?_) (fun u z st2 hf2 => ?_)
      · refine w101 false false m i σ 0 _ _ _ _ rfl (Nat.le_refl _) (Nat.le_refl _) Fr.rfl' (st.rw fun gd => by rw [cond_false, z gd]; rfl)
      · refine w101 false true (m + 12) (i + 1) u _ _ _ _ _ rfl (by omega) (by omega) hf2 (st2.rw fun gd2 => by rw [cond_false, z gd]; rfl)
    have yes : t_wd T i 47 = true → t_asy T i = true → mm_W mt3080 (MC d) Q (76, [some (.inr (.inr (3, a))), some (.inl 0), none, none, none, none], []) σ := fun h47 hz => by
      have nz : NZ T σ := NZ_wd st.ci (st.good).2.2.1.1 h47
      rw [hz] at st
      have st2 := st.adv nz
      refine b3080_76 _ _ _ _ _ _ _ _ _ (st2.eat (by omega) (fun z => ?_) (fun u z st3 hf3 => ?_))
      · refine w101 true false (m + 12) (i + 1) _ 2 _ _ _ _ rfl (by omega) (by omega) Fr_adv (st2.rw fun gd => by rw [cond_true, z gd]; rfl)
      · refine w101 true true (m + 12 + 12) (i + 1 + 1) u _ _ _ _ _ rfl (by omega) (by omega) (Fr_adv.trans (hf3.mono st2.tl.1)) (st3.rw fun gd => by rw [cond_true, z (hf3.1 gd)]; rfl)
    refine st.word (by omega) (fun z47 => noa (by unfold t_asy; rw [z47 gd]; rfl) none) (fun z47 _ => st.lineAt1 (by omega) (fun zl => st.isKey1 (by omega) (fun zk => st.signAt1 (by omega) (fun zs => noa (by unfold t_asy; rw [zk gd, zs gd, Bool.or_false, Bool.and_false]) none) (fun zs _ => yes (z47 gd) (by unfold t_asy; rw [z47 gd, zl gd, zs gd, Bool.or_true]; rfl))) (fun zk => yes (z47 gd) (by unfold t_asy; rw [z47 gd, zl gd, zk gd]; rfl))) (fun zl => noa (by unfold t_asy; rw [zl gd, Bool.not_true, Bool.and_false]; rfl) none))
  · have st := st.rw (r' := s_b ((s_lv T ν).1 (w_x w).1 true (i + 1)) (fun v k => s_r (4, v, false) k)) (fun gd1 => by rw [s_prop_eq, z7 gd]; rfl)
    refine St.call (h := 180) (ih a w true hw) (n_k 0) st (fun _ => rfl) (by omega) (by rw [hw]; omega) (by omega) rfl (fun v4 j4 B4 q4 n4 u4 st4 hf4 hj4 hs4 hn4 => ?_)
    obtain ⟨kk, k1, k2, k3⟩ := asN_of hs4 hn4
    have l1 := hf1.nn
    have l4 := hf4.nn
    refine pr_ret (p := (4, v4, false)) (q := 0) (h := 179) st4 (by omega) (by omega) (fun gd4 => by have := hj4 gd4; omega) (by omega) (fun gd4 u5 gd5 hr e18 e19 e20 e15 => ?_)
    obtain ⟨μ, eμ, s1, s2, s3, s4, s5⟩ := k3 gd4
    refine Or.inl ⟨e20, rfl, kk, v4, e18.trans k1, by omega, k2, ?_, rfl⟩
    rw [hr 316 (by decide) (by decide) kk (by omega) k2, hr 317 (by decide) (by decide) kk (by omega) k2]
    exact rN_si s4
end PROP
