/-! PHASE 3. One nest deeper; newAt(), leftHand() -/
def dn (w : cW) (ν : Nat) : cW := (w.1, w.2.1, ν, w.2.2.2)
theorem cG.enter {T : sT} {w : cW} {A : cA} {m e ν : Nat} {σ : mmS} {i : Nat} (h : cG T w A m e σ i) (hw : w_nu w = ν + 1) : cG T (dn w ν) A m e (mm_setf σ 312 (mm_f σ 312 + 1)) i := by
  obtain ⟨h1, h2, h3, ⟨n1, n2, n3⟩, ⟨x1, x2, ⟨l1, l2, l3⟩, ⟨b1, b2, b3⟩, y1, y2, y3, y4⟩, h6, h7, h8, ⟨u1, u2, u3⟩, h10, h11, ⟨k1, k2, k3⟩, c1, c2, c3, c4, n, c5, c6⟩ := h
  have f (j : Nat) (hj : j ≠ 312) : mm_f (mm_setf σ 312 (mm_f σ 312 + 1)) j = mm_f σ j := f_other hj
  have fe (j : Nat) (hj : j ≠ 312) := fN_eq (f j hj)
  have e : 48 - w_nu w + 1 = 48 - ν := by omega
  have hx : cX ν (w_lb w) (w_lk w) (w_x w) σ := ⟨x1, x2, ⟨l1, by omega, l3⟩, ⟨b1, by omega, b3⟩, y1, y2, by omega, y4⟩
  refine ⟨h1.setf rfl, (f 303 (by decide)).trans h2, by rw [f 311 (by decide)]; exact h3, ⟨by rw [f_same, n1, nI_1, e]; rfl, by show ν ≤ 48; omega, by show w_B w ≤ 2 * (48 - ν) + 3; omega⟩, hx.of (fun k _ _ => f k (by omega)) rfl rfl rfl, by rw [f 346 (by decide), f 347 (by decide)]; exact h6, h7.of (f 324 (by decide)) (f 325 (by decide)) (f 346 (by decide)) (fun _ _ _ => ⟨rfl, rfl⟩),
    by rw [f 313 (by decide)]; exact h8, by rw [f 360 (by decide)]; exact ⟨u1, u2, u3⟩, by rw [fe 336 (by decide), cntF_of (σ := σ) (u := mm_setf σ 312 (mm_f σ 312 + 1)) (fun _ _ => rfl)]; exact h10, by rw [f 359 (by decide)]; exact h11, ⟨(f 358 (by decide)).trans k1, by show w_cl w + ν ≤ 48; omega, k3⟩, ?_⟩
  unfold cC
  rw [fe 315 (by decide), fe 324 (by decide), fe 336 (by decide), fe 325 (by decide)]
  exact ⟨c1, c2, c3, c4, n, (f 371 (by decide)).trans c5, c6⟩
/-- what is said of the place alone -/
def wOK (w : cW) : Prop := w_nu w ≤ 48 ∧ w_B w ≤ 2 * (48 - w_nu w) + 3 ∧ (w_lk w).1 + w_nu w ≤ 48 ∧ (w_lk w).2 + w_nu w ≤ 48 ∧ w_lb w + (w_x w).2.2.2.2.length + w_nu w ≤ 48 ∧ w_cl w + w_nu w ≤ 48
theorem cG.ok {T : sT} {w : cW} {A : cA} {m e : Nat} {σ : mmS} {i : Nat} (h : cG T w A m e σ i) : wOK w := by
  obtain ⟨h1, h2, h3, ⟨n1, n2, n3⟩, ⟨x1, x2, ⟨l1, l2, l3⟩, ⟨b1, b2, b3⟩, y1, y2, y3, y4⟩, h6, h7, h8, ⟨u1, u2, u3⟩, h10, h11, ⟨k1, k2, k3⟩, c1, c2, c3, c4, n, c5, c6⟩ := h
  exact ⟨n2, n3, l2, b2, y3, k2⟩
theorem cG.leave {T : sT} {w : cW} {A : cA} {m e ν : Nat} {σ : mmS} {i : Nat} (h : cG T (dn w ν) A m e σ i) (hw : w_nu w = ν + 1) (ok : wOK w) : cG T w A m e (mm_setf σ 312 (mm_f σ 312 - 1)) i := by
  obtain ⟨h1, h2, h3, ⟨n1, n2, n3⟩, ⟨x1, x2, ⟨l1, l2, l3⟩, ⟨b1, b2, b3⟩, y1, y2, y3, y4⟩, h6, h7, h8, ⟨u1, u2, u3⟩, h10, h11, ⟨k1, k2, k3⟩, c1, c2, c3, c4, n, c5, c6⟩ := h
  obtain ⟨o1, o2, o3, o4, o5, o6⟩ := ok
  have f (j : Nat) (hj : j ≠ 312) : mm_f (mm_setf σ 312 (mm_f σ 312 - 1)) j = mm_f σ j := f_other hj
  have fe (j : Nat) (hj : j ≠ 312) := fN_eq (f j hj)
  have n1 : mm_f σ 312 = nI (48 - ν) := n1
  have e : 48 - ν = 48 - w_nu w + 1 := by omega
  have hx : cX (w_nu w) (w_lb w) (w_lk w) (w_x w) σ := ⟨x1, x2, ⟨l1, o3, l3⟩, ⟨b1, o4, b3⟩, y1, y2, o5, y4⟩
  refine ⟨h1.setf rfl, (f 303 (by decide)).trans h2, by rw [f 311 (by decide)]; exact h3, ⟨by rw [f_same, n1, e, nI_pred], o1, o2⟩, hx.of (fun k _ _ => f k (by omega)) rfl rfl rfl, by rw [f 346 (by decide), f 347 (by decide)]; exact h6, h7.of (f 324 (by decide)) (f 325 (by decide)) (f 346 (by decide)) (fun _ _ _ => ⟨rfl, rfl⟩),
    by rw [f 313 (by decide)]; exact h8, by rw [f 360 (by decide)]; exact ⟨u1, u2, u3⟩, by rw [fe 336 (by decide), cntF_of (σ := σ) (u := mm_setf σ 312 (mm_f σ 312 - 1)) (fun _ _ => rfl)]; exact h10, by rw [f 359 (by decide)]; exact h11, ⟨(f 358 (by decide)).trans k1, o6, k3⟩, ?_⟩
  unfold cC
  rw [fe 315 (by decide), fe 324 (by decide), fe 336 (by decide), fe 325 (by decide)]
  exact ⟨c1, c2, c3, c4, n, (f 371 (by decide)).trans c5, c6⟩
/-- one nest more is left for what is opened here -/
def wSl (w : cW) : Prop := w_B w + 2 ≤ 2 * (48 - w_nu w) + 3 ∧ (w_lk w).1 + w_nu w < 48 ∧ (w_lk w).2 + w_nu w < 48 ∧ w_lb w + (w_x w).2.2.2.2.length + w_nu w < 48 ∧ w_cl w + w_nu w < 48
theorem wSl_dn {w : cW} {ν : Nat} (ok : wOK w) (h : w_nu w = ν + 1) : wSl (dn w ν) := by
  obtain ⟨o1, o2, o3, o4, o5, o6⟩ := ok
  exact ⟨by show w_B w + 2 ≤ 2 * (48 - ν) + 3; omega, by show (w_lk w).1 + ν < 48; omega, by show (w_lk w).2 + ν < 48; omega, by show w_lb w + (w_x w).2.2.2.2.length + ν < 48; omega, by show w_cl w + ν < 48; omega⟩
section NEW
variable {β : Type} {T : sT} {Sh : β → Nat → Int32 → mmS → Prop} {N : Int32 → mmS → Prop} {g : Nat} {w0 : cW} {m0 e0 : Nat} {θ : cTh} {l0 : Nat} {Z : Int32 → mmS → Prop} {b : Bool} {h : Nat} {w : cW} {A : cA} {m e : Nat} {r : sR β} {σ σ0 : mmS} {i : Nat}
variable {ν a d : Nat} {Q : mmQ}
/-- the same reading, at another place -/
theorem St.sameW {u : mmS} {w' : cW} (st : St T Sh N g w0 m0 e0 θ l0 Z b h w A m e r σ i) (hf : Fr θ σ u) (ht : GD σ → tle (th σ) (th u)) (hg : cG T w A m e σ i → cG T w' A m e u i) (hb : cB T (g + h) σ → cB T (g + h) u) : St T Sh N g w0 m0 e0 θ l0 Z b h w' A m e r u i := by
  rcases st with ⟨q1, q2, q3, q4⟩ | ⟨q1, q2, q3⟩
  · have gd := q1.2.1
    have ht := ht gd
    have l : tle θ (th u) := ⟨Nat.le_trans q2.1 ht.1, Nat.le_trans q2.2.1 ht.2.1, Nat.le_trans q2.2.2.1 ht.2.2.1, Nat.le_trans q2.2.2.2 ht.2.2.2⟩
    refine Or.inl ⟨hg q1, l, q3, fun n v rs => q4 n v ⟨hf.trans rs.1, ?_⟩⟩
    rcases rs.2 with x | ⟨x1 | x1, x2⟩
    · exact Or.inl x
    · exact Or.inr ⟨Or.inl x1, x2⟩
    · exact absurd (hg q1).2.1 x1
  · exact Or.inr ⟨q1, hb q2, fun n v f c hn => q3 n v (hf.trans f) c hn⟩
theorem Fr_312' {x : Int32} : Fr θ σ (mm_setf σ 312 x) := Fr.setf rfl (by decide) (by decide) (by decide) (by decide) (by decide) (by decide)
theorem setf_comm {σ : mmS} {k j : Nat} {x y : Int32} (h : k ≠ j) : mm_setf (mm_setf σ k x) j y = mm_setf (mm_setf σ j y) k x := by
  unfold mm_setf mm_up
  refine Prod.ext (funext fun i => ?_) rfl
  show (if i = j then y else if i = k then x else σ.1 i) = (if i = k then x else if i = j then y else σ.1 i)
  by_cases c : i = j
  · rw [if_pos c, if_pos c]
    by_cases c2 : i = k
    · exact absurd (c2.symm.trans c) h
    · rw [if_neg c2]
  · rw [if_neg c, if_neg c]
theorem fl_comm {T : sT} {σ : mmS} {x : Int32} : fl T (mm_setf σ 312 x) = mm_setf (fl T σ) 312 x := by
  unfold fl
  rw [setf_comm (k := 312) (j := 303) (by decide), setf_comm (k := 312) (j := 311) (by decide)]
theorem Fr_fl312 {x : Int32} (θ : cTh) : Fr θ σ (fl T (mm_setf σ 312 x)) := Fr.trans Fr_312' Fr_fl
theorem stFl312 {x : Int32} {w' : cW} (st : St T Sh N g w0 m0 e0 θ l0 Z b h w A m e r σ i) (hr : r = none) : St T Sh N g w0 m0 e0 θ l0 Z true h w' A m e r (fl T (mm_setf σ 312 x)) i := by
  have st2 := st.fl (fun _ => hr) r w' A m e i
  have st3 := st2.same (u := mm_setf (fl T σ) 312 x) (h' := h) (m' := m) (e' := e) (i' := i) Fr_312' (fun z => absurd z GD_fl) (fun z => absurd z GD_fl) (fun q => absurd q.2.1 GD_fl) (fun c => c.setf rfl (by decide) (by decide) (by decide))
  rw [fl_comm]
  exact st3
theorem St.enter {C : mmS → Prop} (st : St T Sh N g w0 m0 e0 θ l0 Z false h w A m e r σ i) (hd : 2 ≤ d) (hz : w_nu w = 0 → r = none) (k : ∀ u, St T Sh N g w0 m0 e0 θ l0 Z true h (dn w (w_nu w - 1)) A m e r u i → Fr (th σ) σ u → (GD u → 0 < w_nu w) → (¬ GD u → mm_f u 311 = nI (t_e T)) → C u) : mm_V (MC d) Q 3043 [.inr (.inr (3, a))] σ C := by
  have q := st.good
  have st1 := st
  refine c_enter hd st.ci.1 q.2.2.2.1.1 (by omega) (fun z => ?_) (fun z => ?_)
  · have hz := hz (by have := q.2.2.2.1.2.1; omega)
    exact k _ (stFl312 st hz) (Fr_fl312 (th σ)) (fun z => absurd z GD_fl) (fun _ => fl_flags.2)
  · have hp : w_nu w = w_nu w - 1 + 1 := by omega
    have g2 := q.enter hp
    rw [q.2.2.2.1.1, nI_1] at g2
    refine k _ (St.weak (st.sameW Fr_312' (fun _ => by rw [th_setf (by decide) (by decide) (by decide) (by decide)]; exact tle.rfl') (fun _ => g2) (fun c => c.setf rfl (by decide) (by decide) (by decide)))) Fr_312 (fun _ => by omega) (fun z => absurd g2.2.1 z)
theorem St.leave (st : St T Sh N g w0 m0 e0 θ l0 Z b h (dn w (w_nu w - 1)) A m e r σ i) (hp : GD σ → 0 < w_nu w) (ok : wOK w) : St T Sh N g w0 m0 e0 θ l0 Z b h w A m e r (mm_setf σ 312 (mm_f σ 312 - 1)) i :=
  st.sameW Fr_312' (fun _ => by rw [th_setf (by decide) (by decide) (by decide) (by decide)]; exact tle.rfl') (fun q => q.leave (by have := hp q.2.1; omega) ok) (fun c => c.setf rfl (by decide) (by decide) (by decide))
theorem END_GD {T : sT} {u : mmS} (hI : cI T u) (he : ¬ GD u → mm_f u 311 = nI (t_e T)) (nz : NZ T u) : GD u := by
  by_cases gd : GD u
  · exact gd
  · obtain ⟨q, q1, q2, q3⟩ := nz
    have h1 := hI.1.2.2.2.2.2.2.2.1
    have e : q = t_e T := nI_inj (by omega) (by omega) (q1.symm.trans (he gd))
    exact absurd (by rw [e]; exact hI.1.2.2.2.2.2.2.2.2.1) q3
theorem St.strong (st : St T Sh N g w0 m0 e0 θ l0 Z b h w A m e r σ i) (gd : GD σ) : St T Sh N g w0 m0 e0 θ l0 Z false h w A m e r σ i := by
  rcases st with q | ⟨-, q, -⟩
  · exact Or.inl q
  · exact absurd gd q.no
theorem St.rdn {n : Int32} {kk s : Nat} {K : Int32 → Prop} (st : St T Sh N g w0 m0 e0 θ l0 Z b h w A m e r σ i) (hs : 316 ≤ s ∧ s ≤ 323) (hn : n = nI kk) (hk : kk < fN σ 315) (k : K (mm_a σ s kk)) : mm_L σ s n K := by
  rw [hn]
  exact cN_rd st.ci.2.1 hs.1 hs.2 hk k
/-- the contract of primary() -/
def cPrm (T : sT) (ν : Nat) : Prop := ∀ (a : Nat) (w : cW), w_nu w = ν → wSl w → CI T (shN T ν) nid (50 * ν + 30) 0 460 true 1 w (s_prim T (s_lv T ν) (w_x w).1) 3075 [.inr (.inr (3, a))]
def newF (d a : Nat) (Q : mmQ) (wv1 wv2 : Option mmV) (σ1 : mmS) : Prop :=
  mm_V (MC d) Q 3043 [.inr (.inr (3, a))] σ1 (fun σ3 => mm_I (MC d) Q 3018 [.inr (.inr (3, a)), .inl 23] σ3 (fun x5 σ4 => mm_br (x5 = 0) (mm_I (MC d) Q 3018 [.inr (.inr (3, a)), .inl 26] σ4 (fun x7 σ6 => mm_br (x7 = 0) (mm_I (MC d) Q 3075 [.inr (.inr (3, a))] σ6 (fun x9 σ8 => mm_W mt3070 (MC d) Q (93, [some (.inr (.inr (3, a))), wv1, wv2], [.inl x9]) σ8)) (mm_I (MC d) Q 3072 [.inr (.inr (3, a))] σ6 (fun x11 σ10 => mm_W mt3070 (MC d) Q (93, [some (.inr (.inr (3, a))), wv1, wv2], [.inl x11]) σ10)))) (mm_I (MC d) Q 3070 [.inr (.inr (3, a))] σ4 (fun x13 σ12 => mm_W mt3070 (MC d) Q (93, [some (.inr (.inr (3, a))), wv1, wv2], [.inl x13]) σ12))))
def cNew (T : sT) (ν : Nat) : Prop := ∀ (d a g : Nat) (w : cW) (A : cA) (m e i : Nat) (σ : mmS) (Q : mmQ) (wv1 wv2 : Option mmV), w_nu w = ν → 50 * ν + 14 ≤ d → g ≤ GQ ν → 24 ≤ m → cG T w A m e σ i → (∀ n u, Rs T (shN T ν σ) nid g w (m - 1) e (th σ) (i + 1) A ((s_lv T ν).2.2.1 (w_x w).1 i) σ n u → Q (.inl (some (.inl n))) u) → newF d a Q wv1 wv2 σ
theorem shN_nu {ν' : Nat} {v : sN} {q : Nat} {n : Int32} {u : mmS} (h : shN T ν σ v q n u) (hv : ¬ (v.1 = 9 ∨ v.1 = 10)) : shN T ν' σ v q n u := by
  obtain ⟨k, k1, k2, k3, k4, k5, k6⟩ := h
  exact ⟨k, k1, k2, k3, k4, k5, fun z => absurd z hv⟩
theorem c_newAt {K : Int32 → mmS → Prop} {X : Nat → mmS → Prop} (ihn : cNew T ν) (hw : w_nu w = ν) (hd : 50 * ν + 15 ≤ d) (hq : g + 10 ≤ GQ (w_nu w)) (hm : 24 ≤ m) (hk : T.1 i ≠ 0) (en : cG T w A m e σ i ∨ (false = true ∧ cB T (g + 0) σ)) (k : ∀ n u, Rs T (shN T ν σ) nid g w m e (th σ) (i + 1) A (s_new T (s_lv T ν) (w_x w).1 i) σ n u → K n u) :
    mm_ci (MC d) 3070 [.inr (.inr (3, a))] σ K X := by
  obtain ⟨d, rfl, hd⟩ := mc_pos (c := 50 * ν + 14) (by omega)
  refine mc_ci (P := mt3070) (L := 3) rfl rfl ⟨by decide, Nat.le_of_ble_eq_true rfl⟩ fun Q hK hX => b3070_0 _ _ _ _ _ _ ?_
  have st := St.start (q := 10) (K := fun n u => Q (.inl (some (.inl n))) u) hq (by decide) en (fun n u rs => hK _ _ (k n u rs))
  have n1 := st.ci.2.1.2.1
  have hGQ := GQ_le ν
  rw [hw] at hq
  have gd := st.good.2.1
  have st := (st.adv (NZ_g st.good hk)).rise (h' := 4) gd (by omega)
  have n2 : fN (mm_setf σ 311 (mm_f σ 311 + 1)) 315 = fN σ 315 := fN_eq (f_other (by decide))
  have x5 := st.good.2.2.2.2.1.1.2.2.2.2.1
  refine st.eat (by omega) (fun z6 => ?_) (fun u2 z6 st hf2 => ?_)
  · have st := st.f z6
    have gd1 := st.good
    refine ihn d a g w A (m + 12) e (i + 1) _ Q _ _ hw (by omega) (by omega) (by omega) gd1 (fun n u rs => ?_)
    rcases st with ⟨q1, q2, q3, q4⟩ | ⟨q, -⟩
    · refine q4 n u ⟨rs.1.mono fun _ => q2, ?_⟩
      rcases rs.2 with ⟨v, j, B, q, x1, x2, x3, x4⟩ | ⟨x1 | x1, x2⟩
      · refine Or.inl ⟨v, j, B, q, x1, x2.mono (by omega) (Nat.le_refl _), ?_, by omega⟩
        obtain ⟨kk, k1, k2⟩ := x3
        rw [n2] at k2
        exact ⟨kk, k1, k2⟩
      · exact Or.inr ⟨Or.inl x1, x2⟩
      · exact absurd gd1.2.1 x1
    · exact absurd q (by decide)
  · have z6 := z6 gd
    refine St.needWord (s := 52) (f := fun _ j => bif (w_x w).1.2.2.2.2.1 then s_r (n_k 22) j else none) (st.rw fun gd => ?_) (by omega) (fun u3 st hf3 _ => br_p (fun c => ?_) (fun c => ?_))
    · rw [s_new, z6, cond_true, s_nw, s_b_if, s_b_r]
      rfl
    · refine St.fail (st.f fun gd3 => ?_) (by omega) (fun _ => rfl) (fun u ng st hf => st.bad ng (nid_0 st.ci))
      have y := (st.gd gd3).2.2.2.2.1.1.2.2.2.2.1
      exact bI_0.mp (y.symm.trans c)
    · have st := st.rw (r' := s_r (n_k 22) (i + 1 + 1 + 1)) (fun gd3 => ?_)
      · refine st.mark (by omega) (by decide) (fun u4 st hf4 _ => ?_)
        refine St.node (h := 3) st (by omega) (by omega) (fun n5 u5 st hf5 nw => ?_)
        exact st.ret (fun _ => rfl) (fun _ => rfl) (fun _ => by omega) 1 (fun _ => by omega) (fun _ => Nat.le_refl _) (fun _ => sh_k nw n1 (by have := hf2.nn; have := hf3.nn; have := hf4.nn; omega) rfl) (fun _ => nw.nid)
      · have y := (st.gd gd3).2.2.2.2.1.1.2.2.2.2.1
        cases hx : (w_x w).1.2.2.2.2.1 with
        | true => rfl
        | false => exact absurd (y.trans (by rw [hx]; rfl)) c
end NEW
