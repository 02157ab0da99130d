/-! PHASE 3. Statements: what they answer for; statement(), block(), condition(), loop() -/
/-- a statement's node -/
def shS (σ : mmS) (_ : Unit) (_ : Nat) (n : Int32) (u : mmS) : Prop := ∃ k, n = nI k ∧ fN σ 315 ≤ k ∧ k < fN u 315
def cStm (T : sT) (ν : Nat) : Prop := ∀ (a : Nat) (w : cW), w_nu w = ν → CI T shS any2 (50 * ν + 10) 0 0 true 1 w ((s_lv T ν).2.2.2.2.2.2.2 (w_x w)) 3096 [.inr (.inr (3, a))]
def cSti (T : sT) (ν : Nat) : Prop := ∀ (a : Nat) (w : cW), w_nu w = ν → wSl w → CI T shS any2 (50 * ν + 45) 0 1365 true 1 w (s_stmIn T (s_lv T ν) (w_x w)) 3093 [.inr (.inr (3, a))]
theorem h_run_map : ∀ {evs : hE} {L L2 : hC}, h_run evs L = some L2 → L2.map (·.1) = L.map (·.1)
  | [], L, L2, h => by
    have : L = L2 := by simpa [h_run] using h
    rw [this]
  | x :: t, L, L2, h => by
    rw [h_run] at h
    cases h1 : h_ev x.1 x.2 L with
    | none => rw [h1] at h; exact nomatch h
    | some L1 =>
      rw [h1] at h
      rw [h_run_map (evs := t) h]
      unfold h_ev at h1
      cases h7 : x.1 == 7 with
      | true =>
        rw [h7, cond_true] at h1
        cases L with
        | nil => exact nomatch h1
        | cons y z =>
          have : (y.1, bif (h_find y.2 x.2).isSome then y.2 else y.2 ++ [(1, x.2)]) :: z = L1 := Option.some.inj h1
          rw [← this]; rfl
      | false =>
        rw [h7, cond_false] at h1
        cases h9 : Nat.ble 9 x.1 with
        | true =>
          rw [h9, cond_true] at h1
          cases L with
          | nil => exact nomatch h1
          | cons y z =>
            have : (y.1, y.2 ++ [(x.1 - 8, x.2)]) :: z = L1 := Option.some.inj h1
            rw [← this]; rfl
        | false =>
          rw [h9, cond_false] at h1
          exact h_dec_map h1
theorem run_map {β : Type} {inn : Bool} {A : cA} {r : sR β} {v : β} {j : Nat} {B : cA} (h : run inn A r = some (v, j, B)) : B.1.map (·.1) = A.1.map (·.1) := by
  cases hr : r with
  | none => rw [hr] at h; exact nomatch h
  | some z =>
    obtain ⟨v1, j1, α⟩ := z
    rw [hr, run_eq, A_st_eq] at h
    cases hc : α.2.2.2.2.1 && (inn || α.2.1.isEmpty) with
    | false => rw [hc] at h; exact nomatch h
    | true =>
      rw [hc, cond_true] at h
      cases hh : h_run α.2.2.2.2.2 A.1 with
      | none => rw [hh] at h; exact nomatch h
      | some L =>
        rw [hh] at h
        simp only [Option.map_some, Option.some.injEq, Prod.mk.injEq] at h
        obtain ⟨-, -, rfl⟩ := h
        exact h_run_map hh
theorem sim_and {β : Type} {F : hC → hC → Prop} {G : hC → Prop} {x y : Option (β × Nat × cA)} (h : sim F x y) (hy : ∀ v j B, y = some (v, j, B) → G B.1) : sim (fun L L' => F L L' ∧ G L') x y := by
  cases x with
  | none =>
    cases y with
    | none => trivial
    | some z => exact h.elim
  | some z =>
    obtain ⟨v, j, B⟩ := z
    cases y with
    | none => exact h.elim
    | some z2 =>
      obtain ⟨v2, j2, B2⟩ := z2
      exact ⟨h.1, h.2.1, h.2.2.1, h.2.2.2, hy _ _ _ rfl⟩
/-- a block's reading, from within and from outside -/
theorem run_blkM {β : Type} {inn : Bool} {A : cA} {c : Int32} {r : sR β} (h : ev eS r) (ct : h_top c = false) (c27 : (c == 2 || c == 7) = false) : sim (fun L L' => (∃ a, L = (c, a) :: L') ∧ L'.map (·.1) = A.1.map (·.1)) (run inn ((c, []) :: A.1, A.2) r) (run inn A (s_blk r)) :=
  sim_and (run_blk h ct c27) fun _ _ _ e => run_map e
section STM
variable {β : Type} {T : sT} {Sh : β → Nat → Int32 → mmS → Prop} {N : Int32 → mmS → Prop} {g : Nat} {w0 : cW} {m0 e0 : Nat} {θ : cTh} {l0 : Nat} {Z : Int32 → mmS → Prop} {b : Bool} {h : Nat} {w : cW} {A : cA} {m e : Nat} {r : sR β} {σ u : mmS} {i j : Nat}
variable {ν a d : Nat} {Q : mmQ}
/-- begun -/
theorem cG.f14 {x : Int32} (h : cG T w A m e u j) : cG T w A m e (mm_setf u 314 x) j := by
  obtain ⟨h1, h2, h3, h4, h5, h6, h7, h8, h9, h10, h11, h12, hc⟩ := h
  have f (k : Nat) (hk : k ≠ 314) : mm_f (mm_setf u 314 x) k = mm_f u k := f_other hk
  have fe (k : Nat) (hk : k ≠ 314) := fN_eq (f k hk)
  refine ⟨h1.setf rfl, (f 303 (by decide)).trans h2, by rw [f 311 (by decide)]; exact h3, by rw [f 312 (by decide)]; exact h4, h5.of (fun k k1 k2 => f k (by omega)) rfl rfl rfl, by rw [f 346 (by decide), f 347 (by decide)]; exact h6, h7.of (f 324 (by decide)) (f 325 (by decide)) (f 346 (by decide)) (fun _ _ _ => ⟨rfl, rfl⟩), by rw [f 313 (by decide)]; exact h8, by rw [f 360 (by decide)]; exact h9, by rw [fe 336 (by decide), cntF_of (σ := u) (u := mm_setf u 314 x) (fun _ _ => rfl)]; exact h10, by rw [f 359 (by decide)]; exact h11, by rw [f 358 (by decide)]; exact h12, ?_⟩
  unfold cC
  rw [fe 315 (by decide), fe 324 (by decide), fe 336 (by decide), fe 325 (by decide), f 371 (by decide)]
  exact hc
theorem Fr_314 {x : Int32} : Fr θ u (mm_setf u 314 x) := Fr.setf rfl (by decide) (by decide) (by decide) (by decide) (by decide) (by decide)
theorem th_314 {x : Int32} : th (mm_setf u 314 x) = th u := th_setf (by decide) (by decide) (by decide) (by decide)
theorem cB.f14 {x : Int32} (h : cB T g u) : cB T g (mm_setf u 314 x) := h.setf rfl (by decide) (by decide) (by decide)
theorem St.f14 {x : Int32} (st : St T Sh N g w0 m0 e0 θ l0 Z b h w A m e r σ i) : St T Sh N g w0 m0 e0 θ l0 Z b h w A m e r (mm_setf σ 314 x) i :=
  st.same Fr_314 (fun _ => by rw [th_314]; exact tle.rfl') (fun gd => st.tl.2 gd) (fun q => q.f14) (fun q => q.f14)
theorem bd_stmIn {K : Int32 → mmS → Prop} {X : Nat → mmS → Prop} (ng : ¬ GD σ) (hd : 1 ≤ d) (k : K 0 σ) : mm_ci (MC d) 3093 [.inr (.inr (3, a))] σ K X := by
  obtain ⟨d, rfl, hd⟩ := mc_pos hd
  exact mc_ci (P := mt3093) (L := 6) rfl rfl ⟨by decide, Nat.le_of_ble_eq_true rfl⟩ fun Q hK hX => b3093_0 _ _ _ _ _ _ _ _ _ (br_n ng (hK _ _ k))
/-- statement(), behind enter -/
theorem stm_core {wv2 wv3 : Option mmV} (hsi : GD u → cSti T ν) (hw : w_nu w = ν) (hsl : GD u → wSl w) (hd : 5 ≤ d) (hd2 : GD u → 50 * ν + 46 ≤ d) (hq : GD u → g + 1366 ≤ GQ ν) (hm : 24 ≤ m) (en : cG T w A m e u i ∨ (true = true ∧ cB T (g + 0) u)) (k : ∀ n v, Rs T (shS u) any2 g w m e (th u) (i + 1) A (s_stmE T (s_lv T ν) (w_x w) i) u n v → Q (.inl (some (.inl n))) (mm_setf (mm_setf v 314 (mm_f u 314)) 312 ((mm_f (mm_setf v 314 (mm_f u 314)) 312) - 1))) :
    mm_L (mm_setf u 314 (mm_f u 311)) 304 (mm_f (mm_setf u 314 (mm_f u 311)) 311) (fun x2 => mm_br (x2 = 1) (mm_L (mm_setf u 314 (mm_f u 311)) 305 (mm_f (mm_setf u 314 (mm_f u 311)) 311) (fun x3 => mm_br (x3 = 18) (mm_W mt3096 (MC d) Q (142, [some (.inr (.inr (3, a))), some (.inl (mm_f u 314)), wv2, wv3], []) (mm_setf u 314 (mm_f u 311))) (mm_L (mm_setf u 314 (mm_f u 311)) 305 (mm_f (mm_setf u 314 (mm_f u 311)) 311) (fun x4 => mm_br (x4 = 4) (mm_W mt3096 (MC d) Q (142, [some (.inr (.inr (3, a))), some (.inl (mm_f u 314)), wv2, wv3], []) (mm_setf u 314 (mm_f u 311))) (mm_L (mm_setf u 314 (mm_f u 311)) 305 (mm_f (mm_setf u 314 (mm_f u 311)) 311) (fun x5 => mm_br (x5 = 5) (mm_W mt3096 (MC d) Q (142, [some (.inr (.inr (3, a))), some (.inl (mm_f u 314)), wv2, wv3], []) (mm_setf u 314 (mm_f u 311))) (mm_W mt3096 (MC d) Q (70, [some (.inr (.inr (3, a))), some (.inl (mm_f u 314)), wv2, wv3], []) (mm_setf u 314 (mm_f u 311))))))))) (mm_W mt3096 (MC d) Q (146, [some (.inr (.inr (3, a))), some (.inl (mm_f u 314)), wv2, wv3], []) (mm_setf u 314 (mm_f u 311)))) := by
  have hGQ := GQ_le ν
  have st0 : St T (shS u) any2 g w m e (th u) (i + 1) (fun n v => Q (.inl (some (.inl n))) (mm_setf (mm_setf v 314 (mm_f u 314)) 312 ((mm_f (mm_setf v 314 (mm_f u 314)) 312) - 1))) true 0 w A m e (s_stmE T (s_lv T ν) (w_x w) i) u i := by
    rcases en with hG | ⟨-, hB⟩
    · exact Or.inl ⟨hG, tle.rfl', by have := hq hG.2.1; omega, k⟩
    · exact Or.inr ⟨rfl, hB, fun n v f c hn => k n v ⟨f, Or.inr ⟨Or.inr hB.no, c, hn⟩⟩⟩
  have st := st0.f14 (x := mm_f u 311)
  have e315 : fN (mm_setf u 314 (mm_f u 311)) 315 = fN u 315 := fN_eq (f_other (by decide))
  generalize hτ : mm_setf u 314 (mm_f u 311) = τ at st e315 ⊢
  have gτ : GD τ → GD u := fun z => by
    rw [← hτ] at z
    exact (f_other (σ := u) (i := 314) (x := mm_f u 311) (j := 303) (by decide)).symm.trans z
  have w142 : (GD τ → (t_wd T i 18 || t_wd T i 4 || t_wd T i 5 || t_wd T i 38 || s_afun T i) = true) → ∀ wv2 wv3 : Option mmV, mm_W mt3096 (MC d) Q (142, [some (.inr (.inr (3, a))), some (.inl (mm_f u 314)), wv2, wv3], []) τ := fun hz wv2 wv3 => by
    refine b3096_142 _ _ _ _ _ _ _ (br_n (by decide) (st.fail (by omega) (fun gd => ?_) (fun u5 ng st5 hf5 => b3096_163 _ _ _ _ _ _ _ _ (st5.bad ng trivial))))
    unfold s_stmE
    rw [hz gd]; rfl
  have w146 : (GD τ → (t_wd T i 18 || t_wd T i 4 || t_wd T i 5 || t_wd T i 38 || s_afun T i) = false) → ∀ wv2 wv3 : Option mmV, mm_W mt3096 (MC d) Q (146, [some (.inr (.inr (3, a))), some (.inl (mm_f u 314)), wv2, wv3], []) τ := fun hz wv2 wv3 => by
    refine b3096_146 _ _ _ _ _ _ _ (br_y rfl ?_)
    by_cases gd : GD τ
    · have st2 := st.rw (r' := s_b (s_stmIn T (s_lv T ν) (w_x w) i) (fun _ k => s_r () k)) (fun gd => by unfold s_stmE; rw [hz gd, cond_false]; exact s_b_ret.symm)
      have hq := hq (gτ gd)
      have hd2 := hd2 (gτ gd)
      refine St.call (h := 0) (hsi (gτ gd) a w hw (hsl (gτ gd))) () (st2.rise gd (by omega)) (fun _ => rfl) (by omega) (by rw [hw]; omega) hm rfl (fun v j B q n u4 st4 f4 hj4 hs4 hn4 => b3096_163 _ _ _ _ _ _ _ _ ?_)
      refine st4.ret (fun _ => rfl) (fun _ => rfl) hj4 q (fun _ => by omega) (fun _ => Nat.le_refl _) (fun gd4 => ?_) (fun _ => trivial)
      obtain ⟨kk, k1, k2, k3⟩ := hs4 gd4
      exact ⟨kk, k1, by omega, k3⟩
    · exact bd_stmIn gd (by omega) (b3096_163 _ _ _ _ _ _ _ _ (st.bad gd trivial))
  have hw5 : ∀ {s : Int32} {x : Int32}, (GD τ → T.1 i = 1) → (GD τ → t_v T i = x) → GD τ → t_wd T i s = (x == s) := fun h1 h2 gd => by
    unfold t_wd
    rw [h1 gd, ← h2 gd]; rfl
  refine st.rdk (fun x2 h2 _ => br_p (fun c1 => st.rdv (fun x3 h3 => br_p (fun c18 => w142 (fun gd => ?_) _ _) (fun c18 => st.rdv (fun x4 h4 => br_p (fun c4 => w142 (fun gd => ?_) _ _) (fun c4 => st.rdv (fun x5 h5 => br_p (fun c5 => w142 (fun gd => ?_) _ _) (fun c5 => ?_))))))) (fun c1 => w146 (fun gd => ?_) _ _))
  · rw [hw5 (fun gd => (h2 gd).trans c1) h3 gd, c18]; rfl
  · rw [hw5 (s := 4) (fun gd => (h2 gd).trans c1) h4 gd, c4]; simp
  · rw [hw5 (s := 5) (fun gd => (h2 gd).trans c1) h5 gd, c5]; simp
  · have k1 : GD τ → T.1 i = 1 := fun gd => (h2 gd).trans c1
    have z18 : GD τ → t_wd T i 18 = false := fun gd => by rw [hw5 k1 h3 gd]; exact beq_eq_false_iff_ne.mpr c18
    have z4 : GD τ → t_wd T i 4 = false := fun gd => by rw [hw5 k1 h4 gd]; exact beq_eq_false_iff_ne.mpr c4
    have z5 : GD τ → t_wd T i 5 = false := fun gd => by rw [hw5 k1 h5 gd]; exact beq_eq_false_iff_ne.mpr c5
    refine b3096_70 _ _ _ _ _ _ _ (st.rdv (fun x6 h6 => br_p (fun c38 => w142 (fun gd => ?_) _ _) (fun c38 => st.rdv (fun x7 h7 => br_p (fun c47 => st.rdk1 (fun y1 hy1 _ => br_p (fun d1 => st.rdv1 (fun y2 hy2 => br_p (fun d18 => st.lineAt1 (by omega) (fun zl => w142 (fun gd => ?_) _ _) (fun zl => w146 (fun gd => ?_) _ _)) (fun d18 => w146 (fun gd => ?_) _ _))) (fun d1 => w146 (fun gd => ?_) _ _))) (fun c47 => w146 (fun gd => ?_) _ _)))))
    · rw [hw5 (s := 38) k1 h6 gd, c38]; simp
    · have : s_afun T i = true := by
        unfold s_afun
        rw [hw5 (s := 47) k1 h7 gd, c47, zl gd]
        unfold t_wd
        rw [hy1 gd, d1, show T.2.1 (i + 1) = y2 from hy2 gd, d18]; rfl
      rw [this, Bool.or_true]
    · rw [z18 gd, z4 gd, z5 gd, hw5 (s := 38) k1 h6 gd, beq_eq_false_iff_ne.mpr c38]
      unfold s_afun
      rw [zl gd]; simp
    · rw [z18 gd, z4 gd, z5 gd, hw5 (s := 38) k1 h6 gd, beq_eq_false_iff_ne.mpr c38]
      unfold s_afun
      have : t_wd T (i + 1) 18 = false := by
        unfold t_wd
        rw [show T.2.1 (i + 1) = y2 from hy2 gd, beq_eq_false_iff_ne.mpr d18, Bool.and_false]
      rw [this]; simp
    · rw [z18 gd, z4 gd, z5 gd, hw5 (s := 38) k1 h6 gd, beq_eq_false_iff_ne.mpr c38]
      unfold s_afun
      have : t_wd T (i + 1) 18 = false := by
        unfold t_wd
        rw [hy1 gd, beq_eq_false_iff_ne.mpr d1]; rfl
      rw [this]; simp
    · rw [z18 gd, z4 gd, z5 gd, hw5 (s := 38) k1 h6 gd, beq_eq_false_iff_ne.mpr c38]
      unfold s_afun
      rw [hw5 (s := 47) k1 h7 gd, beq_eq_false_iff_ne.mpr c47]; rfl
  · have z : ∀ s, t_wd T i s = false := fun s => by
      unfold t_wd
      rw [h2 gd, beq_eq_false_iff_ne.mpr c1]; rfl
    unfold s_afun
    rw [z 18, z 4, z 5, z 38, z 47]; rfl
theorem stm_up (hsi : cSti T ν) : cStm T (ν + 1) := by
  intro a w hw d g A m e i σ K X hd hq hm en k
  obtain ⟨d, rfl, hd⟩ := mc_pos (c := 50 * ν + 59) (by omega)
  refine mc_ci (P := mt3096) (L := 4) rfl rfl ⟨by decide, Nat.le_of_ble_eq_true rfl⟩ fun Q hK hX => b3096_0 _ _ _ _ _ _ _ ?_
  rcases en with hG | ⟨-, hB⟩
  · have ok := hG.ok
    rw [hw] at hq
    have hQ : GQ ν = GQ (ν + 1) + 1370 := by
      have := ok.1
      unfold GQ
      omega
    have hGQ := GQ_le (ν + 1)
    have hν : w_nu w - 1 = ν := by omega
    have st : St T (shS σ) any2 g w m e (th σ) (i + 1) (fun n u => Q (.inl (some (.inl n))) u) false 0 w A m e (s_stmE T (s_lv T ν) (w_x w) i) σ i := Or.inl ⟨hG, tle.rfl', by omega, fun n u rs => hK _ _ (k n u rs)⟩
    refine st.enter (by omega) (fun z => by omega) (fun u st hf hp he => ?_)
    rw [hν] at st
    have st2 := st.rw (r' := s_b (s_stmE T (s_lv T ν) (w_x w) i) (fun _ k => s_r () k)) (fun _ => s_b_ret.symm)
    have l1 := hf.nn
    refine St.callP (h := 0) (c := 0) (m' := m) (s := 1) (bb := true) (Sh' := shS) (N' := any2) (r1 := s_stmE T (s_lv T ν) (w_x w)) (C := fun n v => Q (.inl (some (.inl n))) (mm_setf (mm_setf v 314 (mm_f u 314)) 312 ((mm_f (mm_setf v 314 (mm_f u 314)) 312) - 1))) (fun en kk => stm_core (w := dn w ν) (fun _ => hsi) rfl (fun _ => wSl_dn ok (by omega)) (by omega) (fun _ => by omega) (fun _ => by omega) hm en kk) () st2 (fun _ => rfl) rfl (fun v j B q n u4 st4 f4 hj4 hs4 hn4 => ?_)
    rw [← hν] at st4
    have st5 := (st4.f14 (x := mm_f u 314)).leave (fun _ => by omega) ok
    refine st5.ret (fun _ => rfl) (fun _ => rfl) (fun gd => hj4 gd) q (fun _ => Nat.le_refl _) (fun _ => Nat.le_refl _) (fun gd => ?_) (fun _ => trivial)
    obtain ⟨kk, k1, k2, k3⟩ := hs4 gd
    exact ⟨kk, k1, by omega, k3⟩
  · refine bd_enter hB (by omega) (fun u c f s => ?_)
    refine stm_core (g := g) (w := dn w ν) (A := A) (m := m) (e := e) (i := i) (fun _ => hsi) rfl (fun z => absurd z c.no) (by omega) (fun z => absurd z c.no) (fun z => absurd z c.no) hm (Or.inr ⟨rfl, c⟩) (fun n v rs => ?_)
    obtain ⟨f2, rs⟩ := rs
    rcases rs with ⟨v1, j, B, q, x1, x2, -⟩ | ⟨x1, x2, x3⟩
    · exact absurd (f2.1 x2.2.1) c.no
    · exact hK _ _ (k _ _ ⟨((f.trans (f2.mono fun z => absurd z c.no)).trans Fr_314).trans Fr_312', Or.inr ⟨Or.inr hB.no, (x2.f14).setf rfl (by decide) (by decide) (by decide), trivial⟩⟩)
def shS0 (_ : Unit) (_ : Nat) (_ : Int32) (_ : mmS) : Prop := True
theorem stm_no : cStm T 0 := by
  intro a w hw d g A m e i σ K X hd hq hm en k
  obtain ⟨d, rfl, hd⟩ := mc_pos (c := 9) (by omega)
  refine mc_ci (P := mt3096) (L := 4) rfl rfl ⟨by decide, Nat.le_of_ble_eq_true rfl⟩ fun Q hK hX => b3096_0 _ _ _ _ _ _ _ ?_
  -- from a bad state on
  have go : ∀ (u : mmS), cB T g u → (∀ n v, Fr (th u) u v → cB T g v → Q (.inl (some (.inl n))) v) → mm_L (mm_setf u 314 (mm_f u 311)) 304 (mm_f (mm_setf u 314 (mm_f u 311)) 311) (fun x2 => mm_br (x2 = 1) (mm_L (mm_setf u 314 (mm_f u 311)) 305 (mm_f (mm_setf u 314 (mm_f u 311)) 311) (fun x3 => mm_br (x3 = 18) (mm_W mt3096 (MC d) Q (142, [some (.inr (.inr (3, a))), some (.inl (mm_f u 314)), none, none], []) (mm_setf u 314 (mm_f u 311))) (mm_L (mm_setf u 314 (mm_f u 311)) 305 (mm_f (mm_setf u 314 (mm_f u 311)) 311) (fun x4 => mm_br (x4 = 4) (mm_W mt3096 (MC d) Q (142, [some (.inr (.inr (3, a))), some (.inl (mm_f u 314)), none, none], []) (mm_setf u 314 (mm_f u 311))) (mm_L (mm_setf u 314 (mm_f u 311)) 305 (mm_f (mm_setf u 314 (mm_f u 311)) 311) (fun x5 => mm_br (x5 = 5) (mm_W mt3096 (MC d) Q (142, [some (.inr (.inr (3, a))), some (.inl (mm_f u 314)), none, none], []) (mm_setf u 314 (mm_f u 311))) (mm_W mt3096 (MC d) Q (70, [some (.inr (.inr (3, a))), some (.inl (mm_f u 314)), none, none], []) (mm_setf u 314 (mm_f u 311))))))))) (mm_W mt3096 (MC d) Q (146, [some (.inr (.inr (3, a))), some (.inl (mm_f u 314)), none, none], []) (mm_setf u 314 (mm_f u 311)))) := fun u c kb =>
    stm_core (ν := 0) (g := g) (w := dn w 0) (A := A) (m := m) (e := e) (i := i) (fun z => absurd z c.no) rfl (fun z => absurd z c.no) (by omega) (fun z => absurd z c.no) (fun z => absurd z c.no) hm (Or.inr ⟨rfl, c⟩) (fun n v rs => by
      obtain ⟨f2, rs⟩ := rs
      rcases rs with ⟨v1, j, B, q, x1, x2, -⟩ | ⟨x1, x2, x3⟩
      · exact absurd (f2.1 x2.2.1) c.no
      · exact kb n _ ((f2.trans Fr_314).trans Fr_312') ((x2.f14).setf rfl (by decide) (by decide) (by decide)))
  rcases en with hG | ⟨-, hB⟩
  · have st : St T shS0 any2 g w m e (th σ) (i + 1) (fun n u => Q (.inl (some (.inl n))) u) false 0 w A m e ((s_lv T 0).2.2.2.2.2.2.2 (w_x w) i) σ i := Or.inl ⟨hG, tle.rfl', by have := GQ_le (w_nu w); omega, fun n u rs => hK _ _ (k n u (by
      obtain ⟨f2, rs⟩ := rs
      refine ⟨f2, ?_⟩
      rcases rs with ⟨v1, j, B, q, x1, -⟩ | x
      · exact nomatch x1
      · exact Or.inr x))⟩
    refine st.enter (by omega) (fun _ => rfl) (fun u st hf hp he => ?_)
    have ng : ¬ GD u := fun z => by have := hp z; omega
    rcases st with ⟨q1, -⟩ | ⟨-, c, kb⟩
    · exact absurd q1.2.1 ng
    · exact go u c (fun n v f c2 => kb n v (f.mono fun z => absurd z ng) c2 trivial)
  · refine bd_enter hB (by omega) (fun u c f s => ?_)
    exact go u c (fun n v f2 c2 => hK _ _ (k _ _ ⟨f.trans (f2.mono fun z => absurd z c.no), Or.inr ⟨Or.inr hB.no, c2, trivial⟩⟩))
end STM
