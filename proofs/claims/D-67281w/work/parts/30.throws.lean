/-! throws, handlers, switches, copies of arrays -/
theorem so_W.grow {D : va_G} {cA : Nat → ClassId} {A : Nat → Prop} {σ u : mmS} {H H1 : Heap} (hW : so_W D cA A σ H) (hz : H.size ≤ H1.size) (ho : ∀ a : Nat, a < H.size → H1[a]? = H[a]?)
    (en : mm_n u = mm_n σ) (ev : mm_v u = mm_v σ) (ea : mm_a u = mm_a σ) (el : mm_l u = mm_l σ) (ef : mm_f u = mm_f σ) (er : mm_r u = mm_r σ) : so_W D cA A u H1 := by
  have hE : so_E H.size σ u := ⟨fun k _ h => ⟨by rw [en]; exact h, by rw [ev]⟩, fun j hj h0 _ => ⟨j, hj, by rw [← en]; exact h0, by rw [ev]⟩, fun k _ _ => by rw [ev]⟩
  obtain ⟨w1, w2, w3, w4, w5, w6, w7⟩ := hW
  refine ⟨fun k hk h0 => ?_, by rw [en, ev]; exact w2, fun k hk => by rw [ev]; exact Nat.lt_of_lt_of_le (w3 k hk) hz, trivial, by rw [en, ev]; exact w5, by rw [en]; exact w6, by rw [en, ev]; exact w7⟩
  rw [en] at h0
  have g := w1 k hk h0
  unfold so_at at g ⊢
  by_cases c : k < 6
  · rw [if_pos c] at g ⊢
    obtain ⟨q, V, g1, g2, g3, g4⟩ := g
    exact ⟨q, V, g1, g2, by rw [ev]; exact g3.kept (ho _ (w3 k hk)), fun j hj => (g4 j hj).to hz hE (by rw [ef]) (by rw [er]) (by rw [en]) (by rw [ev])⟩
  · rw [if_neg c] at g ⊢
    rw [en, ev, ea, el, ho _ (w3 k hk)]
    exact g
section SOTH
variable {X : so_X} {cc : ByteArray} {nL pc : Nat} {own mn : String} {σ0 : mmS} {rt : Option FieldType}
theorem so_throw (C : so_C X cc nL own mn) (F : so_F9 X σ0 rt) (hout : ∀ x ∈ X.2.2.2.2.2.2.2.2.2.1.exceptionTable.toList, covers x pc = false) (d : decode cc pc = .ok (.athrow, 1)) : so_ok X nL pc (mo_throw 5) := by
  obtain ⟨p, l, e, R, s, m, args, below, meth, c, D, cA, A, E, O, Q, QF⟩ := X
  obtain ⟨hx, hb, hml, hown, hts, hnest, hKK, hvk, hAq, hlk, hmn, hsc⟩ := C
  obtain ⟨hQF, hRc, hRs, hr⟩ := F
  subst hQF
  intro lv st σ K h hK
  match st, h with
  | .inr (.inr (j, a)) :: st, h =>
    obtain ⟨rfl, hq⟩ : j = 5 ∧ Q (.inr 5) σ := h
    intro H locs cells slots ls vs hW hS hA hc hs hl hv
    obtain ⟨w, r, rfl, h1, hv1⟩ := so_iv3 hv
    obtain ⟨h0, ha, rfl⟩ := h1.obj (by decide) (by decide)
    obtain ⟨q, V, g1, -, ⟨cell, c1, c2, c3, c4⟩, g4⟩ := hW.obj (k := 5) (by decide) h0
    cases g1
    refine vx_athrow hx hb d (so_out hout hlk hq (by decide) (by decide) (fun _ => ⟨h0, ha⟩) (ce := cell) (by rw [ha]; exact c1) c3 ?_ hW hS hA hc hs hRc hRs)
    rw [c2]
    exact (hKK.1 4 _ rfl).2.1
theorem so_throwNew (C : so_C X cc nL own mn) (F : so_F9 X σ0 rt) {ik ic e9 : Nat} {names : List String} (h4 : 5 < e9) (h8 : e9 < 8) (hfit : Bundle.fit (so_xn e9) = true) (hnames : ∀ n ∈ names, Bundle.fit n = true)
    (q1 : Cond.classLink own ik (so_xn e9) ∈ lw_all) (q2 : Cond.initialized (so_xn e9) ∈ lw_all) (hct : so_xn e9 ∈ so_ct)
    (hat : (vx_at0 own ic (so_xn e9) names).all (fun w => (decide (w ∈ lw_tbl) && goodWord w) || decide (w = .castable (so_xn e9) (so_xn e9)) || so_dl.any (fun C => decide (w = .declares ⟨C, "<init>", "()V"⟩))) = true)
    (hgood : (Cond.classLink own ik (so_xn e9) :: Cond.initialized (so_xn e9) :: vx_at0 own ic (so_xn e9) names).all vx_ot = true)
    (d0 : decode cc pc = .ok (.new ik, 3)) (d3 : decode cc (pc + 3) = .ok (.dup, 1)) (d4 : decode cc (pc + 4) = .ok (.invokespecial ic, 3)) (d7 : decode cc (pc + 7) = .ok (.athrow, 1))
    (hout : ∀ x ∈ X.2.2.2.2.2.2.2.2.2.1.exceptionTable.toList, covers x (pc + 7) = false) (hR : names.length + 3 < X.2.2.2.1.frames ∧ 13 * (names.length + 1) + 50 ≤ X.2.2.2.1.locals) : so_ok X nL pc (mo_throwNew e9) := by
  obtain ⟨p, l, e, R, s, m, args, below, meth, c, D, cA, A, E, O, Q, QF⟩ := X
  obtain ⟨hx, hb, hml, hown, hts, hnest, hKK, hvk, hAq, hlk, hmn, hscA, hsc, hst, hz1, hz2, hzP⟩ := C
  obtain ⟨hQF, hRc, hRs, hr⟩ := F
  subst hQF
  intro lv st σ K h hK
  intro H locs cells slots ls vs hW hS hA hc hs hl hv
  have h7 : (bif Nat.ble (mm_wt st) 8 then 4 ≤ mm_bc σ ∧ 64 ≤ mm_bs σ ∧ Q (.inr e9) (mm_pay σ 4 64) else False) := h
  cases hbo : Nat.ble (mm_wt st) 8 with
  | false => rw [hbo] at h7; exact h7.elim
  | true =>
    rw [hbo] at h7
    obtain ⟨b1, b2, hq⟩ : 4 ≤ mm_bc σ ∧ 64 ≤ mm_bs σ ∧ Q (.inr e9) (mm_pay σ 4 64) := h7
    have b3 := Nat.le_of_ble_eq_true hbo
    have hwt : (vs.map fun v => v.category).sum = mm_wt st := hv.wt
    have hRl : 13 * (names.length + 1) + 50 ≤ R.locals := hR.2
    have hat' : ∀ w ∈ vx_at0 own ic (so_xn e9) names, w.before args s = true := by
      intro w hw
      have h9 := List.all_eq_true.mp hat w hw
      rw [Bool.or_eq_true, Bool.or_eq_true, Bool.and_eq_true] at h9
      rcases h9 with (⟨g1, g2⟩ | g) | g
      · exact hts _ (lw_g (of_decide_eq_true g1) g2)
      · rw [of_decide_eq_true g]
        exact (hzP.2.2.2.1 _ hct).use
      · obtain ⟨z, z1, z2⟩ := List.any_eq_true.mp g
        rw [of_decide_eq_true z2]
        exact (hzP.2.2.2.2.2 _ z1).use
    refine so_mono ?_ (vx_throw0 (Qc := fun _ _ _ _ => False) (XC := fun Xc st t => Xc = so_xn e9 ∧ so_T D cA E A σ0 s.heap.size (mm_pay σ 4 64) st t (cells + 1) (slots + 6)) (mc := cells + 1) (ms := slots + 6) (free := A) hx hb hst hown hfit hnames (hts _ q1) (hts _ q2) hat'
      (fun w hw => List.all_eq_true.mp hgood w hw) hz1 hz2 hA (hl.1.trans hml.symm) d0 d3 d4 d7 hout hR.1 (by omega) (by omega) (by omega) hlk (fun t _ ht1 ht2 => ⟨rfl, ?_⟩) hA.2.2 (Nat.le_refl _) (Nat.le_refl _))
    · rintro t ⟨o, o1, o2, o3⟩
      rcases o3 with ⟨o3, -⟩ | ⟨q, rfl, E9, ce, L, ⟨rfl, o4⟩, o5, o6, o7, o8, o9, o10⟩
      · exact o3.elim
      · refine ⟨_, o1, o2, Or.inr ⟨q, cells + 1, slots + 6, L, so_xn e9, ce, rfl, ⟨e9, mm_pay σ 4 64, hq, rfl, by omega, h8, fun z => by omega, o4⟩, o5, o6, o7, o8, o9, o10⟩⟩
    · refine ⟨hW.grow ht1 ht2 rfl rfl rfl rfl rfl rfl, hS.on (fun k _ => ⟨rfl, rfl, rfl⟩) (fun k _ h0 => ⟨h0, rfl⟩), ?_, ?_, Nat.le_trans hA.1 ht1, fun q q1 q2 => ?_⟩
      · show cells + 1 + (mm_bc σ - 4) ≤ mm_bc σ0
        omega
      · show slots + 6 + (mm_bs σ - 64) ≤ mm_bs σ0
        omega
      · rw [ht2 q (Nat.lt_of_lt_of_le q1 hA.1)]
        exact hA.2.1 q q1 q2
/-- a call's exceptions are caught -/
def so_Cat (X : so_X) (pc : Nat) (hs : List (Nat × Nat)) : Prop := match X with
  | (p, l, e, R, s, m, args, below, meth, c, _, _, _, _, _, _, QF) => ∀ (K9 : Nat → Prop) (e9 : Nat) (q : Addr) (ce : Cell) (H : Heap) (locs : List Loc) (cells slots : Nat) (ls : Array Slot) (rest : List Value), mm_hx K9 False e9 hs → H[q]? = some ce → ce.vm = .none → s.vm.findClass (so_xn e9) = some ce.cls →
    (∀ t, K9 t → W p l e R s m args below meth c H locs cells slots QF (F0 m t ls [.ref q])) → vx_W p l e R s m args below meth c H locs cells slots QF (F0 m pc ls rest) q
theorem so_cat1 (C : so_C X cc nL own mn) {lo hi t1 ct e1 : Nat} (hT : X.2.2.2.2.2.2.2.2.2.1.exceptionTable.toList = [⟨lo, hi, t1, ct⟩]) (hx : covers ⟨lo, hi, t1, ct⟩ pc = true) (h0 : ct ≠ 0) (hlink : Cond.classLink own ct (so_xn e1) ∈ lw_all) (hct : so_xn e1 ∈ so_ct) : so_Cat X pc [(e1, t1)] := by
  obtain ⟨p, l, e, R, s, m, args, below, meth, c, D, cA, A, E, O, Q, QF⟩ := X
  obtain ⟨hx9, hb, hml, hown, hts, hnest, hKK, hvk, hAq, hlk, hmn, hscA, hsc, hst, hz1, hz2, hzP⟩ := C
  intro K9 e9 q ce H locs cells slots ls rest h hcell hv hcl kk
  obtain ⟨h1, h2⟩ : (e9 = e1 → K9 t1) ∧ (¬ e9 = e1 → False) := h
  by_cases c1 : e9 = e1
  · subst c1
    exact vx_catch hown [] _ [] hT (fun _ h => nomatch h) hx h0 (hts _ hlink) ((hzP.2.2.2.1 _ hct).use) hcell hv hcl (kk _ (h1 rfl))
  · exact (h2 c1).elim
theorem so_cat2 (C : so_C X cc nL own mn) {lo hi t1 t2 ct1 ct2 : Nat} (hT : X.2.2.2.2.2.2.2.2.2.1.exceptionTable.toList = [⟨lo, hi, t1, ct1⟩, ⟨lo, hi, t2, ct2⟩]) (hx : covers ⟨lo, hi, t1, ct1⟩ pc = true) (hx2 : covers ⟨lo, hi, t2, ct2⟩ pc = true) (h01 : ct1 ≠ 0) (h02 : ct2 ≠ 0)
    (hl1 : Cond.classLink own ct1 (so_xn 6) ∈ lw_all) (hl2 : Cond.classLink own ct2 (so_xn 7) ∈ lw_all) : so_Cat X pc [(6, t1), (7, t2)] := by
  obtain ⟨p, l, e, R, s, m, args, below, meth, c, D, cA, A, E, O, Q, QF⟩ := X
  obtain ⟨hx9, hb, hml, hown, hts, hnest, hKK, hvk, hAq, hlk, hmn, hscA, hsc, hst, hz1, hz2, hzP⟩ := C
  intro K9 e9 q ce H locs cells slots ls rest h hcell hv hcl kk
  obtain ⟨h1, h2⟩ : (e9 = 6 → K9 t1) ∧ (¬ e9 = 6 → (e9 = 7 → K9 t2) ∧ (¬ e9 = 7 → False)) := h
  by_cases c1 : e9 = 6
  · subst c1
    exact vx_catch hown [] _ [_] hT (fun _ h => nomatch h) hx h01 (hts _ hl1) ((hzP.2.2.2.1 _ List.mem_cons_self).use) hcell hv hcl (kk _ (h1 rfl))
  · by_cases c2 : e9 = 7
    · subst c2
      refine vx_catch hown [⟨lo, hi, t1, ct1⟩] _ [] hT (fun z hz => ?_) hx2 h02 (hts _ hl2) ((hzP.2.2.2.1 _ (List.mem_cons_of_mem _ List.mem_cons_self)).use) hcell hv hcl (kk _ ((h2 c1).1 rfl))
      rw [List.mem_singleton.mp hz]
      exact Or.inr ⟨h01, _, hts _ hl1, hzP.2.2.2.2.1⟩
    · exact ((h2 c1).2 c2).elim
end SOTH
theorem so_nn {z : Int32} (hz : ¬ z < 0) : z.toInt = (z.toNatClampNeg : Int) := by
  have hz0 : (0 : Int) ≤ z.toInt := by
    have := Int32.not_lt.mp hz
    simpa using Int32.le_iff_toInt_le.mp this
  show z.toInt = ((z.toInt.toNat : Nat) : Int)
  omega
