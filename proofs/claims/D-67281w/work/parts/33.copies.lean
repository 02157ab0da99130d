/-! copies of arrays -/
section SOCP
variable {p : Program} {l : Launch} {e : Env} {R : Room} {s : State} {m : MethodId} {args : Array Value} {below : List Frame} {meth : Method} {c : Code} {H : Heap} {locs : List Loc} {cells slots : Nat} {Q : State → Prop} {pc : Nat} {ls : Array Slot} {rest : List Value}
theorem so_cpI {cc : ByteArray} (hexec : p.tables.exec = Jvm.exec) (hb : c.code = cc) (hml : c.maxLocals = ls.size) {own : String} {index : Nat} (hown : s.vm.findClass own = some m.cls) (hlink : (Cond.methodLink own index arraycopyName).before args s = true) (hnat : (Cond.native arraycopyName).before args s = true) (hstat : (Cond.static arraycopyName).before args s = true) (hini : (Cond.initialized "java/lang/System").before args s = true)
    {a0 a n0 n1 : Nat} {c0 c1 : ClassId} {f g : Nat → Int32} {ty : FieldType} (hc0 : H[a0]? = some (vp_cell c0 (n0, .inl f))) (hc1 : H[a]? = some (vp_cell c1 (n1, .inl g))) (hA0 : ArrOfT s c0 ty) (hA1 : ArrOfT s c1 ty) (hprim : refKind ty = false)
    {sp dp n : Int32} (h1 : ¬ sp < 0) (h2 : ¬ dp < 0) (h3 : ¬ n < 0) (h4 : sp.toNatClampNeg + n.toNatClampNeg ≤ n0) (h5 : dp.toNatClampNeg + n.toNatClampNeg ≤ n1) (hfit : ∀ i, i < n.toNatClampNeg → fits ty (.int (f (sp.toNatClampNeg + i))) = true)
    (hframes : 1 ≤ R.frames) (hlocals : (rest.map fun v => v.category).sum + (nativeFrameWords "java/lang/System" "arraycopy" 5 + 11) ≤ R.locals) (hdg : decode cc pc = .ok (.invokestatic index, 3))
    (kk : ∀ locs1 : List Loc, (∀ z ∈ locs1, z ∈ locs ∨ z.base = a) → W p l e R s m args below meth c (H.setIfInBounds a (vp_cell c1 (n1, .inl (va_cpy f g sp.toNatClampNeg dp.toNatClampNeg n.toNatClampNeg)))) locs1 cells slots Q (F0 m (pc + 3) ls rest)) : W p l e R s m args below meth c H locs cells slots Q (F0 m pc ls (.int n :: .int dp :: .ref a :: .int sp :: .ref a0 :: rest)) := by
  intro T hT X
  obtain ⟨-, k0, hk0, cm0, hkk0⟩ := hA0 n0 (fun j => .int (f j))
  obtain ⟨-, k1, hk1, cm1, hkk1⟩ := hA1 n1 (fun j => .int (g j))
  obtain ⟨vm', X', step⟩ := X.arraycopy hexec hown hlink hnat hstat hini (src := a0) (dst := a) (cs := vp_cell c0 (n0, .inl f)) (cd := vp_cell c1 (n1, .inl g)) (srcPos := sp) (destPos := dp) (n := n) (by rw [hT]; exact hc0) (by rw [hT]; exact hc1)
    (fun _ h => by cases h) (fun _ h => by cases h) (fun h => by cases h) (fun h => by cases h) hk0 hk1 hkk0 hkk1 (by simp [hprim]) h1 h2 h3
    (by rw [so_nn h1, so_nn h3]; show ¬ _ > ((arrV c0 n0 (fun j => .int (f j))).slots.size : Int); rw [arrV_size]; omega)
    (by rw [so_nn h2, so_nn h3]; show ¬ _ > ((arrV c1 n1 (fun j => .int (g j))).slots.size : Int); rw [arrV_size]; omega)
    (fun vm₁ _ i hi => by
      have e : (vp_cell c0 (n0, .inl f)).slots.getD (sp.toNatClampNeg + i) .null = .int (f (sp.toNatClampNeg + i)) := by
        show (arrV c0 n0 (fun j => .int (f j))).slots.getD _ _ = _
        rw [Array.getD_eq_getD_getElem?, arrV_read _ _ (by omega)]
        rfl
      refine ⟨?_, ?_⟩
      · rw [e]
        exact hfit i hi
      · rw [e]
        exact trivial)
    (g := F0 m pc ls (.int n :: .int dp :: .ref a :: .int sp :: .ref a0 :: rest)) rfl (by rw [hml]) (rest := rest) rfl (by rw [hb]; exact hdg) hframes (by show 2 * 0 + _ + _ ≤ _; omega)
  have e1 : copied (vp_cell c0 (n0, .inl f)) (vp_cell c1 (n1, .inl g)) sp dp n = vp_cell c1 (n1, .inl (va_cpy f g sp.toNatClampNeg dp.toNatClampNeg n.toNatClampNeg)) := va_copied (fun z => .int z) c0 c1 f g h4
  rw [e1] at X' step
  have hheap : ((T.setVm vm').setCell a (vp_cell c1 (n1, .inl (va_cpy f g sp.toNatClampNeg dp.toNatClampNeg n.toNatClampNeg)))).heap = H.setIfInBounds a (vp_cell c1 (n1, .inl (va_cpy f g sp.toNatClampNeg dp.toNatClampNeg n.toNatClampNeg))) := by rw [← hT]; rfl
  obtain ⟨t, a1, b1⟩ := kk _ (fun q hq => by
      rcases List.mem_append.mp hq with h | h
      · exact Or.inl h
      · obtain ⟨z, -, hz⟩ := List.mem_map.mp h
        rw [← hz]
        exact Or.inr rfl) _ hheap X'
  exact ⟨t, step t a1, b1⟩

theorem so_cpL {cc : ByteArray} (hexec : p.tables.exec = Jvm.exec) (hb : c.code = cc) (hml : c.maxLocals = ls.size) {own : String} {index : Nat} (hown : s.vm.findClass own = some m.cls) (hlink : (Cond.methodLink own index arraycopyName).before args s = true) (hnat : (Cond.native arraycopyName).before args s = true) (hstat : (Cond.static arraycopyName).before args s = true) (hini : (Cond.initialized "java/lang/System").before args s = true)
    {a0 a n0 n1 : Nat} {c0 c1 : ClassId} {f g : Nat → Int64} {ty : FieldType} (hc0 : H[a0]? = some (vp_cell c0 (n0, .inr (.inl f)))) (hc1 : H[a]? = some (vp_cell c1 (n1, .inr (.inl g)))) (hA0 : ArrOfT s c0 ty) (hA1 : ArrOfT s c1 ty) (hprim : refKind ty = false)
    {sp dp n : Int32} (h1 : ¬ sp < 0) (h2 : ¬ dp < 0) (h3 : ¬ n < 0) (h4 : sp.toNatClampNeg + n.toNatClampNeg ≤ n0) (h5 : dp.toNatClampNeg + n.toNatClampNeg ≤ n1) (hfit : ∀ i, i < n.toNatClampNeg → fits ty (.long (f (sp.toNatClampNeg + i))) = true)
    (hframes : 1 ≤ R.frames) (hlocals : (rest.map fun v => v.category).sum + (nativeFrameWords "java/lang/System" "arraycopy" 5 + 11) ≤ R.locals) (hdg : decode cc pc = .ok (.invokestatic index, 3))
    (kk : ∀ locs1 : List Loc, (∀ z ∈ locs1, z ∈ locs ∨ z.base = a) → W p l e R s m args below meth c (H.setIfInBounds a (vp_cell c1 (n1, .inr (.inl (va_cpy f g sp.toNatClampNeg dp.toNatClampNeg n.toNatClampNeg))))) locs1 cells slots Q (F0 m (pc + 3) ls rest)) : W p l e R s m args below meth c H locs cells slots Q (F0 m pc ls (.int n :: .int dp :: .ref a :: .int sp :: .ref a0 :: rest)) := by
  intro T hT X
  obtain ⟨-, k0, hk0, cm0, hkk0⟩ := hA0 n0 (fun j => .long (f j))
  obtain ⟨-, k1, hk1, cm1, hkk1⟩ := hA1 n1 (fun j => .long (g j))
  obtain ⟨vm', X', step⟩ := X.arraycopy hexec hown hlink hnat hstat hini (src := a0) (dst := a) (cs := vp_cell c0 (n0, .inr (.inl f))) (cd := vp_cell c1 (n1, .inr (.inl g))) (srcPos := sp) (destPos := dp) (n := n) (by rw [hT]; exact hc0) (by rw [hT]; exact hc1)
    (fun _ h => by cases h) (fun _ h => by cases h) (fun h => by cases h) (fun h => by cases h) hk0 hk1 hkk0 hkk1 (by simp [hprim]) h1 h2 h3
    (by rw [so_nn h1, so_nn h3]; show ¬ _ > ((arrV c0 n0 (fun j => .long (f j))).slots.size : Int); rw [arrV_size]; omega)
    (by rw [so_nn h2, so_nn h3]; show ¬ _ > ((arrV c1 n1 (fun j => .long (g j))).slots.size : Int); rw [arrV_size]; omega)
    (fun vm₁ _ i hi => by
      have e : (vp_cell c0 (n0, .inr (.inl f))).slots.getD (sp.toNatClampNeg + i) .null = .long (f (sp.toNatClampNeg + i)) := by
        show (arrV c0 n0 (fun j => .long (f j))).slots.getD _ _ = _
        rw [Array.getD_eq_getD_getElem?, arrV_read _ _ (by omega)]
        rfl
      refine ⟨?_, ?_⟩
      · rw [e]
        exact hfit i hi
      · rw [e]
        exact trivial)
    (g := F0 m pc ls (.int n :: .int dp :: .ref a :: .int sp :: .ref a0 :: rest)) rfl (by rw [hml]) (rest := rest) rfl (by rw [hb]; exact hdg) hframes (by show 2 * 0 + _ + _ ≤ _; omega)
  have e1 : copied (vp_cell c0 (n0, .inr (.inl f))) (vp_cell c1 (n1, .inr (.inl g))) sp dp n = vp_cell c1 (n1, .inr (.inl (va_cpy f g sp.toNatClampNeg dp.toNatClampNeg n.toNatClampNeg))) := va_copied (fun z => .long z) c0 c1 f g h4
  rw [e1] at X' step
  have hheap : ((T.setVm vm').setCell a (vp_cell c1 (n1, .inr (.inl (va_cpy f g sp.toNatClampNeg dp.toNatClampNeg n.toNatClampNeg))))).heap = H.setIfInBounds a (vp_cell c1 (n1, .inr (.inl (va_cpy f g sp.toNatClampNeg dp.toNatClampNeg n.toNatClampNeg)))) := by rw [← hT]; rfl
  obtain ⟨t, a1, b1⟩ := kk _ (fun q hq => by
      rcases List.mem_append.mp hq with h | h
      · exact Or.inl h
      · obtain ⟨z, -, hz⟩ := List.mem_map.mp h
        rw [← hz]
        exact Or.inr rfl) _ hheap X'
  exact ⟨t, step t a1, b1⟩

end SOCP
theorem so_le7 {x : Int32} (h : x < 128) : x ≤ 127 := by
  rw [Int32.le_iff_toInt_le]
  have h1 := Int32.lt_iff_toInt_lt.mp h
  have e1 : (128 : Int32).toInt = 128 := rfl
  have e2 : (127 : Int32).toInt = 127 := rfl
  omega
theorem so_le16 {x : Int32} (h : x < 65536) : x ≤ 65535 := by
  rw [Int32.le_iff_toInt_le]
  have h1 := Int32.lt_iff_toInt_lt.mp h
  have e1 : (65536 : Int32).toInt = 65536 := rfl
  have e2 : (65535 : Int32).toInt = 65535 := rfl
  omega
theorem so_fit {x : Int32} : ∀ {d : Nat}, d < 5 → mm_fit d x → fits (so_ty d) (.int x) = true
  | 0, _, _ => rfl
  | 1, _, h => by have := so_nar_b h; simp only [so_ty, fits]; simp; exact ⟨h.1, so_le7 h.2⟩
  | 2, _, h => by rcases h with rfl | rfl <;> rfl
  | 3, _, h => by have := so_nar_c h; simp only [so_ty, fits]; simp; exact ⟨h.1, so_le16 h.2⟩
  | 4, _, h => absurd h id
  | n + 5, h, _ => absurd h (by omega)
theorem so_prim : ∀ {d : Nat}, d < 5 → refKind (so_ty d) = false
  | 0, _ => rfl
  | 1, _ => rfl
  | 2, _ => rfl
  | 3, _ => rfl
  | 4, _ => rfl
  | n + 5, h => absurd h (by omega)
theorem so_arrOf {D : va_G} {cA : Nat → ClassId} {s : State} (hK : va_K D so_cl (so_tys cA) s) : ∀ {d : Nat}, d < 5 → ArrOfT s (cA d) (so_ty d)
  | 0, _ => (hK.2 0 _ rfl).1
  | 1, _ => (hK.2 1 _ rfl).1
  | 2, _ => (hK.2 2 _ rfl).1
  | 3, _ => (hK.2 3 _ rfl).1
  | 4, _ => (hK.2 4 _ rfl).1
  | n + 5, h => absurd h (by omega)
section SOCQ
variable {X : so_X} {cc : ByteArray} {nL pc : Nat} {own mn : String}

theorem so_acopy (C : so_C X cc nL own mn) {index : Nat} (hR : 1 ≤ X.2.2.2.1.frames ∧ 64 ≤ X.2.2.2.1.locals) (d : decode cc pc = .ok (.invokestatic index, 3)) (q1 : Cond.methodLink own index arraycopyName ∈ lw_all) (q2 : Cond.native arraycopyName ∈ lw_all) (q3 : Cond.static arraycopyName ∈ lw_all) (q4 : Cond.initialized "java/lang/System" ∈ lw_all) : so_ok X nL pc (mo_acopy) := by
  obtain ⟨p, l, e, R, s, m, args, below, meth, c, D, cA, A, E, O, Q, QF⟩ := X
  obtain ⟨hx, hb, hml, hown, hts, hnest, hKK, hvk, hAq, -⟩ := C
  intro lv st9 σ K h hK
  match st9, h with
  | .inl n :: .inl dp :: .inr (.inr (k, q)) :: .inl sp :: .inr (.inr (j, qq)) :: st, h =>
    intro H locs cells slots ls vs hW hS hA hc hs hl hv
    obtain ⟨r1, rfl, hv1⟩ := so_iv1 (v := .inl 0) hv
    obtain ⟨r2, rfl, hv2⟩ := so_iv1 (v := .inl 0) hv1
    obtain ⟨w1, r3, rfl, hw1, hv3⟩ := so_iv3 hv2
    obtain ⟨r4, rfl, hv4⟩ := so_iv1 (v := .inl 0) hv3
    obtain ⟨w2, r, rfl, hw2, hv5⟩ := so_iv3 hv4
    have h7 : (bif Nat.ble 89 j && Nat.blt j 1000 && Nat.ble (mm_wt st) 8 then mm_acp σ 2 n dp k q sp 89 qq (fun u => K (pc + 3, lv, st) u) else False) := h
    clear h
    cases hbo : Nat.ble 89 j && Nat.blt j 1000 && Nat.ble (mm_wt st) 8 with
    | false => rw [hbo] at h7; exact h7.elim
    | true =>
      rw [hbo] at h7
      obtain ⟨b1, b3⟩ := Bool.and_eq_true_iff.mp hbo
      obtain ⟨b1, b2⟩ := Bool.and_eq_true_iff.mp b1
      replace b1 := Nat.le_of_ble_eq_true b1
      replace b2 := Nat.blt_eq.mp b2
      have hwt := hv5.wt
      have b9 := Nat.le_of_ble_eq_true b3
      obtain ⟨c1, c2, c3, rfl, rfl, rfl, rfl, c4, c5, c6, c7, c8, cf, h8⟩ : mm_acp σ 2 n dp k q sp 89 qq (fun u => K (pc + 3, lv, st) u) := h7
      have hj : 89 ≤ 89 ∧ 89 < 1000 := so_kd_lt (by rw [c2]; omega)
      have hk : 89 ≤ k ∧ k < 1000 := so_kd_lt (by rw [c3]; omega)
      rw [(so_rr.arr hw1 hk).2.2 k hk.2 c8 rfl]
      rw [(so_rr.arr hw2 ⟨b1, b2⟩).2.2 89 hj.2 c7 rfl]
      have g0 := hW.arr hj c7
      have g1 := hW.arr hk c8
      rw [c2, if_neg (by omega)] at g0
      rw [c3, if_neg (by omega)] at g1
      have hz : ((0 : Int32)).toNatClampNeg = 0 := rfl
      refine so_cpI hx hb (hml.trans hl.1.symm) hown (hts _ q1) (hts _ q2) (hts _ q3) (hts _ q4) g0 g1 (so_arrOf hKK (by omega)) (so_arrOf hKK (by omega)) (so_prim (by omega)) (by decide) (by decide) c4 (by rw [hz]; omega) (by rw [hz]; omega) (fun i hi => so_fit (by omega) (by rw [hz, Nat.zero_add]; exact cf i hi)) hR.1 (by show _ + (5 + 2 + 11) ≤ R.locals; have := (show 64 ≤ R.locals from hR.2); omega) d (fun locs1 hlo => ?_)
      have hlt := hW.2.2.1 k hk.2
      have W1 : so_W D cA A (mm_fill σ k (fun i => if i < n.toNatClampNeg then mm_a σ 89 i else mm_a σ k i)) (H.setIfInBounds (mm_v σ k) (vp_cell (cA 2) (mm_n σ k, .inl (va_cpy (mm_a σ 89) (mm_a σ k) (0 : Int32).toNatClampNeg (0 : Int32).toNatClampNeg n.toNatClampNeg)))) := by
        refine hW.cell hk c8 (by simp) (fun a ha => by simp [Array.getElem?_setIfInBounds, Ne.symm ha]) ?_ rfl rfl rfl rfl (fun i hi => ?_)
        · rw [Array.getElem?_setIfInBounds, if_pos rfl, if_pos hlt, c3]
          have e1 : va_cpy (mm_a σ 89) (mm_a σ k) 0 0 n.toNatClampNeg = mm_a (mm_fill σ k (fun i => if i < n.toNatClampNeg then mm_a σ 89 i else mm_a σ k i)) k := by
            funext i
            simp only [va_cpy, Nat.zero_le, true_and, Nat.zero_add, Nat.sub_zero, mm_a, mm_filll, mm_fill, mm_up]
            simp
          rw [hz, e1]
          rfl
        · constructor
          · simp [mm_a, mm_fill, mm_filll, mm_up, hi]
          · simp [mm_l, mm_fill, mm_filll, mm_up, hi]
      refine hK _ _ h8 _ locs1 cells slots ls r W1 (hS.on (fun i hi => ⟨rfl, rfl, by simp [mm_a, mm_fill, mm_up, show i ≠ k by omega]⟩) (fun i _ h0 => ⟨h0, rfl⟩)) ⟨by simpa using hA.1, fun z z1 z2 => ?_, fun z hz9 => ?_⟩ hc hs (by refine so_lv.same (σ := σ) ?_ ?_ (by simpa using hl) <;> rfl) (by refine so_st.same (σ := σ) ?_ ?_ (by simpa using hv5) <;> rfl)
      · rw [Array.getElem?_setIfInBounds, if_neg (fun z9 => z2 (by rw [← z9]; exact hW.2.2.2.2.1 k hk.2 c8))]
        exact hA.2.1 z z1 z2
      · rcases hlo z hz9 with z9 | z9
        · exact hA.2.2 z z9
        · rw [z9]; exact hW.2.2.2.2.1 k hk.2 c8

theorem so_acopyT (C : so_C X cc nL own mn) {index : Nat} {d9 : Nat} (hd9 : d9 < 4) (hR : 1 ≤ X.2.2.2.1.frames ∧ 64 ≤ X.2.2.2.1.locals) (d : decode cc pc = .ok (.invokestatic index, 3)) (q1 : Cond.methodLink own index arraycopyName ∈ lw_all) (q2 : Cond.native arraycopyName ∈ lw_all) (q3 : Cond.static arraycopyName ∈ lw_all) (q4 : Cond.initialized "java/lang/System" ∈ lw_all) : so_ok X nL pc (mo_acopyT d9) := by
  obtain ⟨p, l, e, R, s, m, args, below, meth, c, D, cA, A, E, O, Q, QF⟩ := X
  obtain ⟨hx, hb, hml, hown, hts, hnest, hKK, hvk, hAq, -⟩ := C
  intro lv st9 σ K h hK
  match st9, h with
  | .inl n :: .inl dp :: .inr (.inr (k, q)) :: .inl sp :: .inr (.inr (j, qq)) :: st, h =>
    intro H locs cells slots ls vs hW hS hA hc hs hl hv
    obtain ⟨r1, rfl, hv1⟩ := so_iv1 (v := .inl 0) hv
    obtain ⟨r2, rfl, hv2⟩ := so_iv1 (v := .inl 0) hv1
    obtain ⟨w1, r3, rfl, hw1, hv3⟩ := so_iv3 hv2
    obtain ⟨r4, rfl, hv4⟩ := so_iv1 (v := .inl 0) hv3
    obtain ⟨w2, r, rfl, hw2, hv5⟩ := so_iv3 hv4
    have h7 : (bif Nat.ble (mm_wt st) 8 then mm_acp σ d9 n dp k q sp j qq (fun u => K (pc + 3, lv, st) u) else False) := h
    clear h
    cases hbo : Nat.ble (mm_wt st) 8 with
    | false => rw [hbo] at h7; exact h7.elim
    | true =>
      rw [hbo] at h7
      have b3 := hbo
      have hwt := hv5.wt
      have b9 := Nat.le_of_ble_eq_true b3
      obtain ⟨c1, c2, c3, rfl, rfl, rfl, rfl, c4, c5, c6, c7, c8, cf, h8⟩ : mm_acp σ d9 n dp k q sp j qq (fun u => K (pc + 3, lv, st) u) := h7
      have hj : 89 ≤ j ∧ j < 1000 := so_kd_lt (by rw [c2]; omega)
      have hk : 89 ≤ k ∧ k < 1000 := so_kd_lt (by rw [c3]; omega)
      rw [(so_rr.arr hw1 hk).2.2 k hk.2 c8 rfl]
      rw [(so_rr.arr hw2 hj).2.2 j hj.2 c7 rfl]
      have g0 := hW.arr hj c7
      have g1 := hW.arr hk c8
      rw [c2, if_neg (by omega)] at g0
      rw [c3, if_neg (by omega)] at g1
      have hz : ((0 : Int32)).toNatClampNeg = 0 := rfl
      refine so_cpI hx hb (hml.trans hl.1.symm) hown (hts _ q1) (hts _ q2) (hts _ q3) (hts _ q4) g0 g1 (so_arrOf hKK (by omega)) (so_arrOf hKK (by omega)) (so_prim (by omega)) (by decide) (by decide) c4 (by rw [hz]; omega) (by rw [hz]; omega) (fun i hi => so_fit (by omega) (by rw [hz, Nat.zero_add]; exact cf i hi)) hR.1 (by show _ + (5 + 2 + 11) ≤ R.locals; have := (show 64 ≤ R.locals from hR.2); omega) d (fun locs1 hlo => ?_)
      have hlt := hW.2.2.1 k hk.2
      have W1 : so_W D cA A (mm_fill σ k (fun i => if i < n.toNatClampNeg then mm_a σ j i else mm_a σ k i)) (H.setIfInBounds (mm_v σ k) (vp_cell (cA d9) (mm_n σ k, .inl (va_cpy (mm_a σ j) (mm_a σ k) (0 : Int32).toNatClampNeg (0 : Int32).toNatClampNeg n.toNatClampNeg)))) := by
        refine hW.cell hk c8 (by simp) (fun a ha => by simp [Array.getElem?_setIfInBounds, Ne.symm ha]) ?_ rfl rfl rfl rfl (fun i hi => ?_)
        · rw [Array.getElem?_setIfInBounds, if_pos rfl, if_pos hlt, c3]
          have e1 : va_cpy (mm_a σ j) (mm_a σ k) 0 0 n.toNatClampNeg = mm_a (mm_fill σ k (fun i => if i < n.toNatClampNeg then mm_a σ j i else mm_a σ k i)) k := by
            funext i
            simp only [va_cpy, Nat.zero_le, true_and, Nat.zero_add, Nat.sub_zero, mm_a, mm_filll, mm_fill, mm_up]
            simp
          rw [hz, e1]
          rw [if_neg (by omega)]
          rfl
        · constructor
          · simp [mm_a, mm_fill, mm_filll, mm_up, hi]
          · simp [mm_l, mm_fill, mm_filll, mm_up, hi]
      refine hK _ _ h8 _ locs1 cells slots ls r W1 (hS.on (fun i hi => ⟨rfl, rfl, by simp [mm_a, mm_fill, mm_up, show i ≠ k by omega]⟩) (fun i _ h0 => ⟨h0, rfl⟩)) ⟨by simpa using hA.1, fun z z1 z2 => ?_, fun z hz9 => ?_⟩ hc hs (by refine so_lv.same (σ := σ) ?_ ?_ (by simpa using hl) <;> rfl) (by refine so_st.same (σ := σ) ?_ ?_ (by simpa using hv5) <;> rfl)
      · rw [Array.getElem?_setIfInBounds, if_neg (fun z9 => z2 (by rw [← z9]; exact hW.2.2.2.2.1 k hk.2 c8))]
        exact hA.2.1 z z1 z2
      · rcases hlo z hz9 with z9 | z9
        · exact hA.2.2 z z9
        · rw [z9]; exact hW.2.2.2.2.1 k hk.2 c8

theorem so_acopyL (C : so_C X cc nL own mn) {index : Nat} (hR : 1 ≤ X.2.2.2.1.frames ∧ 64 ≤ X.2.2.2.1.locals) (d : decode cc pc = .ok (.invokestatic index, 3)) (q1 : Cond.methodLink own index arraycopyName ∈ lw_all) (q2 : Cond.native arraycopyName ∈ lw_all) (q3 : Cond.static arraycopyName ∈ lw_all) (q4 : Cond.initialized "java/lang/System" ∈ lw_all) : so_ok X nL pc (mo_acopyL) := by
  obtain ⟨p, l, e, R, s, m, args, below, meth, c, D, cA, A, E, O, Q, QF⟩ := X
  obtain ⟨hx, hb, hml, hown, hts, hnest, hKK, hvk, hAq, -⟩ := C
  intro lv st9 σ K h hK
  match st9, h with
  | .inl n :: .inl dp :: .inr (.inr (k, q)) :: .inl sp :: .inr (.inr (j, qq)) :: st, h =>
    intro H locs cells slots ls vs hW hS hA hc hs hl hv
    obtain ⟨r1, rfl, hv1⟩ := so_iv1 (v := .inl 0) hv
    obtain ⟨r2, rfl, hv2⟩ := so_iv1 (v := .inl 0) hv1
    obtain ⟨w1, r3, rfl, hw1, hv3⟩ := so_iv3 hv2
    obtain ⟨r4, rfl, hv4⟩ := so_iv1 (v := .inl 0) hv3
    obtain ⟨w2, r, rfl, hw2, hv5⟩ := so_iv3 hv4
    have h7 : (bif Nat.ble (mm_wt st) 8 then mm_acpl σ n dp k q sp j qq (fun u => K (pc + 3, lv, st) u) else False) := h
    clear h
    cases hbo : Nat.ble (mm_wt st) 8 with
    | false => rw [hbo] at h7; exact h7.elim
    | true =>
      rw [hbo] at h7
      have b3 := hbo
      have hwt := hv5.wt
      have b9 := Nat.le_of_ble_eq_true b3
      obtain ⟨c1, c2, c3, rfl, rfl, rfl, rfl, c4, c5, c6, c7, c8, h8⟩ : mm_acpl σ n dp k q sp j qq (fun u => K (pc + 3, lv, st) u) := h7
      have hj : 89 ≤ j ∧ j < 1000 := so_kd_lt (by rw [c2]; omega)
      have hk : 89 ≤ k ∧ k < 1000 := so_kd_lt (by rw [c3]; omega)
      rw [(so_rr.arr hw1 hk).2.2 k hk.2 c8 rfl]
      rw [(so_rr.arr hw2 hj).2.2 j hj.2 c7 rfl]
      have g0 := hW.arr hj c7
      have g1 := hW.arr hk c8
      rw [c2] at g0
      rw [c3] at g1
      have hz : ((0 : Int32)).toNatClampNeg = 0 := rfl
      refine so_cpL hx hb (hml.trans hl.1.symm) hown (hts _ q1) (hts _ q2) (hts _ q3) (hts _ q4) g0 g1 (so_arrOf hKK (by omega)) (so_arrOf hKK (by omega)) (so_prim (by omega)) (by decide) (by decide) c4 (by rw [hz]; omega) (by rw [hz]; omega) (fun i _ => rfl) hR.1 (by show _ + (5 + 2 + 11) ≤ R.locals; have := (show 64 ≤ R.locals from hR.2); omega) d (fun locs1 hlo => ?_)
      have hlt := hW.2.2.1 k hk.2
      have W1 : so_W D cA A (mm_filll σ k (fun i => if i < n.toNatClampNeg then mm_l σ j i else mm_l σ k i)) (H.setIfInBounds (mm_v σ k) (vp_cell (cA 4) (mm_n σ k, .inr (.inl (va_cpy (mm_l σ j) (mm_l σ k) (0 : Int32).toNatClampNeg (0 : Int32).toNatClampNeg n.toNatClampNeg))))) := by
        refine hW.cell hk c8 (by simp) (fun a ha => by simp [Array.getElem?_setIfInBounds, Ne.symm ha]) ?_ rfl rfl rfl rfl (fun i hi => ?_)
        · rw [Array.getElem?_setIfInBounds, if_pos rfl, if_pos hlt, c3]
          have e1 : va_cpy (mm_l σ j) (mm_l σ k) 0 0 n.toNatClampNeg = mm_l (mm_filll σ k (fun i => if i < n.toNatClampNeg then mm_l σ j i else mm_l σ k i)) k := by
            funext i
            simp only [va_cpy, Nat.zero_le, true_and, Nat.zero_add, Nat.sub_zero, mm_l, mm_filll, mm_fill, mm_up]
            simp
          rw [hz, e1]
          rfl
        · constructor
          · simp [mm_a, mm_fill, mm_filll, mm_up, hi]
          · simp [mm_l, mm_fill, mm_filll, mm_up, hi]
      refine hK _ _ h8 _ locs1 cells slots ls r W1 (hS.on (fun i hi => ⟨rfl, rfl, rfl⟩) (fun i _ h0 => ⟨h0, rfl⟩)) ⟨by simpa using hA.1, fun z z1 z2 => ?_, fun z hz9 => ?_⟩ hc hs (by refine so_lv.same (σ := σ) ?_ ?_ (by simpa using hl) <;> rfl) (by refine so_st.same (σ := σ) ?_ ?_ (by simpa using hv5) <;> rfl)
      · rw [Array.getElem?_setIfInBounds, if_neg (fun z9 => z2 (by rw [← z9]; exact hW.2.2.2.2.1 k hk.2 c8))]
        exact hA.2.1 z z1 z2
      · rcases hlo z hz9 with z9 | z9
        · exact hA.2.2 z z9
        · rw [z9]; exact hW.2.2.2.2.1 k hk.2 c8

end SOCQ
