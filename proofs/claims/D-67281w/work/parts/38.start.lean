/-! the law: calls that do not throw; its table; the start -/
section SOS
variable {X : so_X} {cc : ByteArray} {nL pc : Nat} {own mn : String} {y n d index maxL : Nat} {ym : MethodName} {bytes : ByteArray} {ret : Option FieldType}
theorem so_kIN {σ0 : mmS} {rt : Option FieldType} (C : so_C X cc nL own mn) (F : so_F9 X σ0 rt) {st : Bool} (hS9 : so_Site X nL pc y n st) (hne : ∀ (e : Nat) (u : mmS), ¬ X.2.2.2.2.2.2.2.2.2.2.2.2.2.2.2.1 (.inr e) u) : so_ok X nL pc (mo_callI y n 3 st) := by
  obtain ⟨p, l, e, R, s, m, args, below, meth, c, D, cA, A, E, O, Q, QF⟩ := X
  obtain ⟨hx, hb, hml, hown, hts, hnest, hKK, hvk, hAq, hlk, hmn, hsc⟩ := C
  obtain ⟨hQF, hRc, hRs, hr⟩ := F
  subst hQF
  intro lv st9 σ K h hK
  have h8 : (match mm_take n st9 [] with | some (as, r) => bif (st || mm_rc y as) && Nat.ble (mm_wt r) 8 then O y as σ (fun o u => match o with | .inl (some (.inl x)) => K (pc + 3, lv, .inl x :: r) u | .inr e => Q (.inr e) u | _ => False) else False | none => False) := h
  clear h
  cases htk : mm_take n st9 [] with
  | none => rw [htk] at h8; exact h8.elim
  | some ar =>
    obtain ⟨as, r⟩ := ar
    rw [htk] at h8
    obtain ⟨xs, rfl, hxl, has⟩ := mm_take_spec htk
    rw [List.append_nil] at has
    have h9 : (bif (st || mm_rc y as) && Nat.ble (mm_wt r) 8 then O y as σ (fun o u => match o with | .inl (some (.inl x)) => K (pc + 3, lv, .inl x :: r) u | .inr e => Q (.inr e) u | _ => False) else False) := h8
    clear h8
    cases hbb : (st || mm_rc y as) && Nat.ble (mm_wt r) 8 with
    | false => rw [hbb] at h9; exact h9.elim
    | true =>
      rw [hbb] at h9
      obtain ⟨hb1, hb2⟩ := Bool.and_eq_true_iff.mp hbb
      intro H locs cells slots ls vs hW hS hA hc hs hl hv
      obtain ⟨w1, w2, rfl, hv1, hv2⟩ := hv.split
      have hst := hv1.rev
      rw [← has] at hst
      have hC := hS9 σ as w1.reverse w2 H locs cells slots ls _ h9 hb1 (by rw [has, List.length_reverse]; exact hxl) hst (by rw [hv2.wt]; exact Nat.le_of_ble_eq_true hb2) hW hS hA hc hs hl.1
      rw [List.reverse_reverse] at hC
      refine so_go hW hS hA hAq hc hs hC (fun ov v u H1 locs1 cells1 slots1 hq hrv hAf => ?_) (fun e9 q9 ce u H1 locs1 cells1 slots1 hq g4 g8 g5 gc gv gcl hAf => ?_)
      · match ov, v, hq, hrv with
        | some (.inl x), some w, hq, hrv =>
          obtain ⟨a1, a2, a3, a4, a5, a6, a7⟩ := hAf
          exact hK _ _ hq H1 locs1 cells1 slots1 ls _ a1 a2 a4 a5 a6 (hl.on a7 a3) ⟨hrv, hv2.on a7 a3⟩
      · exact absurd hq (hne _ _)
theorem so_kVN {σ0 : mmS} {rt : Option FieldType} (C : so_C X cc nL own mn) (F : so_F9 X σ0 rt) {st : Bool} (hS9 : so_Site X nL pc y n st) (hne : ∀ (e : Nat) (u : mmS), ¬ X.2.2.2.2.2.2.2.2.2.2.2.2.2.2.2.1 (.inr e) u) : so_ok X nL pc (mo_callV y n 3 st) := by
  obtain ⟨p, l, e, R, s, m, args, below, meth, c, D, cA, A, E, O, Q, QF⟩ := X
  obtain ⟨hx, hb, hml, hown, hts, hnest, hKK, hvk, hAq, hlk, hmn, hsc⟩ := C
  obtain ⟨hQF, hRc, hRs, hr⟩ := F
  subst hQF
  intro lv st9 σ K h hK
  have h8 : (match mm_take n st9 [] with | some (as, r) => bif (st || mm_rc y as) && Nat.ble (mm_wt r) 8 then O y as σ (fun o u => match o with | .inl none => K (pc + 3, lv, r) u | .inr e => Q (.inr e) u | _ => False) else False | none => False) := h
  clear h
  cases htk : mm_take n st9 [] with
  | none => rw [htk] at h8; exact h8.elim
  | some ar =>
    obtain ⟨as, r⟩ := ar
    rw [htk] at h8
    obtain ⟨xs, rfl, hxl, has⟩ := mm_take_spec htk
    rw [List.append_nil] at has
    have h9 : (bif (st || mm_rc y as) && Nat.ble (mm_wt r) 8 then O y as σ (fun o u => match o with | .inl none => K (pc + 3, lv, r) u | .inr e => Q (.inr e) u | _ => False) else False) := h8
    clear h8
    cases hbb : (st || mm_rc y as) && Nat.ble (mm_wt r) 8 with
    | false => rw [hbb] at h9; exact h9.elim
    | true =>
      rw [hbb] at h9
      obtain ⟨hb1, hb2⟩ := Bool.and_eq_true_iff.mp hbb
      intro H locs cells slots ls vs hW hS hA hc hs hl hv
      obtain ⟨w1, w2, rfl, hv1, hv2⟩ := hv.split
      have hst := hv1.rev
      rw [← has] at hst
      have hC := hS9 σ as w1.reverse w2 H locs cells slots ls _ h9 hb1 (by rw [has, List.length_reverse]; exact hxl) hst (by rw [hv2.wt]; exact Nat.le_of_ble_eq_true hb2) hW hS hA hc hs hl.1
      rw [List.reverse_reverse] at hC
      refine so_go hW hS hA hAq hc hs hC (fun ov v u H1 locs1 cells1 slots1 hq hrv hAf => ?_) (fun e9 q9 ce u H1 locs1 cells1 slots1 hq g4 g8 g5 gc gv gcl hAf => ?_)
      · match ov, v, hq, hrv with
        | none, none, hq, _ =>
          obtain ⟨a1, a2, a3, a4, a5, a6, a7⟩ := hAf
          exact hK _ _ hq H1 locs1 cells1 slots1 ls _ a1 a2 a4 a5 a6 (hl.on a7 a3) (hv2.on a7 a3)
      · exact absurd hq (hne _ _)
end SOS
theorem tb_5 {X : so_X} {σ0 : mmS} {d : Nat} {mn : String} {tab : List ExceptionTableEntry} (J : so_J X code 7 "ModuleGateLaw" mn σ0 (some .boolean) d tab) (hne : ∀ (e : Nat) (u : mmS), ¬ X.2.2.2.2.2.2.2.2.2.2.2.2.2.2.2.1 (.inr e) u) : so_tab X 7 mt5 := so_bif (so_bif (so_bif (so_bif (so_bif (so_bif (so_bif (so_leaf (so_new J.1 so_K1 q255 q256 q236 nw_1 dL_law_0)) (so_bif (so_leaf (so_dup J.1 dL_law_3)) (so_leaf (so_kVN J.1 J.2.1 (ss_q257 J dL_law_4) hne)))) (so_bif (so_leaf (so_astore1 J.1 (by decide) dL_law_7 rfl)) (so_bif (so_leaf (so_new J.1 so_K4 q1308 q1309 q240 nw_4 dL_law_8)) (so_leaf (so_dup J.1 dL_law_11))))) (so_bif (so_bif (so_leaf (so_kVN J.1 J.2.1 (ss_q1310 J dL_law_12) hne)) (so_bif (so_leaf (so_astore1 J.1 (by decide) dL_law_15 rfl)) (so_leaf (so_int1 J.1 dL_law_16 rfl)))) (so_bif (so_bif (so_leaf (so_newarr (atype := .long) J.1 (by decide) (by decide) rfl q353 dL_law_17)) (so_leaf (so_astore1 J.1 (by decide) dL_law_19 rfl))) (so_bif (so_leaf (so_int1 J.1 dL_law_20 rfl)) (so_leaf (so_istore2 J.1 (by decide) dL_law_21)))))) (so_bif (so_bif (so_bif (so_leaf (so_iload2 J.1 dL_law_23)) (so_bif (so_leaf (so_aload1 J.1 dL_law_25 rfl)) (so_leaf (so_alen J.1 dL_law_26)))) (so_bif (so_bif (so_leaf (so_int2 J.1 dL_law_27 rfl)) (so_leaf (so_isub J.1 dL_law_29))) (so_bif (so_leaf (so_icmp_gt J.1 dL_law_30 rfl)) (so_leaf (so_aload1 J.1 dL_law_33 rfl))))) (so_bif (so_bif (so_leaf (so_iload2 J.1 dL_law_34)) (so_bif (so_leaf (so_iald J.1 dL_law_36)) (so_leaf (so_int1 J.1 dL_law_37 rfl)))) (so_bif (so_bif (so_leaf (so_iand J.1 dL_law_38)) (so_leaf (so_switchT J.1 dL_law_39 (by decide +kernel)))) (so_bif (so_leaf (so_aload1 J.1 dL_law_68 rfl)) (so_leaf (so_aload1 J.1 dL_law_69 rfl))))))) (so_bif (so_bif (so_bif (so_bif (so_leaf (so_iload2 J.1 dL_law_70)) (so_bif (so_leaf (so_int1 J.1 dL_law_72 rfl)) (so_leaf (so_iadd J.1 dL_law_73)))) (so_bif (so_leaf (so_iald J.1 dL_law_74)) (so_bif (so_leaf (so_aload1 J.1 dL_law_75 rfl)) (so_leaf (so_iload2 J.1 dL_law_76))))) (so_bif (so_bif (so_leaf (so_int1 J.1 dL_law_78 rfl)) (so_bif (so_leaf (so_iadd J.1 dL_law_79)) (so_leaf (so_iald J.1 dL_law_80)))) (so_bif (so_bif (so_leaf (so_aload1 J.1 dL_law_81 rfl)) (so_leaf (so_iload2 J.1 dL_law_82))) (so_bif (so_leaf (so_int1 J.1 dL_law_84 rfl)) (so_leaf (so_iadd J.1 dL_law_85)))))) (so_bif (so_bif (so_bif (so_leaf (so_iald J.1 dL_law_86)) (so_bif (so_leaf (so_aload1 J.1 dL_law_87 rfl)) (so_leaf (so_iload2 J.1 dL_law_88)))) (so_bif (so_bif (so_leaf (so_int1 J.1 dL_law_90 rfl)) (so_leaf (so_iadd J.1 dL_law_91))) (so_bif (so_leaf (so_iald J.1 dL_law_92)) (so_leaf (so_aload1 J.1 dL_law_93 rfl))))) (so_bif (so_bif (so_leaf (so_iload2 J.1 dL_law_94)) (so_bif (so_leaf (so_int1 J.1 dL_law_96 rfl)) (so_leaf (so_iadd J.1 dL_law_97)))) (so_bif (so_bif (so_leaf (so_iald J.1 dL_law_98)) (so_leaf (so_aload1 J.1 dL_law_99 rfl))) (so_bif (so_leaf (so_kIN J.1 J.2.1 (ss_q608 J dL_law_100) hne)) (so_leaf (so_istore2 J.1 (by decide) dL_law_103)))))))) (so_bif (so_bif (so_bif (so_bif (so_bif (so_leaf (so_aload1 J.1 dL_law_105 rfl)) (so_bif (so_leaf (so_aload1 J.1 dL_law_106 rfl)) (so_leaf (so_iload2 J.1 dL_law_107)))) (so_bif (so_leaf (so_int1 J.1 dL_law_109 rfl)) (so_bif (so_leaf (so_iadd J.1 dL_law_110)) (so_leaf (so_iald J.1 dL_law_111))))) (so_bif (so_bif (so_leaf (so_aload1 J.1 dL_law_112 rfl)) (so_bif (so_leaf (so_iload2 J.1 dL_law_113)) (so_leaf (so_int1 J.1 dL_law_115 rfl)))) (so_bif (so_bif (so_leaf (so_iadd J.1 dL_law_116)) (so_leaf (so_iald J.1 dL_law_117))) (so_bif (so_leaf (so_aload1 J.1 dL_law_118 rfl)) (so_leaf (so_iload2 J.1 dL_law_119)))))) (so_bif (so_bif (so_bif (so_leaf (so_int1 J.1 dL_law_121 rfl)) (so_bif (so_leaf (so_iadd J.1 dL_law_122)) (so_leaf (so_iald J.1 dL_law_123)))) (so_bif (so_bif (so_leaf (so_aload1 J.1 dL_law_124 rfl)) (so_leaf (so_iload2 J.1 dL_law_125))) (so_bif (so_leaf (so_int1 J.1 dL_law_127 rfl)) (so_leaf (so_iadd J.1 dL_law_128))))) (so_bif (so_bif (so_leaf (so_iald J.1 dL_law_129)) (so_bif (so_leaf (so_aload1 J.1 dL_law_130 rfl)) (so_leaf (so_iload2 J.1 dL_law_131)))) (so_bif (so_bif (so_leaf (so_int1 J.1 dL_law_133 rfl)) (so_leaf (so_iadd J.1 dL_law_134))) (so_bif (so_leaf (so_iald J.1 dL_law_135)) (so_leaf (so_kIN J.1 J.2.1 (ss_q1594 J dL_law_136) hne))))))) (so_bif (so_bif (so_bif (so_bif (so_leaf (so_istore2 J.1 (by decide) dL_law_139)) (so_bif (so_leaf (so_aload1 J.1 dL_law_141 rfl)) (so_leaf (so_kIN J.1 J.2.1 (ss_q1590 J dL_law_142) hne)))) (so_bif (so_bif (so_leaf (so_iload2 J.1 dL_law_145)) (so_leaf (so_icmp_eq J.1 dL_law_147 rfl))) (so_bif (so_leaf (so_int1 J.1 dL_law_150 rfl)) (so_leaf (so_retZ J.1 J.2.1 rfl dL_law_151))))) (so_bif (so_bif (so_leaf (so_iload2 J.1 dL_law_152)) (so_bif (so_leaf (so_if_ne J.1 dL_law_154 rfl)) (so_leaf (so_aload1 J.1 dL_law_157 rfl)))) (so_bif (so_bif (so_leaf (so_int1 J.1 dL_law_158 rfl)) (so_leaf (so_lald J.1 dL_law_159))) (so_bif (so_leaf (so_iload2 J.1 dL_law_160)) (so_leaf (so_i2l J.1 dL_law_162)))))) (so_bif (so_bif (so_bif (so_leaf (so_lcmp J.1 dL_law_163)) (so_bif (so_leaf (so_if_eq J.1 dL_law_164 rfl)) (so_leaf (so_int1 J.1 dL_law_167 rfl)))) (so_bif (so_bif (so_leaf (so_retZ J.1 J.2.1 rfl dL_law_168)) (so_leaf (so_goto J.1 dL_law_169 rfl))) (so_bif (so_leaf (so_aload1 J.1 dL_law_172 rfl)) (so_leaf (so_aload1 J.1 dL_law_173 rfl))))) (so_bif (so_bif (so_leaf (so_iload2 J.1 dL_law_174)) (so_bif (so_leaf (so_int1 J.1 dL_law_176 rfl)) (so_leaf (so_iadd J.1 dL_law_177)))) (so_bif (so_bif (so_leaf (so_iald J.1 dL_law_178)) (so_leaf (so_aload1 J.1 dL_law_179 rfl))) (so_bif (so_leaf (so_kIN J.1 J.2.1 (ss_q712 J dL_law_180) hne)) (so_leaf (so_istore2 J.1 (by decide) dL_law_183))))))))) (so_bif (so_bif (so_bif (so_bif (so_bif (so_bif (so_leaf (so_aload1 J.1 dL_law_185 rfl)) (so_bif (so_leaf (so_aload1 J.1 dL_law_186 rfl)) (so_leaf (so_iload2 J.1 dL_law_187)))) (so_bif (so_leaf (so_int1 J.1 dL_law_189 rfl)) (so_bif (so_leaf (so_iadd J.1 dL_law_190)) (so_leaf (so_iald J.1 dL_law_191))))) (so_bif (so_bif (so_leaf (so_kIN J.1 J.2.1 (ss_q1598 J dL_law_192) hne)) (so_bif (so_leaf (so_istore2 J.1 (by decide) dL_law_195)) (so_leaf (so_aload1 J.1 dL_law_197 rfl)))) (so_bif (so_bif (so_leaf (so_kIN J.1 J.2.1 (ss_q1590 J dL_law_198) hne)) (so_leaf (so_iload2 J.1 dL_law_201))) (so_bif (so_leaf (so_icmp_eq J.1 dL_law_203 rfl)) (so_leaf (so_int1 J.1 dL_law_206 rfl)))))) (so_bif (so_bif (so_bif (so_leaf (so_retZ J.1 J.2.1 rfl dL_law_207)) (so_bif (so_leaf (so_iload2 J.1 dL_law_208)) (so_leaf (so_if_ne J.1 dL_law_210 rfl)))) (so_bif (so_bif (so_leaf (so_aload1 J.1 dL_law_213 rfl)) (so_leaf (so_int1 J.1 dL_law_214 rfl))) (so_bif (so_leaf (so_lald J.1 dL_law_215)) (so_leaf (so_iload2 J.1 dL_law_216))))) (so_bif (so_bif (so_leaf (so_i2l J.1 dL_law_218)) (so_bif (so_leaf (so_lcmp J.1 dL_law_219)) (so_leaf (so_if_eq J.1 dL_law_220 rfl)))) (so_bif (so_bif (so_leaf (so_int1 J.1 dL_law_223 rfl)) (so_leaf (so_retZ J.1 J.2.1 rfl dL_law_224))) (so_bif (so_leaf (so_goto J.1 dL_law_225 rfl)) (so_leaf (so_aload1 J.1 dL_law_228 rfl))))))) (so_bif (so_bif (so_bif (so_bif (so_leaf (so_aload1 J.1 dL_law_229 rfl)) (so_bif (so_leaf (so_iload2 J.1 dL_law_230)) (so_leaf (so_int1 J.1 dL_law_232 rfl)))) (so_bif (so_bif (so_leaf (so_iadd J.1 dL_law_233)) (so_leaf (so_iald J.1 dL_law_234))) (so_bif (so_leaf (so_aload1 J.1 dL_law_235 rfl)) (so_leaf (so_iload2 J.1 dL_law_236))))) (so_bif (so_bif (so_leaf (so_int1 J.1 dL_law_238 rfl)) (so_bif (so_leaf (so_iadd J.1 dL_law_239)) (so_leaf (so_iald J.1 dL_law_240)))) (so_bif (so_bif (so_leaf (so_aload1 J.1 dL_law_241 rfl)) (so_leaf (so_kIN J.1 J.2.1 (ss_q1294 J dL_law_242) hne))) (so_bif (so_leaf (so_istore2 J.1 (by decide) dL_law_245)) (so_leaf (so_aload1 J.1 dL_law_247 rfl)))))) (so_bif (so_bif (so_bif (so_leaf (so_aload1 J.1 dL_law_248 rfl)) (so_bif (so_leaf (so_iload2 J.1 dL_law_249)) (so_leaf (so_int1 J.1 dL_law_251 rfl)))) (so_bif (so_bif (so_leaf (so_iadd J.1 dL_law_252)) (so_leaf (so_iald J.1 dL_law_253))) (so_bif (so_leaf (so_aload1 J.1 dL_law_254 rfl)) (so_leaf (so_iload2 J.1 dL_law_255))))) (so_bif (so_bif (so_leaf (so_int1 J.1 dL_law_257 rfl)) (so_bif (so_leaf (so_iadd J.1 dL_law_258)) (so_leaf (so_iald J.1 dL_law_259)))) (so_bif (so_bif (so_leaf (so_kIN J.1 J.2.1 (ss_q2281 J dL_law_260) hne)) (so_leaf (so_istore2 J.1 (by decide) dL_law_263))) (so_bif (so_leaf (so_aload1 J.1 dL_law_265 rfl)) (so_leaf (so_kIN J.1 J.2.1 (ss_q1590 J dL_law_266) hne)))))))) (so_bif (so_bif (so_bif (so_bif (so_bif (so_leaf (so_iload2 J.1 dL_law_269)) (so_bif (so_leaf (so_icmp_eq J.1 dL_law_271 rfl)) (so_leaf (so_int1 J.1 dL_law_274 rfl)))) (so_bif (so_leaf (so_retZ J.1 J.2.1 rfl dL_law_275)) (so_bif (so_leaf (so_iload2 J.1 dL_law_276)) (so_leaf (so_if_ne J.1 dL_law_278 rfl))))) (so_bif (so_bif (so_leaf (so_aload1 J.1 dL_law_281 rfl)) (so_bif (so_leaf (so_int1 J.1 dL_law_282 rfl)) (so_leaf (so_lald J.1 dL_law_283)))) (so_bif (so_bif (so_leaf (so_iload2 J.1 dL_law_284)) (so_leaf (so_i2l J.1 dL_law_286))) (so_bif (so_leaf (so_lcmp J.1 dL_law_287)) (so_leaf (so_if_eq J.1 dL_law_288 rfl)))))) (so_bif (so_bif (so_bif (so_leaf (so_int1 J.1 dL_law_291 rfl)) (so_bif (so_leaf (so_retZ J.1 J.2.1 rfl dL_law_292)) (so_leaf (so_goto J.1 dL_law_293 rfl)))) (so_bif (so_bif (so_leaf (so_aload1 J.1 dL_law_296 rfl)) (so_leaf (so_aload1 J.1 dL_law_297 rfl))) (so_bif (so_leaf (so_iload2 J.1 dL_law_298)) (so_leaf (so_int1 J.1 dL_law_300 rfl))))) (so_bif (so_bif (so_leaf (so_iadd J.1 dL_law_301)) (so_bif (so_leaf (so_iald J.1 dL_law_302)) (so_leaf (so_aload1 J.1 dL_law_303 rfl)))) (so_bif (so_bif (so_leaf (so_kIN J.1 J.2.1 (ss_q1301 J dL_law_304) hne)) (so_leaf (so_istore2 J.1 (by decide) dL_law_307))) (so_bif (so_leaf (so_aload1 J.1 dL_law_309 rfl)) (so_leaf (so_aload1 J.1 dL_law_310 rfl))))))) (so_bif (so_bif (so_bif (so_bif (so_leaf (so_iload2 J.1 dL_law_311)) (so_bif (so_leaf (so_int1 J.1 dL_law_313 rfl)) (so_leaf (so_iadd J.1 dL_law_314)))) (so_bif (so_bif (so_leaf (so_iald J.1 dL_law_315)) (so_leaf (so_kIN J.1 J.2.1 (ss_q2285 J dL_law_316) hne))) (so_bif (so_leaf (so_istore2 J.1 (by decide) dL_law_319)) (so_leaf (so_aload1 J.1 dL_law_321 rfl))))) (so_bif (so_bif (so_leaf (so_kIN J.1 J.2.1 (ss_q1590 J dL_law_322) hne)) (so_bif (so_leaf (so_iload2 J.1 dL_law_325)) (so_leaf (so_icmp_eq J.1 dL_law_327 rfl)))) (so_bif (so_bif (so_leaf (so_int1 J.1 dL_law_330 rfl)) (so_leaf (so_retZ J.1 J.2.1 rfl dL_law_331))) (so_bif (so_leaf (so_iload2 J.1 dL_law_332)) (so_leaf (so_if_ne J.1 dL_law_334 rfl)))))) (so_bif (so_bif (so_bif (so_leaf (so_aload1 J.1 dL_law_337 rfl)) (so_bif (so_leaf (so_int1 J.1 dL_law_338 rfl)) (so_leaf (so_lald J.1 dL_law_339)))) (so_bif (so_bif (so_leaf (so_iload2 J.1 dL_law_340)) (so_leaf (so_i2l J.1 dL_law_342))) (so_bif (so_leaf (so_lcmp J.1 dL_law_343)) (so_leaf (so_if_eq J.1 dL_law_344 rfl))))) (so_bif (so_bif (so_leaf (so_int1 J.1 dL_law_347 rfl)) (so_bif (so_leaf (so_retZ J.1 J.2.1 rfl dL_law_348)) (so_leaf (so_goto J.1 dL_law_349 rfl)))) (so_bif (so_bif (so_leaf (so_iinc J.1 (by decide) dL_law_352 rfl)) (so_leaf (so_goto J.1 dL_law_355 rfl))) (so_bif (so_leaf (so_int1 J.1 dL_law_358 rfl)) (so_leaf (so_retZ J.1 J.2.1 rfl dL_law_359)))))))))
/-- the texts: class, entry, length, bytes -/
def st_src : List (String × Nat) := [("ModuleGate$Reader", 655), ("ModuleGate$Reader", 195), ("ModuleGate$Reader", 509), ("ModuleGateModel", 236), ("ModuleGateModel", 769), ("ModuleGateModel", 889), ("ModuleGateModel", 561), ("ModuleGateModel", 325), ("ModuleGateModel", 327), ("ModuleGateModel", 313), ("ModuleGateModel", 321), ("ModuleGateModel", 323), ("ModuleGateModel", 349), ("ModuleGateModel", 430), ("ModuleGateModel", 807), ("ModuleGateModel", 336), ("ModuleGateModel", 812), ("ModuleGateModel", 793), ("ModuleGateModel", 572), ("ModuleGateModel", 373), ("ModuleGateModel", 329), ("ModuleGateModel", 338), ("ModuleGateModel", 563), ("ModuleGateModel", 334), ("ModuleGateModel", 340), ("ModuleGateModel", 383), ("ModuleGateModel", 531), ("ModuleGateModel", 533), ("ModuleGateModel", 535), ("ModuleGateModel", 365), ("ModuleGateModel", 432), ("ModuleGateModel", 434), ("ModuleGateModel", 357), ("ModuleGateModel", 694), ("ModuleGateModel", 696), ("ModuleGateModel", 716), ("ModuleGateModel", 577), ("ModuleGateModel", 582), ("ModuleGateModel", 677), ("ModuleGateModel", 626), ("ModuleGateModel", 628), ("ModuleGateModel", 685), ("ModuleGateModel", 687), ("ModuleGateModel", 689), ("ModuleGateModel", 721), ("ModuleGateModel", 726), ("ModuleGateModel", 728), ("ModuleGateModel", 773), ("ModuleGateModel", 733), ("ModuleGateModel", 738), ("ModuleGateModel", 740), ("ModuleGateModel", 742), ("ModuleGateModel", 747), ("ModuleGateModel", 749), ("ModuleGateModel", 751), ("ModuleGateModel", 765), ("ModuleGateModel", 767), ("ModuleGateModel", 756), ("ModuleGateModel", 771), ("ModuleGateModel", 760), ("ModuleGateModel", 524), ("ModuleGateModel", 526), ("ModuleGateModel", 506), ("ModuleGateModel", 504), ("ModuleGateModel", 453), ("ModuleGateModel", 483), ("ModuleGateModel", 485), ("ModuleGateModel", 508), ("ModuleGateModel", 510), ("ModuleGateModel", 512), ("ModuleGateModel", 514), ("ModuleGateModel", 519), ("ModuleGateModel", 455), ("ModuleGateModel", 457), ("ModuleGateModel", 459), ("ModuleGateModel", 461), ("ModuleGateModel", 463), ("ModuleGateModel", 465), ("ModuleGateModel", 467), ("ModuleGateModel", 469), ("ModuleGateModel", 471), ("ModuleGateModel", 473), ("ModuleGateModel", 475), ("ModuleGateModel", 477), ("ModuleGateModel", 479), ("ModuleGateModel", 481), ("ModuleGateModel", 487), ("ModuleGateModel", 489), ("ModuleGateModel", 444), ("ModuleGateModel", 446), ("ModuleGateModel", 448), ("ModuleGateModel", 439), ("ModuleGateModel", 394), ("ModuleGateModel", 396), ("ModuleGateModel", 398), ("ModuleGateModel", 400), ("ModuleGateModel", 402), ("ModuleGateModel", 404), ("ModuleGateModel", 406), ("ModuleGateModel", 408), ("ModuleGateModel", 410), ("ModuleGateModel", 412), ("ModuleGateModel", 414), ("ModuleGateModel", 416), ("ModuleGateModel", 418), ("ModuleGateModel", 420), ("ModuleGateModel", 422), ("ModuleGateModel", 587), ("ModuleGateModel", 589), ("ModuleGateModel", 591), ("ModuleGateModel", 593), ("ModuleGateModel", 595), ("ModuleGateModel", 546)]
def st_len : List Nat := [394, 159, 10, 24, 7, 9, 6, 1, 1, 295, 4, 9, 1, 1, 2, 1, 4, 6, 8, 5, 1, 1, 3, 1, 1, 1, 3, 1, 5, 5, 1, 2, 2, 3, 5, 3, 5, 7, 6, 3, 3, 12, 11, 9, 2, 4, 3, 2, 5, 2, 8, 5, 6, 5, 3, 5, 7, 6, 4, 8, 2, 2, 1, 1, 10, 1, 1, 6, 4, 6, 5, 2, 1, 1, 1, 2, 2, 3, 3, 1, 1, 2, 2, 2, 2, 3, 1, 1, 2, 2, 2, 1, 2, 2, 2, 2, 2, 3, 3, 3, 4, 2, 2, 2, 3, 3, 3, 4, 4, 4, 5, 6, 2]
def st_byt : List (List Int32) := [[97, 119, 97, 105, 116, 32, 98, 114, 101, 97, 107, 32, 99, 97, 115, 101, 32, 99, 97, 116, 99, 104, 32, 99, 108, 97, 115, 115, 32, 99, 111, 110, 115, 116, 32, 99, 111, 110, 116, 105, 110, 117, 101, 32, 100, 101, 98, 117, 103, 103, 101, 114, 32, 100, 101, 102, 97, 117, 108, 116, 32, 100, 101, 108, 101, 116, 101, 32, 100, 111, 32, 101, 108, 115, 101, 32, 101, 110, 117, 109, 32, 101, 120, 112, 111, 114, 116, 32, 101, 120, 116, 101, 110, 100, 115, 32, 102, 97, 108, 115, 101, 32, 102, 105, 110, 97, 108, 108, 121, 32, 102, 111, 114, 32, 102, 117, 110, 99, 116, 105, 111, 110, 32, 105, 102, 32, 105, 109, 112, 111, 114, 116, 32, 105, 110, 32, 105, 110, 115, 116, 97, 110, 99, 101, 111, 102, 32, 110, 101, 119, 32, 110, 117, 108, 108, 32, 114, 101, 116, 117, 114, 110, 32, 115, 117, 112, 101, 114, 32, 115, 119, 105, 116, 99, 104, 32, 116, 104, 105, 115, 32, 116, 104, 114, 111, 119, 32, 116, 114, 117, 101, 32, 116, 114, 121, 32, 116, 121, 112, 101, 111, 102, 32, 118, 97, 114, 32, 118, 111, 105, 100, 32, 119, 104, 105, 108, 101, 32, 119, 105, 116, 104, 32, 121, 105, 101, 108, 100, 32, 108, 101, 116, 32, 115, 116, 97, 116, 105, 99, 32, 105, 109, 112, 108, 101, 109, 101, 110, 116, 115, 32, 105, 110, 116, 101, 114, 102, 97, 99, 101, 32, 112, 97, 99, 107, 97, 103, 101, 32, 112, 114, 105, 118, 97, 116, 101, 32, 112, 114, 111, 116, 101, 99, 116, 101, 100, 32, 112, 117, 98, 108, 105, 99, 32, 97, 115, 32, 97, 115, 121, 110, 99, 32, 102, 114, 111, 109, 32, 103, 101, 116, 32, 111, 102, 32, 115, 101, 116, 32, 116, 97, 114, 103, 101, 116, 32, 99, 111, 110, 115, 116, 114, 117, 99, 116, 111, 114, 32, 112, 114, 111, 116, 111, 116, 121, 112, 101, 32, 97, 114, 103, 117, 109, 101, 110, 116, 115, 32, 101, 118, 97, 108, 32, 117, 115, 101, 95, 115, 116, 114, 105, 99, 116, 32, 100, 101, 102, 97, 117, 108, 116, 95, 110, 97, 109, 101, 32, 42, 32, 103, 101, 116, 95, 32],
  [123, 32, 125, 32, 40, 32, 41, 32, 91, 32, 93, 32, 46, 32, 46, 46, 46, 32, 59, 32, 44, 32, 60, 32, 62, 32, 60, 61, 32, 62, 61, 32, 61, 61, 32, 33, 61, 32, 61, 61, 61, 32, 33, 61, 61, 32, 43, 32, 45, 32, 42, 32, 47, 32, 37, 32, 42, 42, 32, 43, 43, 32, 45, 45, 32, 60, 60, 32, 62, 62, 32, 62, 62, 62, 32, 38, 32, 124, 32, 94, 32, 33, 32, 126, 32, 38, 38, 32, 124, 124, 32, 63, 63, 32, 63, 32, 63, 46, 32, 58, 32, 61, 32, 43, 61, 32, 45, 61, 32, 42, 61, 32, 47, 61, 32, 37, 61, 32, 42, 42, 61, 32, 60, 60, 61, 32, 62, 62, 61, 32, 62, 62, 62, 61, 32, 38, 61, 32, 124, 61, 32, 94, 61, 32, 38, 38, 61, 32, 124, 124, 61, 32, 63, 63, 61, 32, 61, 62, 32],
  [117, 115, 101, 32, 115, 116, 114, 105, 99, 116],
  [123, 125, 40, 41, 91, 93, 59, 44, 60, 62, 43, 45, 42, 47, 37, 38, 124, 94, 33, 126, 63, 58, 61, 46],
  [100, 101, 102, 97, 117, 108, 116],
  [42, 100, 101, 102, 97, 117, 108, 116, 42],
  [105, 109, 112, 111, 114, 116],
  [59],
  [125],
  [32, 97, 119, 97, 105, 116, 32, 98, 114, 101, 97, 107, 32, 99, 97, 115, 101, 32, 99, 97, 116, 99, 104, 32, 99, 108, 97, 115, 115, 32, 99, 111, 110, 115, 116, 32, 99, 111, 110, 116, 105, 110, 117, 101, 32, 100, 101, 98, 117, 103, 103, 101, 114, 32, 100, 101, 102, 97, 117, 108, 116, 32, 100, 101, 108, 101, 116, 101, 32, 100, 111, 32, 101, 108, 115, 101, 32, 101, 110, 117, 109, 32, 101, 120, 112, 111, 114, 116, 32, 101, 120, 116, 101, 110, 100, 115, 32, 102, 97, 108, 115, 101, 32, 102, 105, 110, 97, 108, 108, 121, 32, 102, 111, 114, 32, 102, 117, 110, 99, 116, 105, 111, 110, 32, 105, 102, 32, 105, 109, 112, 111, 114, 116, 32, 105, 110, 32, 105, 110, 115, 116, 97, 110, 99, 101, 111, 102, 32, 110, 101, 119, 32, 110, 117, 108, 108, 32, 114, 101, 116, 117, 114, 110, 32, 115, 117, 112, 101, 114, 32, 115, 119, 105, 116, 99, 104, 32, 116, 104, 105, 115, 32, 116, 104, 114, 111, 119, 32, 116, 114, 117, 101, 32, 116, 114, 121, 32, 116, 121, 112, 101, 111, 102, 32, 118, 97, 114, 32, 118, 111, 105, 100, 32, 119, 104, 105, 108, 101, 32, 119, 105, 116, 104, 32, 121, 105, 101, 108, 100, 32, 108, 101, 116, 32, 115, 116, 97, 116, 105, 99, 32, 105, 109, 112, 108, 101, 109, 101, 110, 116, 115, 32, 105, 110, 116, 101, 114, 102, 97, 99, 101, 32, 112, 97, 99, 107, 97, 103, 101, 32, 112, 114, 105, 118, 97, 116, 101, 32, 112, 114, 111, 116, 101, 99, 116, 101, 100, 32, 112, 117, 98, 108, 105, 99, 32],
  [101, 118, 97, 108],
  [97, 114, 103, 117, 109, 101, 110, 116, 115],
  [44],
  [42],
  [97, 115],
  [123],
  [102, 114, 111, 109],
  [101, 120, 112, 111, 114, 116],
  [102, 117, 110, 99, 116, 105, 111, 110],
  [97, 115, 121, 110, 99],
  [40],
  [41],
  [46, 46, 46],
  [91],
  [93],
  [61],
  [110, 101, 119],
  [46],
  [115, 117, 112, 101, 114],
  [121, 105, 101, 108, 100],
  [58],
  [105, 110],
  [61, 62],
  [108, 101, 116],
  [99, 111, 110, 115, 116],
  [118, 97, 114],
  [99, 108, 97, 115, 115],
  [101, 120, 116, 101, 110, 100, 115],
  [115, 116, 97, 116, 105, 99],
  [103, 101, 116],
  [115, 101, 116],
  [35, 99, 111, 110, 115, 116, 114, 117, 99, 116, 111, 114],
  [99, 111, 110, 115, 116, 114, 117, 99, 116, 111, 114],
  [112, 114, 111, 116, 111, 116, 121, 112, 101],
  [105, 102],
  [101, 108, 115, 101],
  [102, 111, 114],
  [111, 102],
  [119, 104, 105, 108, 101],
  [100, 111],
  [99, 111, 110, 116, 105, 110, 117, 101],
  [98, 114, 101, 97, 107],
  [114, 101, 116, 117, 114, 110],
  [116, 104, 114, 111, 119],
  [116, 114, 121],
  [99, 97, 116, 99, 104],
  [102, 105, 110, 97, 108, 108, 121],
  [115, 119, 105, 116, 99, 104],
  [99, 97, 115, 101],
  [100, 101, 98, 117, 103, 103, 101, 114],
  [43, 43],
  [45, 45],
  [33],
  [126],
  [105, 110, 115, 116, 97, 110, 99, 101, 111, 102],
  [43],
  [45],
  [100, 101, 108, 101, 116, 101],
  [118, 111, 105, 100],
  [116, 121, 112, 101, 111, 102],
  [97, 119, 97, 105, 116],
  [42, 42],
  [124],
  [94],
  [38],
  [61, 61],
  [33, 61],
  [61, 61, 61],
  [33, 61, 61],
  [60],
  [62],
  [60, 61],
  [62, 61],
  [60, 60],
  [62, 62],
  [62, 62, 62],
  [47],
  [37],
  [63, 63],
  [124, 124],
  [38, 38],
  [63],
  [43, 61],
  [45, 61],
  [42, 61],
  [47, 61],
  [37, 61],
  [42, 42, 61],
  [60, 60, 61],
  [62, 62, 61],
  [62, 62, 62, 61],
  [38, 61],
  [124, 61],
  [94, 61],
  [38, 38, 61],
  [124, 124, 61],
  [63, 63, 61],
  [116, 104, 105, 115],
  [110, 117, 108, 108],
  [116, 114, 117, 101],
  [102, 97, 108, 115, 101],
  [116, 97, 114, 103, 101, 116],
  [63, 46]]
def st_at : List Nat := [31, 429, 592, 606, 634, 645, 658, 668, 673, 678, 977, 985, 998, 1003, 1008, 1014, 1019, 1027, 1037, 1049, 1058, 1063, 1068, 1075, 1080, 1085, 1090, 1097, 1102, 1111, 1120, 1125, 1131, 1137, 1144, 1153, 1160, 1169, 1180, 1190, 1197, 1204, 1220, 1235, 1248, 1254, 1262, 1269, 1275, 1284, 1290, 1302, 1311, 1321, 1330, 1337, 1346, 1357, 1367, 1375, 1387, 1393, 1399, 1404, 1409, 1438, 1443, 1448, 1458, 1466, 1476, 1485, 1491, 1496, 1501, 1506, 1512, 1518, 1525, 1532, 1537, 1542, 1548, 1554, 1560, 1566, 1573, 1578, 1583, 1589, 1595, 1601, 1606, 1612, 1618, 1624, 1630, 1636, 1643, 1650, 1657, 1665, 1671, 1677, 1683, 1690, 1697, 1704, 1712, 1720, 1728, 1737, 1747]
def st_tm (i : Nat) : Term := Term.string (st_src.getD i ("", 0)).1 (st_src.getD i ("", 0)).2
def st_cs (i : Nat) : List Cond := Cond.exactly (st_tm i) "java/lang/String" :: Cond.eq (.field (st_tm i) "java/lang/String" "coder" "B") (.int 0) :: Cond.arrayOf (.field (st_tm i) "java/lang/String" "value" "[B") .byte :: Cond.eq (.length (.field (st_tm i) "java/lang/String" "value" "[B")) (.int (Int32.ofNat (st_len.getD i 0))) ::
  (List.range (st_len.getD i 0)).map (fun j => Cond.eq (.elem (.field (st_tm i) "java/lang/String" "value" "[B") (.int (Int32.ofNat j))) (.int ((st_byt.getD i []).getD j 0)))
def st_FL : List Cond := flatC (Jvm.Cond.and given_1 narrow_1)
set_option maxRecDepth 1000000 in
theorem st_flat : ∀ i, i < 113 → (st_FL.drop (st_at.getD i 0)).take (4 + st_len.getD i 0) = st_cs i := by decide +kernel
theorem st_in {i : Nat} (hi : i < 113) {w : Cond} (h : w ∈ st_cs i) : w ∈ st_FL := by
  rw [← st_flat i hi] at h
  exact List.mem_of_mem_drop (List.mem_of_mem_take h)
theorem st_lens : ∀ i, i < 113 → (st_byt.getD i []).length = st_len.getD i 0 ∧ st_len.getD i 0 < 2 ^ 31 := by decide +kernel
theorem st_apart : ∀ i, i < 113 → ∀ j, j < 113 → st_byt.getD i [] = st_byt.getD j [] → i = j := by decide +kernel
theorem st_gd {l : List Int32} {n : Nat} (h : n < l.length) : l.getD n 0 = l[n] := by
  rw [List.getD_eq_getElem?_getD, List.getElem?_eq_getElem h, Option.getD_some]
/-- the texts at the start: as the kit has it, but apart by what they hold -/
theorem st_S {args : Array Value} {s : State} {A : Nat → Prop} (hs : ∀ w ∈ st_FL, w.before args s = true) (hA : ∀ a : Nat, a < s.heap.size → ¬ A a) :
    ∃ adK adV : Nat → Nat, vk_S 113 st_len st_byt adK adV A s s.heap ∧ ∀ i : Nat, i < 113 → (st_tm i).eval args s none [] s = some (.ref (adK i)) := by
  have h0 : ∀ i : Nat, ∃ q : Nat × Nat, i < 113 → (st_tm i).eval args s none [] s = some (.ref q.1) ∧ va_O "java/lang/String" q.1 A s s.heap ∧ va_OF "java/lang/String" "coder" "B" (.int 0) q.1 A s s.heap ∧ va_OF "java/lang/String" "value" "[B" (.ref q.2) q.1 A s s.heap ∧ va_T .byte q.2 (st_len.getD i 0) (fun j => .int ((st_byt.getD i []).getD j 0)) A s s.heap := by
    intro i
    by_cases hi : i < 113
    · have hin : ∀ w ∈ st_cs i, w.before args s = true := fun w hw => hs w (st_in hi hw)
      have e1 := hin _ List.mem_cons_self
      have e2 := hin _ (List.mem_cons_of_mem _ List.mem_cons_self)
      have e3 := hin _ (List.mem_cons_of_mem _ (List.mem_cons_of_mem _ List.mem_cons_self))
      have e4 := hin _ (List.mem_cons_of_mem _ (List.mem_cons_of_mem _ (List.mem_cons_of_mem _ List.mem_cons_self)))
      have e5 : ∀ j, j < st_len.getD i 0 → (Cond.eq (.elem (.field (st_tm i) "java/lang/String" "value" "[B") (.int (Int32.ofNat j))) (.int ((st_byt.getD i []).getD j 0))).before args s = true := fun j hj =>
        hin _ (List.mem_cons_of_mem _ (List.mem_cons_of_mem _ (List.mem_cons_of_mem _ (List.mem_cons_of_mem _ (List.mem_map.mpr ⟨j, List.mem_range.mpr hj, rfl⟩)))))
      obtain ⟨a, c, cA, kA, q1, q2, q3, q4, q5, q6, -⟩ := Cond.exactly_spec (args := args) (first := s) (o := none) (s := s) (idx := []) (t := st_tm i) (cls := "java/lang/String") e1
      obtain ⟨t, ht, hT⟩ := va_Tof (f := fun j => .int ((st_byt.getD i []).getD j 0)) (A := A) (st_lens i hi).2 e3 (va_eqt e4) (fun j hj => va_eqt (e5 j hj)) hA
      exact ⟨(a, t), fun _ => ⟨q1, ⟨cA, q3, q5, by rw [q6]; exact q2, hA a (Array.getElem?_eq_some_iff.mp q3).1⟩, vk_OFof q1 (va_eqt e2) hA, vk_OFof q1 ht hA, hT⟩⟩
    · exact ⟨(0, 0), fun h => absurd h hi⟩
  obtain ⟨ad, had⟩ := Classical.axiomOfChoice h0
  refine ⟨fun i => (ad i).1, fun i => (ad i).2, ⟨fun i hi => (had i hi).2, fun i j hi hj e => ?_⟩, fun i hi => (had i hi).1⟩
  have e : (ad i).1 = (ad j).1 := e
  obtain ⟨-, -, -, ⟨cf, k, fi, f, cell, f1, -, f3, -, f5, -⟩, ⟨ca, g1, -, -, g4, g5, g6, -⟩⟩ := had i hi
  obtain ⟨-, -, -, ⟨cf2, k2, fi2, f2, cell2, p1, -, p3, -, p5, -⟩, ⟨cb, r1, -, -, r4, r5, r6, -⟩⟩ := had j hj
  rw [f1] at p1
  cases p1
  rw [e, p3] at f3
  cases f3
  rw [p5] at f5
  have ev : (ad j).2 = (ad i).2 := by injection f5 with f5; injection f5
  rw [ev, g1] at r1
  cases r1
  rw [g5] at r5
  have hl : st_len.getD i 0 = st_len.getD j 0 := by
    have a := nI_clamp (st_lens i hi).2
    have b := nI_clamp (st_lens j hj).2
    unfold nI at a b
    rw [← a, ← b, r5]
  refine st_apart i hi j hj ?_
  refine List.ext_getElem (by rw [(st_lens i hi).1, (st_lens j hj).1, hl]) (fun n h1 h2 => ?_)
  have a := g6 n (by rw [← (st_lens i hi).1]; exact h1)
  have b := r6 n (by rw [← (st_lens j hj).1]; exact h2)
  rw [a] at b
  injection b with b
  injection b with b
  rw [st_gd h1, st_gd h2] at b
  exact b
theorem st_arr {args : Array Value} {s : State} {t : FieldType} (h : (Cond.arrayClass t).before args s = true) : ∃ cA : ClassId, ArrOfT s cA t ∧ s.vm.findClass ("[" ++ t.toString) = some cA := by
  obtain ⟨c, k, comp, h1, h2, h3⟩ := Cond.arrayClass_spec h
  exact ⟨c, fun n z => ⟨fun k h => (by cases h), k, h2, comp, h3⟩, h1⟩
theorem st_world {args : Array Value} {s : State} (hts : ∀ w ∈ lw_tbl, w.before args s = true) : ∃ (D : va_G) (cA : Nat → ClassId), va_K D so_cl (so_tys cA) s := by
  have ha : ∀ w ∈ lw_all, w.before args s = true := fun w hw => hts w (lw_all_tbl hw)
  obtain ⟨c1, i1, k1⟩ := u_known (C := RX1) (T := TX1) (N := 5) (n := 5) ha in_X1 (ha _ q256)
  obtain ⟨c2, i2, k2⟩ := u_known (C := RX2) (T := TX2) (N := 23) (n := 23) ha in_X2 (ha _ q264)
  obtain ⟨c3, i3, k3⟩ := u_known (C := RX3) (T := TX3) (N := 72) (n := 72) ha in_X3 (ha _ q355)
  obtain ⟨c4, i4, k4⟩ := u_known (C := RX4) (T := TX4) (N := 84) (n := 84) ha in_X4 (ha _ q1309)
  obtain ⟨c5, i5, k5⟩ := u_known (C := RX5) (T := TX5) (N := 6) (n := 6) ha in_X5 (ha _ q1315)
  obtain ⟨a0, b0, d0⟩ := st_arr (ha _ q351)
  obtain ⟨a1, b1, d1⟩ := st_arr (ha _ q350)
  obtain ⟨a2, b2, d2⟩ := st_arr (ha _ q584)
  obtain ⟨a3, b3, d3⟩ := st_arr (ha _ q352)
  obtain ⟨a4, b4, d4⟩ := st_arr (ha _ q353)
  refine ⟨(fun k => match k with | 0 => c1 | 1 => c2 | 2 => c3 | 3 => c4 | _ => c5, fun k => match k with | 0 => i1 | 1 => i2 | 2 => i3 | 3 => i4 | _ => i5), fun k => match k with | 0 => a0 | 1 => a1 | 2 => a2 | 3 => a3 | _ => a4, fun k q hq => ?_, fun k q hq => ?_⟩
  · match k, hq with
    | 0, hq => cases hq; exact k1
    | 1, hq => cases hq; exact k2
    | 2, hq => cases hq; exact k3
    | 3, hq => cases hq; exact k4
    | 4, hq => cases hq; exact k5
    | k + 5, hq => simp [so_cl] at hq
  · match k, hq with
    | 0, hq => cases hq; exact ⟨b0, d0⟩
    | 1, hq => cases hq; exact ⟨b1, d1⟩
    | 2, hq => cases hq; exact ⟨b2, d2⟩
    | 3, hq => cases hq; exact ⟨b3, d3⟩
    | 4, hq => cases hq; exact ⟨b4, d4⟩
    | k + 5, hq => simp [so_tys] at hq
/-- the mini machine's world at the start: nothing but the texts and the script -/
def st_0 (L : Nat) (xs : Nat → Int32) (v : Nat → Nat) : mmS := (fun _ => 0, fun k => if 1000 ≤ k ∧ k < 1113 then (fun j => (st_byt.getD (k - 1000) []).getD j 0) else if k = 1999 then xs else fun _ => 0, fun _ _ => 0,
  fun k => if 1000 ≤ k ∧ k < 1113 then st_len.getD (k - 1000) 0 else if k = 1999 then L else 0, v, fun _ => (0, 0), 603072, 7190634)
theorem st_z {args : Array Value} {s : State} {adK : Nat → Nat} (hs : ∀ w ∈ st_FL, w.before args s = true) (h : ∀ i : Nat, i < 113 → (st_tm i).eval args s none [] s = some (.ref (adK i))) (z : String × Nat × String × Nat) (hz : z.2.2.2 < 113) (hw : (Cond.stringRef z.1 z.2.1 z.2.2.1).before args s = true) (ht : st_src.getD z.2.2.2 ("", 0) = (z.1, z.2.1)) : vk_R z.1 z.2.1 z.2.2.1 (adK z.2.2.2) s := by
  have := h _ hz
  unfold st_tm at this
  rw [ht] at this
  exact vk_R.of hw this
set_option maxRecDepth 1000000 in
theorem st_eq : st_FL[1437]? = some (Cond.eq (Term.string "ModuleGate$Reader" 509) (Term.string "ModuleGateModel" 666)) := by decide +kernel
set_option maxRecDepth 100000 in
theorem st_zs_0 {args : Array Value} {s : State} {adK : Nat → Nat} (ht : ∀ w ∈ lw_tbl, w.before args s = true) (hs : ∀ w ∈ st_FL, w.before args s = true) (h : ∀ i : Nat, i < 113 → (st_tm i).eval args s none [] s = some (.ref (adK i))) : ∀ z ∈ ([("ModuleGate$Reader", 655, "await break case catch class const continue debugger default delete do else enum export extends false finally for function if import in instanceof new null return super switch this throw true try typeof var void while with yield let static implements interface package private protected public as async from get of set target constructor prototype arguments eval use_strict default_name * get_ ", 0), ("ModuleGate$Reader", 195, "{ } ( ) [ ] . ... ; , < > <= >= == != === !== + - * / % ** ++ -- << >> >>> & | ^ ! ~ && || ?? ? ?. : = += -= *= /= %= **= <<= >>= >>>= &= |= ^= &&= ||= ??= => ", 1), ("ModuleGate$Reader", 509, "use strict", 2), ("ModuleGateModel", 236, "{}()[];,<>+-*/%&|^!~?:=.", 3), ("ModuleGateModel", 769, "default", 4), ("ModuleGateModel", 889, "*default*", 5), ("ModuleGateModel", 561, "import", 6), ("ModuleGateModel", 325, ";", 7), ("ModuleGateModel", 327, "}", 8), ("ModuleGateModel", 313, " await break case catch class const continue debugger default delete do else enum export extends false finally for function if import in instanceof new null return super switch this throw true try typeof var void while with yield let static implements interface package private protected public ", 9), ("ModuleGateModel", 321, "eval", 10), ("ModuleGateModel", 323, "arguments", 11), ("ModuleGateModel", 349, ",", 12), ("ModuleGateModel", 430, "*", 13), ("ModuleGateModel", 807, "as", 14), ("ModuleGateModel", 336, "{", 15), ("ModuleGateModel", 812, "from", 16), ("ModuleGateModel", 793, "export", 17), ("ModuleGateModel", 572, "function", 18)] : List (String × Nat × String × Nat)), vk_R z.1 z.2.1 z.2.2.1 (adK z.2.2.2) s :=
  List.forall_mem_cons.2 ⟨st_z hs h ("ModuleGate$Reader", 655, "await break case catch class const continue debugger default delete do else enum export extends false finally for function if import in instanceof new null return super switch this throw true try typeof var void while with yield let static implements interface package private protected public as async from get of set target constructor prototype arguments eval use_strict default_name * get_ ", 0) (by decide) (ht _ q725) rfl, List.forall_mem_cons.2 ⟨st_z hs h ("ModuleGate$Reader", 195, "{ } ( ) [ ] . ... ; , < > <= >= == != === !== + - * / % ** ++ -- << >> >>> & | ^ ! ~ && || ?? ? ?. : = += -= *= /= %= **= <<= >>= >>>= &= |= ^= &&= ||= ??= => ", 1) (by decide) (ht _ q873) rfl, List.forall_mem_cons.2 ⟨st_z hs h ("ModuleGate$Reader", 509, "use strict", 2) (by decide) (ht _ q1072) rfl, List.forall_mem_cons.2 ⟨st_z hs h ("ModuleGateModel", 236, "{}()[];,<>+-*/%&|^!~?:=.", 3) (by decide) (ht _ q1692) rfl, List.forall_mem_cons.2 ⟨st_z hs h ("ModuleGateModel", 769, "default", 4) (by decide) (ht _ q1753) rfl, List.forall_mem_cons.2 ⟨st_z hs h ("ModuleGateModel", 889, "*default*", 5) (by decide) (ht _ q1764) rfl, List.forall_mem_cons.2 ⟨st_z hs h ("ModuleGateModel", 561, "import", 6) (by decide) (ht _ q1769) rfl, List.forall_mem_cons.2 ⟨st_z hs h ("ModuleGateModel", 325, ";", 7) (by decide) (ht _ q1790) rfl, List.forall_mem_cons.2 ⟨st_z hs h ("ModuleGateModel", 327, "}", 8) (by decide) (ht _ q1799) rfl, List.forall_mem_cons.2 ⟨st_z hs h ("ModuleGateModel", 313, " await break case catch class const continue debugger default delete do else enum export extends false finally for function if import in instanceof new null return super switch this throw true try typeof var void while with yield let static implements interface package private protected public ", 9) (by decide) (ht _ q1812) rfl, List.forall_mem_cons.2 ⟨st_z hs h ("ModuleGateModel", 321, "eval", 10) (by decide) (ht _ q1813) rfl, List.forall_mem_cons.2 ⟨st_z hs h ("ModuleGateModel", 323, "arguments", 11) (by decide) (ht _ q1814) rfl, List.forall_mem_cons.2 ⟨st_z hs h ("ModuleGateModel", 349, ",", 12) (by decide) (ht _ q1819) rfl, List.forall_mem_cons.2 ⟨st_z hs h ("ModuleGateModel", 430, "*", 13) (by decide) (ht _ q1820) rfl, List.forall_mem_cons.2 ⟨st_z hs h ("ModuleGateModel", 807, "as", 14) (by decide) (ht _ q1821) rfl, List.forall_mem_cons.2 ⟨st_z hs h ("ModuleGateModel", 336, "{", 15) (by decide) (ht _ q1830) rfl, List.forall_mem_cons.2 ⟨st_z hs h ("ModuleGateModel", 812, "from", 16) (by decide) (ht _ q1839) rfl, List.forall_mem_cons.2 ⟨st_z hs h ("ModuleGateModel", 793, "export", 17) (by decide) (ht _ q1840) rfl, List.forall_mem_cons.2 ⟨st_z hs h ("ModuleGateModel", 572, "function", 18) (by decide) (ht _ q1849) rfl, List.forall_mem_nil _⟩⟩⟩⟩⟩⟩⟩⟩⟩⟩⟩⟩⟩⟩⟩⟩⟩⟩⟩
set_option maxRecDepth 100000 in
theorem st_zs_1 {args : Array Value} {s : State} {adK : Nat → Nat} (ht : ∀ w ∈ lw_tbl, w.before args s = true) (hs : ∀ w ∈ st_FL, w.before args s = true) (h : ∀ i : Nat, i < 113 → (st_tm i).eval args s none [] s = some (.ref (adK i))) : ∀ z ∈ ([("ModuleGateModel", 373, "async", 19), ("ModuleGateModel", 329, "(", 20), ("ModuleGateModel", 338, ")", 21), ("ModuleGateModel", 563, "...", 22), ("ModuleGateModel", 334, "[", 23), ("ModuleGateModel", 340, "]", 24), ("ModuleGateModel", 383, "=", 25), ("ModuleGateModel", 531, "new", 26), ("ModuleGateModel", 533, ".", 27), ("ModuleGateModel", 535, "super", 28), ("ModuleGateModel", 365, "yield", 29), ("ModuleGateModel", 432, ":", 30), ("ModuleGateModel", 434, "in", 31), ("ModuleGateModel", 357, "=>", 32), ("ModuleGateModel", 694, "let", 33), ("ModuleGateModel", 696, "const", 34), ("ModuleGateModel", 716, "var", 35), ("ModuleGateModel", 577, "class", 36), ("ModuleGateModel", 582, "extends", 37)] : List (String × Nat × String × Nat)), vk_R z.1 z.2.1 z.2.2.1 (adK z.2.2.2) s :=
  List.forall_mem_cons.2 ⟨st_z hs h ("ModuleGateModel", 373, "async", 19) (by decide) (ht _ q1854) rfl, List.forall_mem_cons.2 ⟨st_z hs h ("ModuleGateModel", 329, "(", 20) (by decide) (ht _ q1867) rfl, List.forall_mem_cons.2 ⟨st_z hs h ("ModuleGateModel", 338, ")", 21) (by decide) (ht _ q1880) rfl, List.forall_mem_cons.2 ⟨st_z hs h ("ModuleGateModel", 563, "...", 22) (by decide) (ht _ q1881) rfl, List.forall_mem_cons.2 ⟨st_z hs h ("ModuleGateModel", 334, "[", 23) (by decide) (ht _ q1882) rfl, List.forall_mem_cons.2 ⟨st_z hs h ("ModuleGateModel", 340, "]", 24) (by decide) (ht _ q1891) rfl, List.forall_mem_cons.2 ⟨st_z hs h ("ModuleGateModel", 383, "=", 25) (by decide) (ht _ q1908) rfl, List.forall_mem_cons.2 ⟨st_z hs h ("ModuleGateModel", 531, "new", 26) (by decide) (ht _ q1913) rfl, List.forall_mem_cons.2 ⟨st_z hs h ("ModuleGateModel", 533, ".", 27) (by decide) (ht _ q1914) rfl, List.forall_mem_cons.2 ⟨st_z hs h ("ModuleGateModel", 535, "super", 28) (by decide) (ht _ q1915) rfl, List.forall_mem_cons.2 ⟨st_z hs h ("ModuleGateModel", 365, "yield", 29) (by decide) (ht _ q1944) rfl, List.forall_mem_cons.2 ⟨st_z hs h ("ModuleGateModel", 432, ":", 30) (by decide) (ht _ q1949) rfl, List.forall_mem_cons.2 ⟨st_z hs h ("ModuleGateModel", 434, "in", 31) (by decide) (ht _ q1950) rfl, List.forall_mem_cons.2 ⟨st_z hs h ("ModuleGateModel", 357, "=>", 32) (by decide) (ht _ q1955) rfl, List.forall_mem_cons.2 ⟨st_z hs h ("ModuleGateModel", 694, "let", 33) (by decide) (ht _ q1972) rfl, List.forall_mem_cons.2 ⟨st_z hs h ("ModuleGateModel", 696, "const", 34) (by decide) (ht _ q1973) rfl, List.forall_mem_cons.2 ⟨st_z hs h ("ModuleGateModel", 716, "var", 35) (by decide) (ht _ q1978) rfl, List.forall_mem_cons.2 ⟨st_z hs h ("ModuleGateModel", 577, "class", 36) (by decide) (ht _ q1979) rfl, List.forall_mem_cons.2 ⟨st_z hs h ("ModuleGateModel", 582, "extends", 37) (by decide) (ht _ q1988) rfl, List.forall_mem_nil _⟩⟩⟩⟩⟩⟩⟩⟩⟩⟩⟩⟩⟩⟩⟩⟩⟩⟩⟩
set_option maxRecDepth 100000 in
theorem st_zs_2 {args : Array Value} {s : State} {adK : Nat → Nat} (ht : ∀ w ∈ lw_tbl, w.before args s = true) (hs : ∀ w ∈ st_FL, w.before args s = true) (h : ∀ i : Nat, i < 113 → (st_tm i).eval args s none [] s = some (.ref (adK i))) : ∀ z ∈ ([("ModuleGateModel", 677, "static", 38), ("ModuleGateModel", 626, "get", 39), ("ModuleGateModel", 628, "set", 40), ("ModuleGateModel", 685, "#constructor", 41), ("ModuleGateModel", 687, "constructor", 42), ("ModuleGateModel", 689, "prototype", 43), ("ModuleGateModel", 721, "if", 44), ("ModuleGateModel", 726, "else", 45), ("ModuleGateModel", 728, "for", 46), ("ModuleGateModel", 773, "of", 47), ("ModuleGateModel", 733, "while", 48), ("ModuleGateModel", 738, "do", 49), ("ModuleGateModel", 740, "continue", 50), ("ModuleGateModel", 742, "break", 51), ("ModuleGateModel", 747, "return", 52), ("ModuleGateModel", 749, "throw", 53), ("ModuleGateModel", 751, "try", 54), ("ModuleGateModel", 765, "catch", 55), ("ModuleGateModel", 767, "finally", 56)] : List (String × Nat × String × Nat)), vk_R z.1 z.2.1 z.2.2.1 (adK z.2.2.2) s :=
  List.forall_mem_cons.2 ⟨st_z hs h ("ModuleGateModel", 677, "static", 38) (by decide) (ht _ q1993) rfl, List.forall_mem_cons.2 ⟨st_z hs h ("ModuleGateModel", 626, "get", 39) (by decide) (ht _ q2002) rfl, List.forall_mem_cons.2 ⟨st_z hs h ("ModuleGateModel", 628, "set", 40) (by decide) (ht _ q2003) rfl, List.forall_mem_cons.2 ⟨st_z hs h ("ModuleGateModel", 685, "#constructor", 41) (by decide) (ht _ q2004) rfl, List.forall_mem_cons.2 ⟨st_z hs h ("ModuleGateModel", 687, "constructor", 42) (by decide) (ht _ q2009) rfl, List.forall_mem_cons.2 ⟨st_z hs h ("ModuleGateModel", 689, "prototype", 43) (by decide) (ht _ q2010) rfl, List.forall_mem_cons.2 ⟨st_z hs h ("ModuleGateModel", 721, "if", 44) (by decide) (ht _ q2027) rfl, List.forall_mem_cons.2 ⟨st_z hs h ("ModuleGateModel", 726, "else", 45) (by decide) (ht _ q2032) rfl, List.forall_mem_cons.2 ⟨st_z hs h ("ModuleGateModel", 728, "for", 46) (by decide) (ht _ q2033) rfl, List.forall_mem_cons.2 ⟨st_z hs h ("ModuleGateModel", 773, "of", 47) (by decide) (ht _ q2038) rfl, List.forall_mem_cons.2 ⟨st_z hs h ("ModuleGateModel", 733, "while", 48) (by decide) (ht _ q2055) rfl, List.forall_mem_cons.2 ⟨st_z hs h ("ModuleGateModel", 738, "do", 49) (by decide) (ht _ q2056) rfl, List.forall_mem_cons.2 ⟨st_z hs h ("ModuleGateModel", 740, "continue", 50) (by decide) (ht _ q2057) rfl, List.forall_mem_cons.2 ⟨st_z hs h ("ModuleGateModel", 742, "break", 51) (by decide) (ht _ q2058) rfl, List.forall_mem_cons.2 ⟨st_z hs h ("ModuleGateModel", 747, "return", 52) (by decide) (ht _ q2063) rfl, List.forall_mem_cons.2 ⟨st_z hs h ("ModuleGateModel", 749, "throw", 53) (by decide) (ht _ q2064) rfl, List.forall_mem_cons.2 ⟨st_z hs h ("ModuleGateModel", 751, "try", 54) (by decide) (ht _ q2065) rfl, List.forall_mem_cons.2 ⟨st_z hs h ("ModuleGateModel", 765, "catch", 55) (by decide) (ht _ q2070) rfl, List.forall_mem_cons.2 ⟨st_z hs h ("ModuleGateModel", 767, "finally", 56) (by decide) (ht _ q2071) rfl, List.forall_mem_nil _⟩⟩⟩⟩⟩⟩⟩⟩⟩⟩⟩⟩⟩⟩⟩⟩⟩⟩⟩
set_option maxRecDepth 100000 in
theorem st_zs_3 {args : Array Value} {s : State} {adK : Nat → Nat} (ht : ∀ w ∈ lw_tbl, w.before args s = true) (hs : ∀ w ∈ st_FL, w.before args s = true) (h : ∀ i : Nat, i < 113 → (st_tm i).eval args s none [] s = some (.ref (adK i))) : ∀ z ∈ ([("ModuleGateModel", 756, "switch", 57), ("ModuleGateModel", 771, "case", 58), ("ModuleGateModel", 760, "debugger", 59), ("ModuleGateModel", 524, "++", 60), ("ModuleGateModel", 526, "--", 61), ("ModuleGateModel", 506, "!", 62), ("ModuleGateModel", 504, "~", 63), ("ModuleGateModel", 453, "instanceof", 64), ("ModuleGateModel", 666, "use strict", 2), ("ModuleGateModel", 483, "+", 65), ("ModuleGateModel", 485, "-", 66), ("ModuleGateModel", 508, "delete", 67), ("ModuleGateModel", 510, "void", 68), ("ModuleGateModel", 512, "typeof", 69), ("ModuleGateModel", 514, "await", 70), ("ModuleGateModel", 519, "**", 71), ("ModuleGateModel", 455, "|", 72), ("ModuleGateModel", 457, "^", 73), ("ModuleGateModel", 459, "&", 74)] : List (String × Nat × String × Nat)), vk_R z.1 z.2.1 z.2.2.1 (adK z.2.2.2) s :=
  List.forall_mem_cons.2 ⟨st_z hs h ("ModuleGateModel", 756, "switch", 57) (by decide) (ht _ q2072) rfl, List.forall_mem_cons.2 ⟨st_z hs h ("ModuleGateModel", 771, "case", 58) (by decide) (ht _ q2077) rfl, List.forall_mem_cons.2 ⟨st_z hs h ("ModuleGateModel", 760, "debugger", 59) (by decide) (ht _ q2078) rfl, List.forall_mem_cons.2 ⟨st_z hs h ("ModuleGateModel", 524, "++", 60) (by decide) (ht _ q2087) rfl, List.forall_mem_cons.2 ⟨st_z hs h ("ModuleGateModel", 526, "--", 61) (by decide) (ht _ q2088) rfl, List.forall_mem_cons.2 ⟨st_z hs h ("ModuleGateModel", 506, "!", 62) (by decide) (ht _ q2089) rfl, List.forall_mem_cons.2 ⟨st_z hs h ("ModuleGateModel", 504, "~", 63) (by decide) (ht _ q2090) rfl, List.forall_mem_cons.2 ⟨st_z hs h ("ModuleGateModel", 453, "instanceof", 64) (by decide) (ht _ q2091) rfl, List.forall_mem_cons.2 ⟨vk_R.of (ht _ q2092) (va_eqR (hs (Cond.eq (Term.string "ModuleGate$Reader" 509) (Term.string "ModuleGateModel" 666)) (List.mem_of_getElem? (i := 1437) st_eq)) (h 2 (by decide))), List.forall_mem_cons.2 ⟨st_z hs h ("ModuleGateModel", 483, "+", 65) (by decide) (ht _ q2109) rfl, List.forall_mem_cons.2 ⟨st_z hs h ("ModuleGateModel", 485, "-", 66) (by decide) (ht _ q2110) rfl, List.forall_mem_cons.2 ⟨st_z hs h ("ModuleGateModel", 508, "delete", 67) (by decide) (ht _ q2111) rfl, List.forall_mem_cons.2 ⟨st_z hs h ("ModuleGateModel", 510, "void", 68) (by decide) (ht _ q2112) rfl, List.forall_mem_cons.2 ⟨st_z hs h ("ModuleGateModel", 512, "typeof", 69) (by decide) (ht _ q2113) rfl, List.forall_mem_cons.2 ⟨st_z hs h ("ModuleGateModel", 514, "await", 70) (by decide) (ht _ q2114) rfl, List.forall_mem_cons.2 ⟨st_z hs h ("ModuleGateModel", 519, "**", 71) (by decide) (ht _ q2119) rfl, List.forall_mem_cons.2 ⟨st_z hs h ("ModuleGateModel", 455, "|", 72) (by decide) (ht _ q2128) rfl, List.forall_mem_cons.2 ⟨st_z hs h ("ModuleGateModel", 457, "^", 73) (by decide) (ht _ q2129) rfl, List.forall_mem_cons.2 ⟨st_z hs h ("ModuleGateModel", 459, "&", 74) (by decide) (ht _ q2130) rfl, List.forall_mem_nil _⟩⟩⟩⟩⟩⟩⟩⟩⟩⟩⟩⟩⟩⟩⟩⟩⟩⟩⟩
set_option maxRecDepth 100000 in
theorem st_zs_4 {args : Array Value} {s : State} {adK : Nat → Nat} (ht : ∀ w ∈ lw_tbl, w.before args s = true) (hs : ∀ w ∈ st_FL, w.before args s = true) (h : ∀ i : Nat, i < 113 → (st_tm i).eval args s none [] s = some (.ref (adK i))) : ∀ z ∈ ([("ModuleGateModel", 461, "==", 75), ("ModuleGateModel", 463, "!=", 76), ("ModuleGateModel", 465, "===", 77), ("ModuleGateModel", 467, "!==", 78), ("ModuleGateModel", 469, "<", 79), ("ModuleGateModel", 471, ">", 80), ("ModuleGateModel", 473, "<=", 81), ("ModuleGateModel", 475, ">=", 82), ("ModuleGateModel", 477, "<<", 83), ("ModuleGateModel", 479, ">>", 84), ("ModuleGateModel", 481, ">>>", 85), ("ModuleGateModel", 487, "/", 86), ("ModuleGateModel", 489, "%", 87), ("ModuleGateModel", 444, "??", 88), ("ModuleGateModel", 446, "||", 89), ("ModuleGateModel", 448, "&&", 90), ("ModuleGateModel", 439, "?", 91), ("ModuleGateModel", 394, "+=", 92), ("ModuleGateModel", 396, "-=", 93)] : List (String × Nat × String × Nat)), vk_R z.1 z.2.1 z.2.2.1 (adK z.2.2.2) s :=
  List.forall_mem_cons.2 ⟨st_z hs h ("ModuleGateModel", 461, "==", 75) (by decide) (ht _ q2131) rfl, List.forall_mem_cons.2 ⟨st_z hs h ("ModuleGateModel", 463, "!=", 76) (by decide) (ht _ q2132) rfl, List.forall_mem_cons.2 ⟨st_z hs h ("ModuleGateModel", 465, "===", 77) (by decide) (ht _ q2133) rfl, List.forall_mem_cons.2 ⟨st_z hs h ("ModuleGateModel", 467, "!==", 78) (by decide) (ht _ q2134) rfl, List.forall_mem_cons.2 ⟨st_z hs h ("ModuleGateModel", 469, "<", 79) (by decide) (ht _ q2135) rfl, List.forall_mem_cons.2 ⟨st_z hs h ("ModuleGateModel", 471, ">", 80) (by decide) (ht _ q2136) rfl, List.forall_mem_cons.2 ⟨st_z hs h ("ModuleGateModel", 473, "<=", 81) (by decide) (ht _ q2137) rfl, List.forall_mem_cons.2 ⟨st_z hs h ("ModuleGateModel", 475, ">=", 82) (by decide) (ht _ q2138) rfl, List.forall_mem_cons.2 ⟨st_z hs h ("ModuleGateModel", 477, "<<", 83) (by decide) (ht _ q2139) rfl, List.forall_mem_cons.2 ⟨st_z hs h ("ModuleGateModel", 479, ">>", 84) (by decide) (ht _ q2140) rfl, List.forall_mem_cons.2 ⟨st_z hs h ("ModuleGateModel", 481, ">>>", 85) (by decide) (ht _ q2141) rfl, List.forall_mem_cons.2 ⟨st_z hs h ("ModuleGateModel", 487, "/", 86) (by decide) (ht _ q2142) rfl, List.forall_mem_cons.2 ⟨st_z hs h ("ModuleGateModel", 489, "%", 87) (by decide) (ht _ q2143) rfl, List.forall_mem_cons.2 ⟨st_z hs h ("ModuleGateModel", 444, "??", 88) (by decide) (ht _ q2144) rfl, List.forall_mem_cons.2 ⟨st_z hs h ("ModuleGateModel", 446, "||", 89) (by decide) (ht _ q2145) rfl, List.forall_mem_cons.2 ⟨st_z hs h ("ModuleGateModel", 448, "&&", 90) (by decide) (ht _ q2146) rfl, List.forall_mem_cons.2 ⟨st_z hs h ("ModuleGateModel", 439, "?", 91) (by decide) (ht _ q2151) rfl, List.forall_mem_cons.2 ⟨st_z hs h ("ModuleGateModel", 394, "+=", 92) (by decide) (ht _ q2152) rfl, List.forall_mem_cons.2 ⟨st_z hs h ("ModuleGateModel", 396, "-=", 93) (by decide) (ht _ q2153) rfl, List.forall_mem_nil _⟩⟩⟩⟩⟩⟩⟩⟩⟩⟩⟩⟩⟩⟩⟩⟩⟩⟩⟩
set_option maxRecDepth 100000 in
theorem st_zs_5 {args : Array Value} {s : State} {adK : Nat → Nat} (ht : ∀ w ∈ lw_tbl, w.before args s = true) (hs : ∀ w ∈ st_FL, w.before args s = true) (h : ∀ i : Nat, i < 113 → (st_tm i).eval args s none [] s = some (.ref (adK i))) : ∀ z ∈ ([("ModuleGateModel", 398, "*=", 94), ("ModuleGateModel", 400, "/=", 95), ("ModuleGateModel", 402, "%=", 96), ("ModuleGateModel", 404, "**=", 97), ("ModuleGateModel", 406, "<<=", 98), ("ModuleGateModel", 408, ">>=", 99), ("ModuleGateModel", 410, ">>>=", 100), ("ModuleGateModel", 412, "&=", 101), ("ModuleGateModel", 414, "|=", 102), ("ModuleGateModel", 416, "^=", 103), ("ModuleGateModel", 418, "&&=", 104), ("ModuleGateModel", 420, "||=", 105), ("ModuleGateModel", 422, "??=", 106), ("ModuleGateModel", 587, "this", 107), ("ModuleGateModel", 589, "null", 108), ("ModuleGateModel", 591, "true", 109), ("ModuleGateModel", 593, "false", 110), ("ModuleGateModel", 595, "target", 111), ("ModuleGateModel", 546, "?.", 112)] : List (String × Nat × String × Nat)), vk_R z.1 z.2.1 z.2.2.1 (adK z.2.2.2) s :=
  List.forall_mem_cons.2 ⟨st_z hs h ("ModuleGateModel", 398, "*=", 94) (by decide) (ht _ q2154) rfl, List.forall_mem_cons.2 ⟨st_z hs h ("ModuleGateModel", 400, "/=", 95) (by decide) (ht _ q2155) rfl, List.forall_mem_cons.2 ⟨st_z hs h ("ModuleGateModel", 402, "%=", 96) (by decide) (ht _ q2156) rfl, List.forall_mem_cons.2 ⟨st_z hs h ("ModuleGateModel", 404, "**=", 97) (by decide) (ht _ q2157) rfl, List.forall_mem_cons.2 ⟨st_z hs h ("ModuleGateModel", 406, "<<=", 98) (by decide) (ht _ q2158) rfl, List.forall_mem_cons.2 ⟨st_z hs h ("ModuleGateModel", 408, ">>=", 99) (by decide) (ht _ q2159) rfl, List.forall_mem_cons.2 ⟨st_z hs h ("ModuleGateModel", 410, ">>>=", 100) (by decide) (ht _ q2160) rfl, List.forall_mem_cons.2 ⟨st_z hs h ("ModuleGateModel", 412, "&=", 101) (by decide) (ht _ q2161) rfl, List.forall_mem_cons.2 ⟨st_z hs h ("ModuleGateModel", 414, "|=", 102) (by decide) (ht _ q2162) rfl, List.forall_mem_cons.2 ⟨st_z hs h ("ModuleGateModel", 416, "^=", 103) (by decide) (ht _ q2163) rfl, List.forall_mem_cons.2 ⟨st_z hs h ("ModuleGateModel", 418, "&&=", 104) (by decide) (ht _ q2164) rfl, List.forall_mem_cons.2 ⟨st_z hs h ("ModuleGateModel", 420, "||=", 105) (by decide) (ht _ q2165) rfl, List.forall_mem_cons.2 ⟨st_z hs h ("ModuleGateModel", 422, "??=", 106) (by decide) (ht _ q2166) rfl, List.forall_mem_cons.2 ⟨st_z hs h ("ModuleGateModel", 587, "this", 107) (by decide) (ht _ q2191) rfl, List.forall_mem_cons.2 ⟨st_z hs h ("ModuleGateModel", 589, "null", 108) (by decide) (ht _ q2192) rfl, List.forall_mem_cons.2 ⟨st_z hs h ("ModuleGateModel", 591, "true", 109) (by decide) (ht _ q2193) rfl, List.forall_mem_cons.2 ⟨st_z hs h ("ModuleGateModel", 593, "false", 110) (by decide) (ht _ q2194) rfl, List.forall_mem_cons.2 ⟨st_z hs h ("ModuleGateModel", 595, "target", 111) (by decide) (ht _ q2195) rfl, List.forall_mem_cons.2 ⟨st_z hs h ("ModuleGateModel", 546, "?.", 112) (by decide) (ht _ q2196) rfl, List.forall_mem_nil _⟩⟩⟩⟩⟩⟩⟩⟩⟩⟩⟩⟩⟩⟩⟩⟩⟩⟩⟩
set_option maxRecDepth 100000 in
theorem st_zs {args : Array Value} {s : State} {adK : Nat → Nat} (ht : ∀ w ∈ lw_tbl, w.before args s = true) (hs : ∀ w ∈ st_FL, w.before args s = true) (h : ∀ i : Nat, i < 113 → (st_tm i).eval args s none [] s = some (.ref (adK i))) : ∀ z ∈ so_str, vk_R z.1 z.2.1 z.2.2.1 (adK z.2.2.2) s := List.forall_mem_append.2 ⟨st_zs_0 ht hs h, List.forall_mem_append.2 ⟨st_zs_1 ht hs h, List.forall_mem_append.2 ⟨st_zs_2 ht hs h, List.forall_mem_append.2 ⟨st_zs_3 ht hs h, List.forall_mem_append.2 ⟨st_zs_4 ht hs h, st_zs_5 ht hs h⟩⟩⟩⟩⟩
set_option maxRecDepth 1000000 in
theorem st_pus : st_FL[4]? = some (Jvm.Cond.isRef (Jvm.Term.static "java/lang/Throwable" "UNASSIGNED_STACK" "[Ljava/lang/StackTraceElement;")) := by decide +kernel
set_option maxRecDepth 1000000 in
theorem st_pss : st_FL[5]? = some (Jvm.Cond.isRef (Jvm.Term.static "java/lang/Throwable" "SUPPRESSED_SENTINEL" "Ljava/util/List;")) := by decide +kernel
set_option maxRecDepth 1000000 in
theorem st_pcs : st_FL[6]? = some (Jvm.Cond.eq (Jvm.Term.static "java/lang/String" "COMPACT_STRINGS" "Z") (Jvm.Term.int (1 : Int32))) := by decide +kernel
set_option maxRecDepth 1000000 in
theorem st_psi : st_FL[7]? = some (Jvm.Cond.isRef (Jvm.Term.static "jdk/internal/util/Preconditions" "SIOOBE_FORMATTER" "Ljava/util/function/BiFunction;")) := by decide +kernel
set_option maxRecDepth 1000000 in
theorem st_pnc : st_FL[16]? = some (Jvm.Cond.not (Jvm.Cond.castable "java/lang/IllegalArgumentException" "java/lang/IndexOutOfBoundsException")) := by decide +kernel
/-- the law's walk, out of the mini machine -/
theorem st_go {p : Program} {e : Env} {s : State} {m : MethodId} {below : List Frame} {meth : Method} {c : Code} (l : Launch) (hflags : l.flags = flags0) {b L : Nat} {xs : Nat → Int32} (hL : L ≤ 384)
    (h1 : p.tables.exec = Jvm.exec) (h2 : c.code = code) (h3 : meth.sig.returnType = ret) (h4 : c.maxLocals = 7) (h5 : s.vm.findClass "ModuleGateLaw" = some m.cls) (h6 : ∀ w ∈ lw_tbl, w.before #[Value.ref b] s = true) (h7 : va_X b L xs s s.heap) (h8 : b < s.heap.size) (h9 : meth.locks = false) (h10 : (Jvm.Cond.and given_1 narrow_1).before #[Value.ref b] s = true)
    (hmm : ∀ v : Nat → Nat, mm_W mt5 (mm_call mmP mmL 2588) (fun o _ => o = .inl (some (.inl 1))) (0, mm_args 7 [.inr (.inr (1999, v 1999))], []) (st_0 L xs v)) :
    W p l e room_1 s m #[Value.ref b] below meth c s.heap [] 0 0 (fun t => ∃ o, t.status = .running ∧ Ended t below o ∧ o = .returned (some (.int 1)) ∧ Framed s o t [] 603072 7190634) (entryFrame m ([Value.ref b] : List Value).toArray 7) := by
  have hl : l.stackTraces = false := by
    unfold Launch.stackTraces
    rw [hflags]
    decide +kernel
  have ht : ∀ w ∈ lw_all, w.before #[Value.ref b] s = true := fun w hw => h6 w (lw_all_tbl hw)
  have hs : ∀ w ∈ st_FL, w.before #[Value.ref b] s = true := flat_of_before _ h10
  have hA : ∀ a : Nat, a < s.heap.size → ¬ (fun q : Nat => s.heap.size ≤ q) a := fun a h => Nat.not_le.mpr h
  obtain ⟨D, cA, hK⟩ := st_world h6
  obtain ⟨adK, adV, hS, hev⟩ := st_S (A := fun q : Nat => s.heap.size ≤ q) hs hA
  have hzq1 : vx_Zq Bundle.tN "UNASSIGNED_STACK" Bundle.steD (fun q : Nat => s.heap.size ≤ q) s s.heap := vx_Zqof (h6 _ q629) (ht _ q241) (hs _ (List.mem_of_getElem? st_pus)) hA
  have hzq2 : vx_Zq Bundle.tN "SUPPRESSED_SENTINEL" Bundle.listD (fun q : Nat => s.heap.size ≤ q) s s.heap := vx_Zqof (h6 _ q631) (ht _ q241) (hs _ (List.mem_of_getElem? st_pss)) hA
  let v : Nat → Nat := fun k => if 1000 ≤ k ∧ k < 1113 then adK (k - 1000) else if 2000 ≤ k ∧ k < 2113 then adV (k - 2000) else b
  let E : so_E9 := (st_len, st_byt, adK, adV, b, L, xs, fun _ => none)
  have hP : so_P E (fun q : Nat => s.heap.size ≤ q) s s.heap := ⟨st_zs h6 hs hev, va_Zof (h6 _ q735) (ht _ q247) (va_eqt (hs _ (List.mem_of_getElem? st_pcs))) hA, va_Zqof (h6 _ q751) (ht _ q249) (hs _ (List.mem_of_getElem? st_psi)) hA,
    List.forall_mem_cons.2 ⟨so_Cs.of (h6 _ q693), List.forall_mem_cons.2 ⟨so_Cs.of (h6 _ q1281), List.forall_mem_cons.2 ⟨so_Cs.of (h6 _ q1316), List.forall_mem_nil _⟩⟩⟩, va_Nc.of (hs _ (List.mem_of_getElem? st_pnc)),
    List.forall_mem_cons.2 ⟨so_Dc.of (h6 _ q666), List.forall_mem_cons.2 ⟨so_Dc.of (h6 _ q668), List.forall_mem_cons.2 ⟨so_Dc.of (h6 _ q670), List.forall_mem_nil _⟩⟩⟩⟩
  have hnest : ∀ w ∈ so_nest, va_Nw w s := fun w hw => va_Nw.of (so_nest_tabs w hw) (h6 w (so_nest_tbl w hw))
  let X : so_X := (p, l, e, room_1, s, m, #[Value.ref b], below, meth, c, D, cA, fun q : Nat => s.heap.size ≤ q, E, mm_call mmP mmL 2588, fun o _ => o = .inl (some (.inl 1)), so_MQ below D cA E (fun q : Nat => s.heap.size ≤ q) (st_0 L xs v) (fun o _ => o = .inl (some (.inl 1))) #[Value.ref b] s)
  have J : so_J X code 7 "ModuleGateLaw" meth.name (st_0 L xs v) (some .boolean) 2588 c.exceptionTable.toList :=
    ⟨⟨h1, h2, h4, h5, ht, hnest, hK, hS, fun q h => h, h9, rfl, Nat.not_le.mpr h8, h7, hl, hzq1, hzq2, hP⟩, ⟨rfl, rfl, rfl, h3⟩, so_calls hl 2588, ⟨Nat.le_of_ble_eq_true (show Nat.ble (2588 + 9) room_1.frames = true from rfl), Nat.le_of_ble_eq_true (show Nat.ble (40 * (2588 + 1) + 512) room_1.locals = true from rfl)⟩, rfl⟩
  have hI := so_tab_W (tb_5 J (fun e u h => nomatch h)) (hmm v)
  have n0 : ∀ k, k < 1000 → mm_n (st_0 L xs v) k = 0 := fun k hk => by
    show (if 1000 ≤ k ∧ k < 1113 then st_len.getD (k - 1000) 0 else if k = 1999 then L else 0) = 0
    rw [if_neg (by omega), if_neg (by omega)]
  have vb : ∀ k, k < 1000 → mm_v (st_0 L xs v) k = b := fun k hk => by
    show (if 1000 ≤ k ∧ k < 1113 then adK (k - 1000) else if 2000 ≤ k ∧ k < 2113 then adV (k - 2000) else b) = b
    rw [if_neg (by omega), if_neg (by omega)]
  have hW0 : so_W D cA (fun q : Nat => s.heap.size ≤ q) (st_0 L xs v) s.heap :=
    ⟨fun k hk h0 => absurd (n0 k hk) (by omega), fun j k hj hk h0 => absurd (n0 j hj) (by omega), fun k hk => by rw [vb k hk]; exact h8, trivial, fun k hk h0 => absurd (n0 k hk) (by omega), fun k hk => by rw [n0 k hk]; decide, fun n j _ _ _ hj h0 => absurd (n0 j hj) (by omega)⟩
  have v99 : v 1999 = b := rfl
  have hS0 : so_S E (st_0 L xs v) := by
    refine ⟨fun i hi => ⟨⟨?_, ?_⟩, ?_, fun j => ?_⟩, ⟨rfl, rfl, fun j => rfl⟩, fun k a hk ha => nomatch ha⟩
    · show (if 1000 ≤ 1000 + i ∧ 1000 + i < 1113 then adK (1000 + i - 1000) else _) = adK i
      rw [if_pos (by omega), show 1000 + i - 1000 = i by omega]
    · show (if 1000 ≤ 2000 + i ∧ 2000 + i < 1113 then adK (2000 + i - 1000) else if 2000 ≤ 2000 + i ∧ 2000 + i < 2113 then adV (2000 + i - 2000) else b) = adV i
      rw [if_neg (by omega), if_pos (by omega), show 2000 + i - 2000 = i by omega]
    · show (if 1000 ≤ 1000 + i ∧ 1000 + i < 1113 then st_len.getD (1000 + i - 1000) 0 else _) = st_len.getD i 0
      rw [if_pos (by omega), show 1000 + i - 1000 = i by omega]
    · show (if 1000 ≤ 1000 + i ∧ 1000 + i < 1113 then (fun j => (st_byt.getD (1000 + i - 1000) []).getD j 0) else _) j = (st_byt.getD i []).getD j 0
      rw [if_pos (by omega), show 1000 + i - 1000 = i by omega]
  have hlv := lv_entry ([Value.ref b]) (n := 7) (Nat.le_of_ble_eq_true rfl)
  have hst : so_st s.heap.size (st_0 L xs v) [.inr (.inr (1999, v 1999))] [Value.ref b] := ⟨by
    show so_rr _ _ 1999 (v 1999) (.ref b)
    unfold so_rr
    rw [if_neg (by decide), if_neg (by decide), if_neg (by decide), if_pos (by decide)]
    exact ⟨rfl, rfl, Or.inr (Or.inl rfl)⟩, trivial⟩
  have hWk := hI s.heap [] 0 0 _ [] hW0 hS0 ⟨Nat.le_refl _, fun _ _ _ => rfl, fun q h => by cases h⟩ (Nat.le_of_eq (Nat.zero_add _)) (Nat.le_of_eq (Nat.zero_add _)) ⟨hlv.1, hlv.2.1, mm_args_len 7 _, fun i x hx => by
    obtain ⟨w, a1, a2⟩ := so_args_lk 7 _ _ (List.replicate (7 - (lg_sl [Value.ref b]).length) Slot.unset) hst i x hx
    exact ⟨w, a1, by rw [List.getElem?_toArray]; exact a2⟩⟩ trivial
  rw [lg_entry_eq]
  refine so_mono (fun t hq => ?_) hWk
  obtain ⟨o, g1, g2, ⟨w, k, n, Lc, e1, ⟨ov, u, e2, e3, e4⟩, e5, e6⟩ | ⟨q, k, n, Lc, F, ce, e1, ⟨e9, u, e2, -⟩, -⟩⟩ := hq
  · have e2 : ov = some (.inl 1) := by injection e2
    subst e2
    have hw : w = some (.int 1) := by
      cases w with
      | none => exact e3.elim
      | some w => rw [show w = .int 1 from e3]
    subst hw
    subst e1
    obtain ⟨-, -, hk, hn, -⟩ := e4
    have hk : k + mm_bc u ≤ 603072 := hk
    have hn : n + mm_bs u ≤ 7190634 := hn
    obtain ⟨f1, f2, f3⟩ := e5
    exact ⟨_, g1, g2, rfl, ⟨_, rfl⟩, f2, f3.weaken (fun y hy hlt => absurd hlt (Nat.not_lt.mpr (e6 y hy))) (by omega) (by omega)⟩
  · exact nomatch e2
