/-! switches -/
def mm_tgt (x : Int32) (d : Nat) : List (Int32 × Nat) → Nat
  | [] => d
  | (v, t) :: l => if x = v then t else mm_tgt x d l
theorem mm_sw_tgt {K : Nat → Prop} {x : Int32} {d : Nat} : ∀ {l : List (Int32 × Nat)}, mm_sw K x d l → K (mm_tgt x d l)
  | [], h => h
  | (v, t) :: l, h => by
    obtain ⟨h1, h2⟩ : (x = v → K t) ∧ (¬ x = v → mm_sw K x d l) := h
    by_cases c : x = v
    · rw [mm_tgt, if_pos c]; exact h1 c
    · rw [mm_tgt, if_neg c]; exact mm_sw_tgt (h2 c)
theorem mm_tgt_out {x : Int32} {d : Nat} : ∀ {l : List (Int32 × Nat)}, (∀ z ∈ l, ¬ x = z.1) → mm_tgt x d l = d
  | [], _ => rfl
  | (v, t) :: l, h => by
    rw [mm_tgt, if_neg (h _ List.mem_cons_self)]
    exact mm_tgt_out fun z hz => h z (List.mem_cons_of_mem _ hz)
/-- the table says what the list says -/
def so_swT (pc : Nat) (l : List (Int32 × Nat)) (dn : Nat) (dflt lo hi : Int) (offs : Array Int) : Bool :=
  decide ((pc : Int) + dflt = (dn : Int)) && l.all (fun z => decide (lo ≤ z.1.toInt ∧ z.1.toInt ≤ hi)) && decide (hi - lo + 1 ≤ (offs.size : Int)) &&
  (List.range offs.size).all (fun i => match offs[i]? with | some off => decide ((pc : Int) + off = (mm_tgt (Int32.ofInt (lo + i)) dn l : Nat)) | none => false)
def so_swL (pc : Nat) (l : List (Int32 × Nat)) (dn : Nat) (dflt : Int) (ps : Array (Int × Int)) : Bool :=
  decide ((pc : Int) + dflt = (dn : Int)) && ps.toList.all (fun z => decide ((Int32.ofInt z.1).toInt = z.1) && decide ((pc : Int) + z.2 = (mm_tgt (Int32.ofInt z.1) dn l : Nat))) && l.all (fun z => ps.toList.any (fun w => decide (w.1 = z.1.toInt))) &&
  (ps.toList.zip (ps.toList.drop 1)).all (fun (a, next) => a.1 < next.1)
theorem so_off {dflt y : Int} : ∀ (ps : List (Int × Int)), (∃ z ∈ ps, z.1 = y ∧ Op.lookupswitch.offset ps dflt y = z.2) ∨ ((∀ z ∈ ps, ¬ z.1 = y) ∧ Op.lookupswitch.offset ps dflt y = dflt)
  | [] => Or.inr ⟨fun _ h => (nomatch h), rfl⟩
  | (a, o) :: ps => by
    rw [Op.lookupswitch.offset_cons]
    by_cases c : a = y
    · rw [if_pos c]
      exact Or.inl ⟨(a, o), List.mem_cons_self, c, rfl⟩
    · rw [if_neg c]
      rcases so_off (dflt := dflt) (y := y) ps with ⟨z, z1, z2, z3⟩ | ⟨h1, h2⟩
      · exact Or.inl ⟨z, List.mem_cons_of_mem _ z1, z2, z3⟩
      · refine Or.inr ⟨fun z hz => ?_, h2⟩
        rcases List.mem_cons.mp hz with rfl | hz
        · exact c
        · exact h1 z hz
section SOW
variable {X : so_X} {cc : ByteArray} {nL pc : Nat} {own mn : String}
theorem so_switchT (C : so_C X cc nL own mn) {l : List (Int32 × Nat)} {dn len : Nat} {dflt lo hi : Int} {offs : Array Int} (d : decode cc pc = .ok (.tableswitch dflt lo hi offs, len)) (chk : so_swT pc l dn dflt lo hi offs = true) : so_ok X nL pc (mo_switch l dn) := by
  obtain ⟨p, l9, e, R, s, m, args, below, meth, c, D, cA, A, E, O, Q, QF⟩ := X
  obtain ⟨hx, hb, -⟩ := C
  simp only [so_swT, Bool.and_eq_true, decide_eq_true_eq, List.all_eq_true] at chk
  obtain ⟨⟨⟨k1, k2⟩, k3⟩, k4⟩ := chk
  intro lv st σ K h hK
  match st, h with
  | .inl x :: st, h =>
    intro H locs cells slots ls vs hW hS hA hc hs hl hv
    obtain ⟨r, rfl, hv1⟩ := so_iv1 (v := .inl 0) hv
    have h7 : mm_sw (fun t => K (t, lv, st) σ) x dn l := h
    have h8 : K (mm_tgt x dn l, lv, st) σ := mm_sw_tgt h7
    by_cases c1 : x.toInt < lo ∨ hi < x.toInt
    · have e1 : mm_tgt x dn l = dn := mm_tgt_out fun z hz c2 => by
        have := k2 z hz
        rw [← c2] at this
        omega
      rw [e1] at h8
      exact lv_tableOut hx hb d c1 k1 (hK _ _ h8 H locs cells slots ls _ hW hS hA hc hs hl hv1)
    · have e1 : (x.toInt - lo).toNat < offs.size := by omega
      have h9 := k4 _ (List.mem_range.mpr e1)
      have e2 : lo + ((x.toInt - lo).toNat : Int) = x.toInt := by omega
      rw [e2, Int32.ofInt_toInt] at h9
      cases ho : offs[(x.toInt - lo).toNat]? with
      | none => rw [ho] at h9; cases h9
      | some off =>
        rw [ho] at h9
        exact lv_tableIn hx hb d (by omega) (by omega) ho (of_decide_eq_true h9) (hK _ _ h8 H locs cells slots ls _ hW hS hA hc hs hl hv1)
theorem so_switchL (C : so_C X cc nL own mn) {l : List (Int32 × Nat)} {dn len : Nat} {dflt : Int} {ps : Array (Int × Int)} (d : decode cc pc = .ok (.lookupswitch dflt ps, len)) (chk : so_swL pc l dn dflt ps = true) : so_ok X nL pc (mo_switch l dn) := by
  obtain ⟨p, l9, e, R, s, m, args, below, meth, c, D, cA, A, E, O, Q, QF⟩ := X
  obtain ⟨hx, hb, -⟩ := C
  unfold so_swL at chk
  rw [Bool.and_eq_true, Bool.and_eq_true, Bool.and_eq_true] at chk
  obtain ⟨⟨⟨k1, k2⟩, k3⟩, k4⟩ := chk
  replace k1 := of_decide_eq_true k1
  rw [List.all_eq_true] at k2 k3
  intro lv st σ K h hK
  match st, h with
  | .inl x :: st, h =>
    intro H locs cells slots ls vs hW hS hA hc hs hl hv
    obtain ⟨r, rfl, hv1⟩ := so_iv1 (v := .inl 0) hv
    have h7 : mm_sw (fun t => K (t, lv, st) σ) x dn l := h
    have h8 : K (mm_tgt x dn l, lv, st) σ := mm_sw_tgt h7
    rcases so_off (dflt := dflt) (y := x.toInt) ps.toList with ⟨z, z1, z2, z3⟩ | ⟨z1, z2⟩
    · have h9 := k2 z z1
      rw [Bool.and_eq_true] at h9
      have h10 := of_decide_eq_true h9.2
      rw [z2, Int32.ofInt_toInt] at h10
      exact lv_lookup hx hb d k4 z3 h10 (hK _ _ h8 H locs cells slots ls _ hW hS hA hc hs hl hv1)
    · have e1 : mm_tgt x dn l = dn := mm_tgt_out fun z hz c2 => by
        have h9 := k3 z hz
        rw [List.any_eq_true] at h9
        obtain ⟨w, w1, w2⟩ := h9
        exact z1 w w1 ((of_decide_eq_true w2).trans (by rw [c2]))
      rw [e1] at h8
      exact lv_lookup hx hb d k4 z2 k1 (hK _ _ h8 H locs cells slots ls _ hW hS hA hc hs hl hv1)
end SOW
