/-! fields -/
theorem so_W.obj {D : va_G} {cA : Nat → ClassId} {A : Nat → Prop} {σ : mmS} {H : Heap} (h : so_W D cA A σ H) {k : Nat} (hk : k < 6) (h0 : 0 < mm_n σ k) :
    ∃ (q : vw_C) (V : Nat → Value), so_cl[k - 1]? = some q ∧ 0 < k ∧ t_OB (mm_v σ k) (D.1 (k - 1)) q.2.2 (D.2 (k - 1)) H V ∧ ∀ j, j < q.2.2 → so_fv H.size σ (100 * k + j) (V j) := by
  have h1 := h.1 k (by omega) h0
  unfold so_at at h1
  rw [if_pos hk] at h1
  exact h1
theorem so_rv.obj {N : Nat} {σ : mmS} {k a : Nat} {w : Value} (hk : k < 6) (h0 : 0 < k) (h : so_rv N σ (.inr (.inr (k, a))) w) : 0 < mm_n σ k ∧ a = mm_v σ k ∧ w = .ref a := by
  have h : so_rr N σ k a w := h
  unfold so_rr at h
  rw [if_neg (by omega), if_pos hk] at h
  exact h
section SOF
variable {p : Program} {l : Launch} {e : Env} {R : Room} {s : State} {m : MethodId} {args : Array Value} {below : List Frame} {meth : Method} {c : Code} {H : Heap} {locs : List Loc} {cells slots : Nat} {Q : State → Prop}
variable {cc : ByteArray} {pc : Nat} {ls : Array Slot} {rest : List Value} {D : va_G} {cA : Nat → ClassId} {A : Nat → Prop} {σ : mmS}
/-- a field's word: of the class itself, or of a nest mate -/
def so_lk (s : State) (args : Array Value) (own : String) (index : Nat) (C name desc : String) : Prop := (Cond.fieldLink own index C name desc).before args s = true ∨ ∃ host, (Cond.fieldLinkNest own index C name desc host).before args s = true
theorem so_get0 (hexec : p.tables.exec = Jvm.exec) (hb : c.code = cc) {own C : String} {T : u_T} {N index k j a : Nat} (hts : ∀ w ∈ lw_all, w.before args s = true) (hin : ∀ w ∈ u_ws C T N, w ∈ lw_all) (hown : s.vm.findClass own = some m.cls) (hK : va_K D so_cl (so_tys cA) s) (hc : so_cl[k]? = some (C, T, N)) {V : Nat → Value} (hO : t_OB a (D.1 k) N (D.2 k) H V) (hj : j < N) (hlink : so_lk s args own index (T j).1 (T j).2.1 (T j).2.2.1)
    (hdg : decode cc pc = .ok (.getfield index, 3)) (kk : W p l e R s m args below meth c H locs cells slots Q (F0 m (pc + 3) ls (V j :: rest))) : W p l e R s m args below meth c H locs cells slots Q (F0 m pc ls (.ref a :: rest)) := by
  obtain ⟨cell, q1, q2, q3, q4⟩ := hO
  obtain ⟨hS, hfc, kC, hkC, hkind⟩ := hK.1 k _ hc
  obtain ⟨cf, kf, fi, f, hi, hsl⟩ := hS j hj
  rcases hlink with hlink | ⟨host, hlink⟩
  · refine W.getf hexec hb hown hlink hi (u_facts hfc hkC (u_lays hts hin hj) hi).1 q1 (by rw [q3]; exact fun h => by cases h) (v := V j) ?_ rfl rfl hdg kk
    rw [hsl, q4 j hj]
  · refine va_Wgetf hexec hb hown hlink hi (u_facts hfc hkC (u_lays hts hin hj) hi).1 q1 (by rw [q3]; exact fun h => by cases h) (v := V j) ?_ rfl rfl hdg kk
    rw [hsl, q4 j hj]
theorem so_put0 (hexec : p.tables.exec = Jvm.exec) (hb : c.code = cc) {own C mn : String} {T : u_T} {N index k j a : Nat} (hts : ∀ w ∈ lw_all, w.before args s = true) (hin : ∀ w ∈ u_ws C T N, w ∈ lw_all) (ty0 : Nat → FieldType) (hty : ∀ k, k < N → parseFieldDescriptor (T k).2.2.1 = some (ty0 k)) (hnm : ∀ a, a < N → ∀ b, b < N → a ≠ b → (T a).2.1 ≠ (T b).2.1)
    (hown : s.vm.findClass own = some m.cls) (hK : va_K D so_cl (so_tys cA) s) (hc : so_cl[k]? = some (C, T, N)) {V : Nat → Value} (hO : t_OB a (D.1 k) N (D.2 k) H V) (hj : j < N) (hmn : meth.name = mn)
    (hlink : (so_lk s args own index (T j).1 (T j).2.1 (T j).2.2.1 ∧ (T j).2.2.2 = false) ∨ ((Cond.fieldLink own index (T j).1 (T j).2.1 (T j).2.2.1).before args s = true ∧ (T j).2.2.2 = true ∧ mn = "<init>" ∧ (T j).1 = own))
    {v : Value} (hn : narrow (ty0 j) v = v) (hfit : fits (ty0 j) v = true) (hS0 : va_S A s.heap H locs) (hA : A a)
    (hdg : decode cc pc = .ok (.putfield index, 3)) (kk : ∀ (H1 : Heap) (locs1 : List Loc), t_OB a (D.1 k) N (D.2 k) H1 (updV V j v) → H1.size = H.size → (∀ q : Nat, q ≠ a → H1[q]? = H[q]?) → va_S A s.heap H1 locs1 → W p l e R s m args below meth c H1 locs1 cells slots Q (F0 m (pc + 3) ls rest)) : W p l e R s m args below meth c H locs cells slots Q (F0 m pc ls (v :: .ref a :: rest)) := by
  have hap := va_apart (own := own) (D := D) hts hin ty0 hty hnm hK hc
  obtain ⟨cell, q1, q2, q3, q4⟩ := hO
  obtain ⟨hS, hfc, kC, hkC, hkind⟩ := hK.1 k _ hc
  obtain ⟨cf, kf, fi, f, hi, hsl⟩ := hS j hj
  have hlay := hts _ (hin _ (u_in_lay hj))
  unfold u_lay at hlay
  have hst := (u_facts hfc hkC (u_lays hts hin hj) hi).1
  rcases hlink with ⟨hlink, hfin⟩ | ⟨hlink, hfin, hini, hdecl⟩
  · rw [if_neg (by rw [hfin]; decide)] at hlay
    have h6 := u_store hfc hkC hkind hlay hi (hty j hj) hn hfit
    rcases hlink with hlink | ⟨host, hlink⟩
    · refine W.putK hexec hb (f := f) ⟨hown, hlink, ⟨_, _, _, hi⟩, hst⟩ (by rw [q2]; exact h6) q1 q3 (by rw [hsl]; exact k2_hasslot (q4 j hj)) rfl rfl hdg fun H' e1 e2 e3 => ?_
      rw [hsl] at e1 ⊢
      exact kk H' _ ⟨_, e1, q2, q3, t_set q4 hap hj v⟩ e2 e3 (hS0.put e2 e3 hA)
    · refine va_WputK hexec hb (f := f) hown hlink hi hst (by rw [q2]; exact h6) q1 q3 (by rw [hsl]; exact k2_hasslot (q4 j hj)) rfl rfl hdg fun H' e1 e2 e3 => ?_
      rw [hsl] at e1 ⊢
      exact kk H' _ ⟨_, e1, q2, q3, t_set q4 hap hj v⟩ e2 e3 (hS0.put e2 e3 hA)
  · rw [if_pos hfin] at hlay
    have hcf : m.cls = cf := by
      obtain ⟨_, _, c', _, _, _, -, -, hf', -, -, -, hown2, -⟩ := Cond.laysFinal_spec hlay
      have e1 : c' = cf := by have := hi.symm.trans hf'; simp at this; exact this.1.symm
      rw [hdecl] at hown2
      rw [← e1]; exact Option.some.inj (hown.symm.trans hown2)
    have h6 := u_fits hfc hkC hkind (Or.inr hlay) hi (hty j hj) hn hfit
    refine W.putFinK hexec hb hown hlink hi hst hcf (hmn.trans hini) (by rw [q2]; exact h6) q1 q3 (by rw [hsl]; exact k2_hasslot (q4 j hj)) rfl rfl hdg fun H' e1 e2 e3 => ?_
    rw [hsl] at e1 ⊢
    exact kk H' _ ⟨_, e1, q2, q3, t_set q4 hap hj v⟩ e2 e3 (hS0.put e2 e3 hA)
end SOF
/-- what the tables say of a class of the world -/
def so_K (k : Nat) (C : String) (T : u_T) (N : Nat) (ty : Nat → FieldType) : Prop := so_cl[k - 1]? = some (C, T, N) ∧ 0 < k ∧ k < 6 ∧ (∀ w ∈ u_ws C T N, w ∈ lw_all) ∧ (∀ k, k < N → parseFieldDescriptor (T k).2.2.1 = some (ty k)) ∧ ∀ a, a < N → ∀ b, b < N → a ≠ b → (T a).2.1 ≠ (T b).2.1
/-- a field by its number and its word -/
def so_F (s : State) (args : Array Value) (own : String) (index n : Nat) : Prop := ∃ (C : String) (T : u_T) (N : Nat) (ty : Nat → FieldType), so_K (n / 100) C T N ty ∧ n % 100 < N ∧ so_lk s args own index (T (n % 100)).1 (T (n % 100)).2.1 (T (n % 100)).2.2.1
theorem so_getI {X : so_X} {cc : ByteArray} {nL pc : Nat} {own mn : String} (C : so_C X cc nL own mn) {index n : Nat} (d : decode cc pc = .ok (.getfield index, 3)) (hk : so_fk n = 0) (hF : so_F X.2.2.2.2.1 X.2.2.2.2.2.2.1 own index n) : so_ok X nL pc (mo_getI n) := by
  obtain ⟨p, l, e, R, s, m, args, below, meth, c, D, cA, A, E, O, Q, QF⟩ := X
  obtain ⟨hx, hb, hml, hown, hts, hnest, hKK, -⟩ := C
  obtain ⟨Cn, T, N, ty, ⟨k1, k2, k3, k4, k5, k6⟩, hj, hlink⟩ := hF
  intro lv st σ K h hK
  match st, h with
  | .inr (.inr (o, a)) :: st, h =>
    intro H locs cells slots ls vs hW hS hA hc hs hl hv
    obtain ⟨w, r, rfl, h1, hv1⟩ := so_iv3 hv
    have h7 : (bif Nat.beq o (n / 100) then K (pc + 3, lv, .inl (mm_f σ n) :: st) σ else False) := h
    clear h
    cases hbo : Nat.beq o (n / 100) with
    | false => rw [hbo] at h7; exact h7.elim
    | true =>
      rw [hbo] at h7
      have ho : o = n / 100 := Nat.eq_of_beq_eq_true hbo
      subst ho
      obtain ⟨h0, ha, rfl⟩ := h1.obj k3 k2
      obtain ⟨q, V, g1, -, g3, g4⟩ := hW.obj k3 h0
      cases g1.symm.trans k1
      subst ha
      refine so_get0 hx hb hts k4 hown hKK k1 g3 hj hlink d ?_
      have hf := g4 (n % 100) hj
      rw [show 100 * (n / 100) + n % 100 = n from Nat.div_add_mod n 100] at hf
      unfold so_fv at hf
      rw [hk] at hf
      rw [show V (n % 100) = .int (mm_f σ n) from hf]
      exact hK _ _ h7 H locs cells slots ls _ hW hS hA hc hs hl ⟨rfl, hv1⟩
theorem so_getA {X : so_X} {cc : ByteArray} {nL pc : Nat} {own mn : String} (C : so_C X cc nL own mn) {index n : Nat} (d : decode cc pc = .ok (.getfield index, 3)) (hk : so_fk n = 1) (hn : 99 < n ∧ n < 1000) (hF : so_F X.2.2.2.2.1 X.2.2.2.2.2.2.1 own index n) : so_ok X nL pc (mo_getA n) := by
  obtain ⟨p, l, e, R, s, m, args, below, meth, c, D, cA, A, E, O, Q, QF⟩ := X
  obtain ⟨hx, hb, hml, hown, hts, hnest, hKK, -⟩ := C
  obtain ⟨Cn, T, N, ty, ⟨k1, k2, k3, k4, k5, k6⟩, hj, hlink⟩ := hF
  intro lv st σ K h hK
  match st, h with
  | .inr (.inr (o, a)) :: st, h =>
    intro H locs cells slots ls vs hW hS hA hc hs hl hv
    obtain ⟨w, r, rfl, h1, hv1⟩ := so_iv3 hv
    have h7 : (bif Nat.beq o (n / 100) then K (pc + 3, lv, .inr (.inr (n, mm_v σ n)) :: st) σ else False) := h
    clear h
    cases hbo : Nat.beq o (n / 100) with
    | false => rw [hbo] at h7; exact h7.elim
    | true =>
      rw [hbo] at h7
      have ho : o = n / 100 := Nat.eq_of_beq_eq_true hbo
      subst ho
      obtain ⟨h0, ha, rfl⟩ := h1.obj k3 k2
      obtain ⟨q, V, g1, -, g3, g4⟩ := hW.obj k3 h0
      cases g1.symm.trans k1
      subst ha
      refine so_get0 hx hb hts k4 hown hKK k1 g3 hj hlink d ?_
      have hf := g4 (n % 100) hj
      rw [show 100 * (n / 100) + n % 100 = n from Nat.div_add_mod n 100] at hf
      unfold so_fv at hf
      rw [hk] at hf
      obtain ⟨hf1, hf2⟩ := hf
      refine hK _ _ h7 H locs cells slots ls _ hW hS hA hc hs hl ⟨?_, hv1⟩
      show so_rr H.size σ n (mm_v σ n) _
      unfold so_rr
      rw [if_neg (by omega), if_neg (by omega), if_neg (by omega), if_neg (by omega)]
      refine ⟨hf1, hW.2.2.1 n (by omega), fun j hj1 hj2 he => ?_⟩
      rcases hf1 with e9 | e9
      · by_cases hz : 0 < mm_n σ n
        · exact hf2 hz
        · exact absurd he.symm (hW.2.2.2.2.2.2 n j hn.1 hn.2 (by omega) hj1 hj2)
      · exact e9
theorem so_cl_lt {k : Nat} {q : vw_C} (h : so_cl[k]? = some q) : q.2.2 < 100 := by
  match k, h with
  | 0, h => cases h; decide
  | 1, h => cases h; decide
  | 2, h => cases h; decide
  | 3, h => cases h; decide
  | 4, h => cases h; decide
  | k + 5, h => simp [so_cl] at h
/-- a field of an object written: nothing else of the world moves -/
theorem so_W.put {D : va_G} {cA : Nat → ClassId} {A : Nat → Prop} {σ u : mmS} {H H1 : Heap} (hW : so_W D cA A σ H) {k j : Nat} {V : Nat → Value} {w : Value} {q : vw_C}
    (hc : so_cl[k - 1]? = some q) (h0 : 0 < k) (hk : k < 6) (hk0 : 0 < mm_n σ k) (hV : ∀ j, j < q.2.2 → so_fv H.size σ (100 * k + j) (V j)) (hO : t_OB (mm_v σ k) (D.1 (k - 1)) q.2.2 (D.2 (k - 1)) H1 (updV V j w)) (hj : j < q.2.2) (hz : H1.size = H.size) (ho : ∀ a : Nat, a ≠ mm_v σ k → H1[a]? = H[a]?)
    (en : mm_n u = mm_n σ) (ev : mm_v u = mm_v σ) (ea : mm_a u = mm_a σ) (el : mm_l u = mm_l σ) (hf : so_fv H.size u (100 * k + j) w) (hfo : ∀ n w', n ≠ 100 * k + j → so_fv H.size σ n w' → so_fv H.size u n w') : so_W D cA A u H1 := by
  obtain ⟨w1, w2, w3, w4, w5, w6, w7⟩ := hW
  have hjN := so_cl_lt hc
  refine ⟨fun k' hk' h0' => ?_, by rw [en, ev]; exact w2, by rw [ev, hz]; exact w3, trivial, by rw [en, ev]; exact w5, by rw [en]; exact w6, by rw [en, ev]; exact w7⟩
  rw [en] at h0'
  have g := w1 k' hk' h0'
  unfold so_at at g ⊢
  by_cases c : k' < 6
  · rw [if_pos c] at g ⊢
    by_cases ck : k' = k
    · subst ck
      refine ⟨q, updV V j w, hc, h0, by rw [ev]; exact hO, fun j' hj' => ?_⟩
      rw [hz]
      unfold updV
      by_cases cj : j' = j
      · rw [if_pos cj, cj]; exact hf
      · rw [if_neg cj]; exact hfo _ _ (by omega) (hV j' hj')
    · obtain ⟨q', V', g1, g2, g3, g4⟩ := g
      have hne : mm_v σ k' ≠ mm_v σ k := fun h => ck (w2 k' k hk' (by omega) h0' hk0 h)
      refine ⟨q', V', g1, g2, by rw [ev]; exact g3.kept (ho _ hne), fun j' hj' => ?_⟩
      rw [hz]
      have := so_cl_lt g1
      exact hfo _ _ (by omega) (g4 j' hj')
  · rw [if_neg c] at g ⊢
    have hne : mm_v σ k' ≠ mm_v σ k := fun h => by
      have := w2 k' k hk' (by omega) h0' hk0 h
      omega
    rw [en, ev, ea, el, ho _ hne]
    exact g
theorem so_fv.setf {N : Nat} {σ : mmS} {i : Nat} {x : Int32} {n : Nat} {w : Value} (h : so_fv N σ n w) (hn : n ≠ i) : so_fv N (mm_setf σ i x) n w := by
  unfold so_fv at h ⊢
  have e : mm_f (mm_setf σ i x) n = mm_f σ n := by simp [mm_f, mm_setf, mm_up, hn]
  split
  · rename_i h9; rw [h9] at h; rw [e]; exact h
  · rename_i h9; rw [h9] at h; exact h
  · rename_i h9; rw [h9] at h; exact h
  · trivial
theorem so_rv.same {N : Nat} {σ u : mmS} {v : mmV} {w : Value} (en : mm_n u = mm_n σ) (ev : mm_v u = mm_v σ) (h : so_rv N σ v w) : so_rv N u v w :=
  h.on (Nat.le_refl _) ⟨fun k _ h9 => ⟨by rw [en]; exact h9, by rw [ev]⟩, fun j h1 h2 _ => ⟨j, h1, by rw [← en]; exact h2, by rw [ev]⟩, fun k _ _ => by rw [ev]⟩
theorem so_fv.setr {N : Nat} {σ : mmS} {i : Nat} {x : Nat × Nat} {n : Nat} {w : Value} (h : so_fv N σ n w) (hn : n ≠ i) : so_fv N (mm_setr σ i x) n w := by
  unfold so_fv at h ⊢
  have e : mm_r (mm_setr σ i x) n = mm_r σ n := by simp [mm_r, mm_setr, mm_up, hn]
  split
  · rename_i h9; rw [h9] at h; exact h
  · rename_i h9; rw [h9] at h; exact h
  · rename_i h9; rw [h9] at h; rw [e]; exact h.same rfl rfl
  · trivial
theorem so_st.same {N : Nat} {σ u : mmS} (en : mm_n u = mm_n σ) (ev : mm_v u = mm_v σ) {vs : List mmV} {ws : List Value} (h : so_st N σ vs ws) : so_st N u vs ws :=
  h.on (Nat.le_refl _) ⟨fun k _ h9 => ⟨by rw [en]; exact h9, by rw [ev]⟩, fun j h1 h2 _ => ⟨j, h1, by rw [← en]; exact h2, by rw [ev]⟩, fun k _ _ => by rw [ev]⟩
theorem so_lv.same {N : Nat} {σ u : mmS} (en : mm_n u = mm_n σ) (ev : mm_v u = mm_v σ) {nL : Nat} {lv : List (Option mmV)} {ls : Array Slot} (h : so_lv N σ nL lv ls) : so_lv N u nL lv ls :=
  h.on (Nat.le_refl _) ⟨fun k _ h9 => ⟨by rw [en]; exact h9, by rw [ev]⟩, fun j h1 h2 _ => ⟨j, h1, by rw [← en]; exact h2, by rw [ev]⟩, fun k _ _ => by rw [ev]⟩
/-- a field that may be written: not final, or in a constructor -/
def so_G (s : State) (args : Array Value) (own mn : String) (index n : Nat) (ty : FieldType) : Prop := ∃ (C : String) (T : u_T) (N : Nat) (tys : Nat → FieldType), so_K (n / 100) C T N tys ∧ n % 100 < N ∧ tys (n % 100) = ty ∧
  ((so_lk s args own index (T (n % 100)).1 (T (n % 100)).2.1 (T (n % 100)).2.2.1 ∧ (T (n % 100)).2.2.2 = false) ∨ ((Cond.fieldLink own index (T (n % 100)).1 (T (n % 100)).2.1 (T (n % 100)).2.2.1).before args s = true ∧ (T (n % 100)).2.2.2 = true ∧ mn = "<init>" ∧ (T (n % 100)).1 = own))
/-- the write of a field, in one law -/
theorem so_putG {p : Program} {l : Launch} {e : Env} {R : Room} {s : State} {m : MethodId} {args : Array Value} {below : List Frame} {meth : Method} {c : Code} {H : Heap} {locs : List Loc} {cells slots : Nat} {QF : State → Prop} {cc : ByteArray} {pc nL : Nat} {ls : Array Slot} {r : List Value} {D : va_G} {cA : Nat → ClassId} {A : Nat → Prop} {E : so_E9} {O : mmCall} {Q : mmQ} {own mn : String} {σ u : mmS} {index n a : Nat} {w : Value} {ty : FieldType}
    (C : so_C (p, l, e, R, s, m, args, below, meth, c, D, cA, A, E, O, Q, QF) cc nL own mn) (d : decode cc pc = .ok (.putfield index, 3)) (hG : so_G s args own mn index n ty) (hw : narrow ty w = w) (hfit : fits ty w = true)
    (hW : so_W D cA A σ H) (hA : va_S A s.heap H locs) (h1 : so_rv H.size σ (.inr (.inr (n / 100, a))) (.ref a))
    (en : mm_n u = mm_n σ) (ev : mm_v u = mm_v σ) (ea : mm_a u = mm_a σ) (el : mm_l u = mm_l σ) (hf : so_fv H.size u n w) (hfo : ∀ n' w', n' ≠ n → so_fv H.size σ n' w' → so_fv H.size u n' w')
    (kk : ∀ (H1 : Heap) (locs1 : List Loc), H1.size = H.size → so_W D cA A u H1 → va_S A s.heap H1 locs1 → W p l e R s m args below meth c H1 locs1 cells slots QF (F0 m (pc + 3) ls r)) :
    W p l e R s m args below meth c H locs cells slots QF (F0 m pc ls (w :: .ref a :: r)) := by
  obtain ⟨hx, hb, hml, hown, hts, hnest, hKK, hvk, hAq, hlk, hmn, hsc⟩ := C
  obtain ⟨Cn, T, N, tys, ⟨k1, k2, k3, k4, k5, k6⟩, hj, hty, hlink⟩ := hG
  obtain ⟨h0, ha, -⟩ := h1.obj k3 k2
  obtain ⟨q, V, g1, -, g3, g4⟩ := hW.obj k3 h0
  cases g1.symm.trans k1
  subst ha
  have hn9 : 100 * (n / 100) + n % 100 = n := Nat.div_add_mod n 100
  refine so_put0 hx hb hts k4 tys k5 k6 hown hKK k1 g3 hj hmn hlink (by rw [hty]; exact hw) (by rw [hty]; exact hfit) hA (hW.2.2.2.2.1 (n / 100) (by omega) h0) d fun H1 locs1 e1 z1 o1 S1 => ?_
  exact kk H1 locs1 z1 (hW.put k1 k2 k3 h0 g4 e1 hj z1 o1 en ev ea el (by rw [hn9]; exact hf) (by rw [hn9]; exact hfo)) S1
theorem so_putI {X : so_X} {cc : ByteArray} {nL pc : Nat} {own mn : String} (C : so_C X cc nL own mn) {index n : Nat} (d : decode cc pc = .ok (.putfield index, 3)) (hk : so_fk n = 0) (hG : so_G X.2.2.2.2.1 X.2.2.2.2.2.2.1 own mn index n .int) : so_ok X nL pc (mo_putI n) := by
  obtain ⟨p, l, e, R, s, m, args, below, meth, c, D, cA, A, E, O, Q, QF⟩ := X
  intro lv st σ K h hK
  match st, h with
  | .inl x :: .inr (.inr (o, a)) :: st, h =>
    intro H locs cells slots ls vs hW hS hA hc hs hl hv
    obtain ⟨w2, r2, rfl, h2, hv1⟩ := so_iv3 hv
    obtain ⟨w, r, rfl, h1, hv2⟩ := so_iv3 hv1
    have h7 : (bif Nat.beq o (n / 100) then K (pc + 3, lv, st) (mm_setf σ n x) else False) := h
    clear h
    cases hbo : Nat.beq o (n / 100) with
    | false => rw [hbo] at h7; exact h7.elim
    | true =>
      rw [hbo] at h7
      have ho : o = n / 100 := Nat.eq_of_beq_eq_true hbo
      subst ho
      obtain ⟨Cn, T, N, tys, ⟨k1, k2, k3, k4, k5, k6⟩, hj, hty, hlink⟩ := id hG
      obtain ⟨h0, ha, rfl⟩ := h1.obj k3 k2
      rw [show w2 = .int x from h2]
      refine so_putG C d hG rfl rfl hW hA h1 (u := mm_setf σ n x) rfl rfl rfl rfl ?_ (fun n' w' hn' hf => hf.setf hn') (fun H1 locs1 z1 W1 S1 => ?_)
      · unfold so_fv
        rw [hk]
        simp [mm_f, mm_setf, mm_up]
      · exact hK _ _ h7 H1 locs1 cells slots ls _ W1 hS S1 hc hs (by rw [z1]; refine so_lv.same ?_ ?_ hl <;> rfl) (by rw [z1]; refine so_st.same ?_ ?_ hv2 <;> rfl)
theorem so_putZ {X : so_X} {cc : ByteArray} {nL pc : Nat} {own mn : String} (C : so_C X cc nL own mn) {index n : Nat} (d : decode cc pc = .ok (.putfield index, 3)) (hk : so_fk n = 0) (hG : so_G X.2.2.2.2.1 X.2.2.2.2.2.2.1 own mn index n .boolean) : so_ok X nL pc (mo_putZ n) := by
  obtain ⟨p, l, e, R, s, m, args, below, meth, c, D, cA, A, E, O, Q, QF⟩ := X
  intro lv st σ K h hK
  match st, h with
  | .inl x :: .inr (.inr (o, a)) :: st, h =>
    intro H locs cells slots ls vs hW hS hA hc hs hl hv
    obtain ⟨w2, r2, rfl, h2, hv1⟩ := so_iv3 hv
    obtain ⟨w, r, rfl, h1, hv2⟩ := so_iv3 hv1
    have h7 : (bif Nat.beq o (n / 100) then (x = 0 ∨ x = 1) ∧ K (pc + 3, lv, st) (mm_setf σ n x) else False) := h
    clear h
    cases hbo : Nat.beq o (n / 100) with
    | false => rw [hbo] at h7; exact h7.elim
    | true =>
      rw [hbo] at h7
      have ho : o = n / 100 := Nat.eq_of_beq_eq_true hbo
      subst ho
      obtain ⟨Cn, T, N, tys, ⟨k1, k2, k3, k4, k5, k6⟩, hj, hty, hlink⟩ := id hG
      obtain ⟨h0, ha, rfl⟩ := h1.obj k3 k2
      obtain ⟨hx01, h7⟩ : (x = 0 ∨ x = 1) ∧ K (pc + 3, lv, st) (mm_setf σ n x) := h7
      rw [show w2 = .int x from h2]
      refine so_putG C d hG (by rcases hx01 with rfl | rfl <;> rfl) (by rcases hx01 with rfl | rfl <;> rfl) hW hA h1 (u := mm_setf σ n x) rfl rfl rfl rfl ?_ (fun n' w' hn' hf => hf.setf hn') (fun H1 locs1 z1 W1 S1 => ?_)
      · unfold so_fv
        rw [hk]
        simp [mm_f, mm_setf, mm_up]
      · exact hK _ _ h7 H1 locs1 cells slots ls _ W1 hS S1 hc hs (by rw [z1]; refine so_lv.same ?_ ?_ hl <;> rfl) (by rw [z1]; refine so_st.same ?_ ?_ hv2 <;> rfl)
/-- references in the heap's bounds -/
theorem so_rv.lt {N : Nat} {σ : mmS} {r : Nat × Nat} {w : Value} (h : so_rv N σ (.inr (.inr r)) w) (hk : 9 ≤ r.1 ∧ r.1 < 1000) : r.2 < N := by
  obtain ⟨k, a⟩ := r
  have h : so_rr N σ k a w := h
  unfold so_rr at h
  rw [if_neg (by omega), if_neg (by omega), if_neg (by omega), if_neg (by omega)] at h
  exact h.2.1
/-- the live slots of u are live slots of σ, perhaps under other numbers -/
def so_RL (σ u : mmS) : Prop := (∀ k, k < 1000 → 0 < mm_n u k → ∃ i, i < 1000 ∧ 0 < mm_n σ i ∧ mm_v u k = mm_v σ i ∧ mm_n u k = mm_n σ i ∧ mm_a u k = mm_a σ i ∧ mm_l u k = mm_l σ i ∧ mm_kd k = mm_kd i ∧ (k < 6 ∨ i < 6 → k = i)) ∧
  (∀ k, k < 6 → mm_n u k = mm_n σ k ∧ mm_v u k = mm_v σ k) ∧ ∀ k, 1000 ≤ k → mm_v u k = mm_v σ k
theorem so_RL.E {σ u : mmS} (h : so_RL σ u) {N : Nat} : so_E N σ u := by
  refine ⟨fun k hk h9 => ⟨by rw [(h.2.1 k hk).1]; exact h9, (h.2.1 k hk).2⟩, fun j h1 h2 _ => ?_, fun k hk _ => h.2.2 k hk⟩
  obtain ⟨i, i1, i2, i3, -⟩ := h.1 j h1 h2
  exact ⟨i, i1, i2, i3.symm⟩
theorem so_W.relab {D : va_G} {cA : Nat → ClassId} {A : Nat → Prop} {σ u : mmS} {H H1 : Heap} (hW : so_W D cA A σ H) {k j : Nat} {V : Nat → Value} {w : Value} {q : vw_C}
    (hc : so_cl[k - 1]? = some q) (h0 : 0 < k) (hk : k < 6) (hk0 : 0 < mm_n σ k) (hV : ∀ j, j < q.2.2 → so_fv H.size σ (100 * k + j) (V j)) (hO : t_OB (mm_v σ k) (D.1 (k - 1)) q.2.2 (D.2 (k - 1)) H1 (updV V j w)) (hj : j < q.2.2) (hz : H1.size = H.size) (ho : ∀ a : Nat, a ≠ mm_v σ k → H1[a]? = H[a]?)
    (hR : so_RL σ u) (hinj : ∀ j k, j < 1000 → k < 1000 → 0 < mm_n u j → 0 < mm_n u k → mm_v u j = mm_v u k → j = k) (hdead : ∀ n j, 99 < n → n < 1000 → mm_n u n = 0 → j < 1000 → 0 < mm_n u j → mm_v u j ≠ mm_v u n) (hlt : ∀ k, k < 1000 → mm_v u k < H.size)
    (hf : so_fv H.size u (100 * k + j) w) (hfo : ∀ n w', n ≠ 100 * k + j → 99 < n → so_fv H.size σ n w' → so_fv H.size u n w') : so_W D cA A u H1 := by
  obtain ⟨w1, w2, w3, w4, w5, w6, w7⟩ := hW
  have hjN := so_cl_lt hc
  refine ⟨fun k' hk' h0' => ?_, hinj, by rw [hz]; exact hlt, trivial, fun k' h1 h3 => ?_, fun k' h1 => ?_, hdead⟩
  · obtain ⟨i, i1, i2, i3, i4, i5, i6, i7, i8⟩ := hR.1 k' hk' h0'
    have g := w1 i i1 i2
    unfold so_at at g ⊢
    by_cases c : k' < 6
    · have e := i8 (Or.inl c)
      subst e
      rw [if_pos c] at g ⊢
      by_cases ck : k' = k
      · subst ck
        refine ⟨q, updV V j w, hc, h0, by rw [i3]; exact hO, fun j' hj' => ?_⟩
        rw [hz]
        unfold updV
        by_cases cj : j' = j
        · rw [if_pos cj, cj]; exact hf
        · rw [if_neg cj]; exact hfo _ _ (by omega) (by omega) (hV j' hj')
      · obtain ⟨q', V', g1, g2, g3, g4⟩ := g
        have hne : mm_v σ k' ≠ mm_v σ k := fun h => ck (w2 k' k i1 (by omega) i2 hk0 h)
        refine ⟨q', V', g1, g2, by rw [i3]; exact g3.kept (ho _ hne), fun j' hj' => ?_⟩
        rw [hz]
        have := so_cl_lt g1
        exact hfo _ _ (by omega) (by omega) (g4 j' hj')
    · have ci : ¬ i < 6 := fun z => c (by have := i8 (Or.inr z); omega)
      rw [if_neg ci] at g
      rw [if_neg c]
      have hne : mm_v σ i ≠ mm_v σ k := fun h => by
        have := w2 i k i1 (by omega) i2 hk0 h
        omega
      rw [i3, i4, i5, i6, i7, ho _ hne]
      exact g
  · obtain ⟨i, i1, i2, i3, i4, i5, i6, i7, i8⟩ := hR.1 k' h1 h3
    rw [i3]
    exact w5 i i1 i2
  · by_cases c : 0 < mm_n u k'
    · obtain ⟨i, i1, i2, i3, i4, -⟩ := hR.1 k' h1 c
      rw [i4]
      exact w6 i i1
    · omega
theorem so_fv.relab {N : Nat} {σ u : mmS} {n : Nat} {w : Value} (h : so_fv N σ n w) (hR : so_RL σ u) (ef : mm_f u n = mm_f σ n) (er : mm_r u n = mm_r σ n) (en : mm_n u n = mm_n σ n) (ev : mm_v u n = mm_v σ n) : so_fv N u n w := by
  unfold so_fv at h ⊢
  split
  · rename_i h9; rw [h9] at h; rw [ef]; exact h
  · rename_i h9; rw [h9] at h; rw [en, ev]; exact h
  · rename_i h9; rw [h9] at h; rw [er]; exact h.on (Nat.le_refl _) hR.E
  · trivial
theorem mm_move_n (σ : mmS) (j k i : Nat) : mm_n (mm_move σ j k) i = if i = j then 0 else if i = k then mm_n σ j else mm_n σ i := rfl
theorem mm_move_v (σ : mmS) (j k i : Nat) : mm_v (mm_move σ j k) i = if i = k then mm_v σ j else mm_v σ i := rfl
theorem mm_move_a (σ : mmS) (j k i : Nat) : mm_a (mm_move σ j k) i = if i = k then mm_a σ j else mm_a σ i := rfl
theorem mm_move_l (σ : mmS) (j k i : Nat) : mm_l (mm_move σ j k) i = if i = k then mm_l σ j else mm_l σ i := rfl
/-- a new array into a field -/
theorem so_putA0 {p : Program} {l : Launch} {e : Env} {R : Room} {s : State} {m : MethodId} {args : Array Value} {below : List Frame} {meth : Method} {c : Code} {H : Heap} {locs : List Loc} {cells slots : Nat} {QF : State → Prop} {cc : ByteArray} {pc nL : Nat} {ls : Array Slot} {r : List Value} {D : va_G} {cA : Nat → ClassId} {A : Nat → Prop} {E : so_E9} {O : mmCall} {Q : mmQ} {own mn : String} {σ u : mmS} {index n t a : Nat} {ty : FieldType}
    (C : so_C (p, l, e, R, s, m, args, below, meth, c, D, cA, A, E, O, Q, QF) cc nL own mn) (d : decode cc pc = .ok (.putfield index, 3)) (hG : so_G s args own mn index n (.array ty)) (hk : so_fk n = 1)
    (hW : so_W D cA A σ H) (hA : va_S A s.heap H locs) (h1 : so_rv H.size σ (.inr (.inr (n / 100, a))) (.ref a))
    (hn : 99 < n ∧ n < 1000) (hu0 : 0 < mm_n u n) (huv : mm_v u n = mm_v σ t) (hR : so_RL σ u) (hinj : ∀ j k, j < 1000 → k < 1000 → 0 < mm_n u j → 0 < mm_n u k → mm_v u j = mm_v u k → j = k) (hdead : ∀ n j, 99 < n → n < 1000 → mm_n u n = 0 → j < 1000 → 0 < mm_n u j → mm_v u j ≠ mm_v u n) (hlt : ∀ k, k < 1000 → mm_v u k < H.size)
    (ef : mm_f u = mm_f σ) (er : mm_r u = mm_r σ) (eo : ∀ n', n' ≠ n → 99 < n' → mm_n u n' = mm_n σ n' ∧ mm_v u n' = mm_v σ n')
    (kk : ∀ (H1 : Heap) (locs1 : List Loc), H1.size = H.size → so_W D cA A u H1 → va_S A s.heap H1 locs1 → W p l e R s m args below meth c H1 locs1 cells slots QF (F0 m (pc + 3) ls r)) :
    W p l e R s m args below meth c H locs cells slots QF (F0 m pc ls (.ref (mm_v σ t) :: .ref a :: r)) := by
  obtain ⟨hx, hb, hml, hown, hts, hnest, hKK, hvk, hAq, hlk, hmn, hsc⟩ := C
  obtain ⟨Cn, T, N, tys, ⟨k1, k2, k3, k4, k5, k6⟩, hj, hty, hlink⟩ := hG
  obtain ⟨h0, ha, -⟩ := h1.obj k3 k2
  obtain ⟨q, V, g1, -, g3, g4⟩ := hW.obj k3 h0
  cases g1.symm.trans k1
  subst ha
  have hn9 : 100 * (n / 100) + n % 100 = n := Nat.div_add_mod n 100
  refine so_put0 hx hb hts k4 tys k5 k6 hown hKK k1 g3 hj hmn hlink (by rw [hty]; rfl) (by rw [hty]; rfl) hA (hW.2.2.2.2.1 (n / 100) (by omega) h0) d fun H1 locs1 e1 z1 o1 S1 => ?_
  refine kk H1 locs1 z1 (hW.relab k1 k2 k3 h0 g4 e1 hj z1 o1 hR hinj hdead hlt ?_ ?_) S1
  · rw [hn9]
    unfold so_fv
    rw [hk]
    exact ⟨Or.inr (by rw [huv]), fun _ => by rw [huv]⟩
  · rw [hn9]
    intro n' w' h9 h10 hf
    exact hf.relab hR (by rw [ef]) (by rw [er]) (eo n' h9 h10).1 (eo n' h9 h10).2
theorem so_putA {X : so_X} {cc : ByteArray} {nL pc : Nat} {own mn : String} (C : so_C X cc nL own mn) {index n t : Nat} {ty : FieldType} (d : decode cc pc = .ok (.putfield index, 3)) (hk : so_fk n = 1) (hn : 99 < n ∧ n < 1000) (ht : 89 < t ∧ t < 96) (hkd : mm_kd n = mm_kd t) (hG : so_G X.2.2.2.2.1 X.2.2.2.2.2.2.1 own mn index n (.array ty)) : so_ok X nL pc (mo_putA n t) := by
  obtain ⟨p, l, e, R, s, m, args, below, meth, c, D, cA, A, E, O, Q, QF⟩ := X
  intro lv st σ K h hK
  match st, h with
  | .inr (.inr (k, q)) :: .inr (.inr (o, a)) :: st, h =>
    intro H locs cells slots ls vs hW hS hA hc hs hl hv
    obtain ⟨w2, r2, rfl, h2, hv1⟩ := so_iv3 hv
    obtain ⟨w, r, rfl, h1, hv2⟩ := so_iv3 hv1
    have h7 : (bif Nat.beq o (n / 100) then mm_pa σ n t k q (fun u => K (pc + 3, lv, st) u) else False) := h
    clear h
    cases hbo : Nat.beq o (n / 100) with
    | false => rw [hbo] at h7; exact h7.elim
    | true =>
      rw [hbo] at h7
      have ho : o = n / 100 := Nat.eq_of_beq_eq_true hbo
      subst ho
      obtain ⟨Cn, T, N, tys, ⟨k1, k2, k3, k4, k5, k6⟩, hj, hty, hlink⟩ := id hG
      obtain ⟨h0, ha, rfl⟩ := h1.obj k3 k2
      obtain ⟨w1, w2', w3, w4, w5, w6, w7⟩ := id hW
      have harr : so_rr H.size σ k q w2 := h2
      unfold so_rr at harr
      rcases h7 with ⟨rfl, rfl, ht0, h7⟩ | ⟨rfl, rfl, hn0, h7⟩
      · rw [if_neg (by omega), if_neg (by omega), if_neg (by omega), if_neg (by omega)] at harr
        rw [show w2 = .ref (mm_v σ k) from harr.2.2 k (by omega) ht0 rfl]
        have hR : so_RL σ (mm_move σ k n) := by
          refine ⟨fun k' hk' h0' => ?_, fun k' hk' => ?_, fun k' hk' => ?_⟩
          · rw [mm_move_n] at h0'
            rw [mm_move_n, mm_move_v, mm_move_a, mm_move_l]
            by_cases e1 : k' = k
            · rw [if_pos e1] at h0'; omega
            rw [if_neg e1] at h0' ⊢
            by_cases e2 : k' = n
            · rw [if_pos e2, if_pos e2, if_pos e2, if_pos e2]
              rw [e2]
              exact ⟨k, by omega, ht0, rfl, rfl, rfl, rfl, hkd, by omega⟩
            · rw [if_neg e2] at h0'
              rw [if_neg e2, if_neg e2, if_neg e2, if_neg e2]
              exact ⟨k', hk', h0', rfl, rfl, rfl, rfl, rfl, fun _ => rfl⟩
          · rw [mm_move_n, mm_move_v, if_neg (by omega), if_neg (by omega), if_neg (by omega)]
            exact ⟨rfl, rfl⟩
          · rw [mm_move_v, if_neg (by omega)]
        refine so_putA0 C d hG hk hW hA h1 (u := mm_move σ k n) (t := k) hn (by rw [mm_move_n, if_neg (by omega), if_pos rfl]; exact ht0) (by rw [mm_move_v, if_pos rfl]) hR ?_ ?_ ?_ rfl rfl ?_ (fun H1 locs1 z1 W1 S1 => ?_)
        · intro j k' hj1 hk1 hj0 hk0 he
          rw [mm_move_n] at hj0 hk0
          rw [mm_move_v, mm_move_v] at he
          by_cases a1 : j = k
          · rw [if_pos a1] at hj0; omega
          by_cases a2 : k' = k
          · rw [if_pos a2] at hk0; omega
          rw [if_neg a1] at hj0
          rw [if_neg a2] at hk0
          by_cases b1 : j = n
          · by_cases b2 : k' = n
            · omega
            · rw [if_neg b2] at hk0
              rw [if_pos b1, if_neg b2] at he
              exact absurd (w2' k k' (by omega) hk1 ht0 hk0 he).symm a2
          · rw [if_neg b1] at hj0
            by_cases b2 : k' = n
            · rw [if_neg b1, if_pos b2] at he
              exact absurd (w2' j k hj1 (by omega) hj0 ht0 he) a1
            · rw [if_neg b2] at hk0
              rw [if_neg b1, if_neg b2] at he
              exact w2' j k' hj1 hk1 hj0 hk0 he
        · intro n' j hn1 hn2 hz hj1 hj0
          rw [mm_move_n] at hz hj0
          rw [mm_move_v, mm_move_v]
          rw [if_neg (by omega)] at hz
          by_cases b1 : n' = n
          · rw [if_pos b1] at hz; omega
          rw [if_neg b1] at hz
          rw [if_neg b1]
          by_cases a1 : j = k
          · rw [if_pos a1] at hj0; omega
          rw [if_neg a1] at hj0
          by_cases b2 : j = n
          · rw [if_pos b2]
            exact w7 n' k hn1 hn2 hz (by omega) ht0
          · rw [if_neg b2] at hj0
            rw [if_neg b2]
            exact w7 n' j hn1 hn2 hz hj1 hj0
        · intro k' hk'
          rw [mm_move_v]
          by_cases b : k' = n
          · rw [if_pos b]; exact w3 k (by omega)
          · rw [if_neg b]; exact w3 k' hk'
        · intro n' h9 h10
          rw [mm_move_n, mm_move_v, if_neg (by omega), if_neg h9, if_neg h9]
          exact ⟨rfl, rfl⟩
        · exact hK _ _ h7 H1 locs1 cells slots ls _ W1 (hS.on (fun i hi => by
              rw [mm_move_n, mm_move_v, mm_move_a, if_neg (by omega), if_neg (by omega), if_neg (by omega), if_neg (by omega)]
              exact ⟨rfl, rfl, rfl⟩) (fun k9 hk9 h9 => ⟨by rw [(hR.2.1 k9 hk9).1]; exact h9, (hR.2.1 k9 hk9).2⟩)) S1 hc hs (by rw [z1]; exact hl.on (Nat.le_refl _) hR.E) (by rw [z1]; exact hv2.on (Nat.le_refl _) hR.E)
      · rw [if_neg (by omega), if_neg (by omega), if_neg (by omega), if_neg (by omega)] at harr
        rw [show w2 = .ref (mm_v σ k) from harr.2.2 k (by omega) hn0 rfl]
        refine so_putG C d hG rfl rfl hW hA h1 (u := σ) rfl rfl rfl rfl ?_ (fun n' w' hn' hf => hf) (fun H1 locs1 z1 W1 S1 => ?_)
        · unfold so_fv
          rw [hk]
          exact ⟨Or.inr rfl, fun _ => rfl⟩
        · exact hK _ _ h7 H1 locs1 cells slots ls _ W1 hS S1 hc hs (by rw [z1]; exact hl) (by rw [z1]; exact hv2)
theorem so_putAO {X : so_X} {cc : ByteArray} {nL pc : Nat} {own mn : String} (C : so_C X cc nL own mn) {index n t : Nat} {ty : FieldType} (d : decode cc pc = .ok (.putfield index, 3)) (hk : so_fk n = 1) (hn : 99 < n ∧ n < 1000) (ht : 89 < t ∧ t < 96) (hkd : mm_kd n = mm_kd t) (hkd2 : mm_kd 89 = mm_kd n) (hG : so_G X.2.2.2.2.1 X.2.2.2.2.2.2.1 own mn index n (.array ty)) : so_ok X nL pc (mo_putAO n t) := by
  obtain ⟨p, l, e, R, s, m, args, below, meth, c, D, cA, A, E, O, Q, QF⟩ := X
  intro lv st σ K h hK
  match st, h with
  | .inr (.inr (k, q)) :: .inr (.inr (o, a)) :: st, h =>
    intro H locs cells slots ls vs hW hS hA hc hs hl hv
    obtain ⟨w2, r2, rfl, h2, hv1⟩ := so_iv3 hv
    obtain ⟨w, r, rfl, h1, hv2⟩ := so_iv3 hv1
    have h7 : (bif Nat.beq o (n / 100) then k = t ∧ q = mm_v σ t ∧ 0 < mm_n σ t ∧ K (pc + 3, lv, st) (mm_move (mm_move σ n 89) t n) else False) := h
    clear h
    cases hbo : Nat.beq o (n / 100) with
    | false => rw [hbo] at h7; exact h7.elim
    | true =>
      rw [hbo] at h7
      have ho : o = n / 100 := Nat.eq_of_beq_eq_true hbo
      subst ho
      obtain ⟨Cn, T, N, tys, ⟨k1, k2, k3, k4, k5, k6⟩, hj, hty, hlink⟩ := id hG
      obtain ⟨h0, ha, rfl⟩ := h1.obj k3 k2
      obtain ⟨w1, w2', w3, w4, w5, w6, w7⟩ := id hW
      have harr : so_rr H.size σ k q w2 := h2
      unfold so_rr at harr
      obtain ⟨rfl, rfl, ht0, h7⟩ : k = t ∧ q = mm_v σ t ∧ 0 < mm_n σ t ∧ K (pc + 3, lv, st) (mm_move (mm_move σ n 89) t n) := h7
      rw [if_neg (by omega), if_neg (by omega), if_neg (by omega), if_neg (by omega)] at harr
      rw [show w2 = .ref (mm_v σ k) from harr.2.2 k (by omega) ht0 rfl]
      have en : ∀ i, mm_n (mm_move (mm_move σ n 89) k n) i = if i = k then 0 else if i = n then mm_n σ k else if i = 89 then mm_n σ n else mm_n σ i := by
        intro i
        rw [mm_move_n, mm_move_n, mm_move_n]
        by_cases e1 : i = k
        · rw [if_pos e1, if_pos e1]
        · rw [if_neg e1, if_neg e1]
          by_cases e2 : i = n
          · rw [if_pos e2, if_pos e2, if_neg (by omega), if_neg (by omega)]
          · rw [if_neg e2, if_neg e2, if_neg e2]
      have ev : ∀ i, mm_v (mm_move (mm_move σ n 89) k n) i = if i = n then mm_v σ k else if i = 89 then mm_v σ n else mm_v σ i := by
        intro i
        rw [mm_move_v, mm_move_v, mm_move_v, if_neg (show ¬ k = 89 by omega)]
      have ea : ∀ i, mm_a (mm_move (mm_move σ n 89) k n) i = if i = n then mm_a σ k else if i = 89 then mm_a σ n else mm_a σ i := by
        intro i
        rw [mm_move_a, mm_move_a, mm_move_a, if_neg (show ¬ k = 89 by omega)]
      have el : ∀ i, mm_l (mm_move (mm_move σ n 89) k n) i = if i = n then mm_l σ k else if i = 89 then mm_l σ n else mm_l σ i := by
        intro i
        rw [mm_move_l, mm_move_l, mm_move_l, if_neg (show ¬ k = 89 by omega)]
      have hR : so_RL σ (mm_move (mm_move σ n 89) k n) := by
        refine ⟨fun k' hk' h0' => ?_, fun k' hk' => ?_, fun k' hk' => ?_⟩
        · rw [en] at h0'
          rw [en, ev, ea, el]
          by_cases e1 : k' = k
          · rw [if_pos e1] at h0'; omega
          rw [if_neg e1] at h0' ⊢
          by_cases e2 : k' = n
          · rw [if_pos e2, if_pos e2, if_pos e2, if_pos e2]
            rw [e2]
            exact ⟨k, by omega, ht0, rfl, rfl, rfl, rfl, hkd, by omega⟩
          rw [if_neg e2] at h0' ⊢
          rw [if_neg e2, if_neg e2, if_neg e2]
          by_cases e3 : k' = 89
          · rw [if_pos e3] at h0'
            rw [if_pos e3, if_pos e3, if_pos e3, if_pos e3]
            rw [e3]
            exact ⟨n, by omega, h0', rfl, rfl, rfl, rfl, hkd2, by omega⟩
          · rw [if_neg e3] at h0'
            rw [if_neg e3, if_neg e3, if_neg e3, if_neg e3]
            exact ⟨k', hk', h0', rfl, rfl, rfl, rfl, rfl, fun _ => rfl⟩
        · rw [en, ev, if_neg (by omega), if_neg (by omega), if_neg (by omega), if_neg (by omega), if_neg (by omega)]
          exact ⟨rfl, rfl⟩
        · rw [ev, if_neg (by omega), if_neg (by omega)]
      have hsrc : ∀ i, i < 1000 → 0 < mm_n (mm_move (mm_move σ n 89) k n) i → ∃ j, j < 1000 ∧ 0 < mm_n σ j ∧ mm_v (mm_move (mm_move σ n 89) k n) i = mm_v σ j ∧ ((i = n ∧ j = k) ∨ (i = 89 ∧ j = n) ∨ (i ≠ n ∧ i ≠ 89 ∧ i ≠ k ∧ j = i)) := by
        intro i hi h0'
        rw [en] at h0'
        rw [ev]
        by_cases e1 : i = k
        · rw [if_pos e1] at h0'; omega
        rw [if_neg e1] at h0'
        by_cases e2 : i = n
        · rw [if_pos e2]
          exact ⟨k, by omega, ht0, rfl, Or.inl ⟨e2, rfl⟩⟩
        rw [if_neg e2] at h0' ⊢
        by_cases e3 : i = 89
        · rw [if_pos e3] at h0' ⊢
          exact ⟨n, by omega, h0', rfl, Or.inr (Or.inl ⟨e3, rfl⟩)⟩
        · rw [if_neg e3] at h0' ⊢
          exact ⟨i, hi, h0', rfl, Or.inr (Or.inr ⟨e2, e3, e1, rfl⟩)⟩
      refine so_putA0 C d hG hk hW hA h1 (u := mm_move (mm_move σ n 89) k n) (t := k) hn (by rw [en, if_neg (by omega), if_pos rfl]; exact ht0) (by rw [ev, if_pos rfl]) hR ?_ ?_ ?_ rfl rfl ?_ (fun H1 locs1 z1 W1 S1 => ?_)
      · intro i i' hi hi' h0i h0i' he
        obtain ⟨j, j1, j2, j3, j4⟩ := hsrc i hi h0i
        obtain ⟨j', j1', j2', j3', j4'⟩ := hsrc i' hi' h0i'
        have hjj := w2' j j' j1 j1' j2 j2' (by rw [← j3, ← j3', he])
        omega
      · intro n' i hn1 hn2 hz hi h0i
        obtain ⟨j, j1, j2, j3, j4⟩ := hsrc i hi h0i
        rw [en, if_neg (by omega)] at hz
        by_cases b1 : n' = n
        · rw [if_pos b1] at hz; omega
        rw [if_neg b1, if_neg (by omega)] at hz
        rw [j3, ev, if_neg b1, if_neg (by omega)]
        exact w7 n' j hn1 hn2 hz j1 j2
      · intro k' hk'
        rw [ev]
        by_cases b : k' = n
        · rw [if_pos b]; exact w3 k (by omega)
        · rw [if_neg b]
          by_cases b2 : k' = 89
          · rw [if_pos b2]; exact w3 n (by omega)
          · rw [if_neg b2]; exact w3 k' hk'
      · intro n' h9 h10
        rw [en, ev, if_neg (by omega), if_neg h9, if_neg (by omega), if_neg h9, if_neg (by omega)]
        exact ⟨rfl, rfl⟩
      · exact hK _ _ h7 H1 locs1 cells slots ls _ W1 (hS.on (fun i hi => by
            rw [en, ev, ea, if_neg (by omega), if_neg (by omega), if_neg (by omega), if_neg (by omega), if_neg (by omega), if_neg (by omega), if_neg (by omega)]
            exact ⟨rfl, rfl, rfl⟩) (fun k9 hk9 h9 => ⟨by rw [(hR.2.1 k9 hk9).1]; exact h9, (hR.2.1 k9 hk9).2⟩)) S1 hc hs (by rw [z1]; exact hl.on (Nat.le_refl _) hR.E) (by rw [z1]; exact hv2.on (Nat.le_refl _) hR.E)
theorem so_getR {X : so_X} {cc : ByteArray} {nL pc : Nat} {own mn : String} (C : so_C X cc nL own mn) {index n k : Nat} (d : decode cc pc = .ok (.getfield index, 3)) (hk : so_fk n = 2) (hF : so_F X.2.2.2.2.1 X.2.2.2.2.2.2.1 own index n) : so_ok X nL pc (mo_getR n k) := by
  obtain ⟨p, l, e, R, s, m, args, below, meth, c, D, cA, A, E, O, Q, QF⟩ := X
  obtain ⟨hx, hb, hml, hown, hts, hnest, hKK, -⟩ := C
  obtain ⟨Cn, T, N, ty, ⟨k1, k2, k3, k4, k5, k6⟩, hj, hlink⟩ := hF
  intro lv st σ K h hK
  match st, h with
  | .inr (.inr (o, a)) :: st, h =>
    intro H locs cells slots ls vs hW hS hA hc hs hl hv
    obtain ⟨w, r, rfl, h1, hv1⟩ := so_iv3 hv
    have h7 : (bif Nat.beq o (n / 100) then (mm_r σ n).1 = k ∧ K (pc + 3, lv, .inr (.inr (k, (mm_r σ n).2)) :: st) σ else False) := h
    clear h
    cases hbo : Nat.beq o (n / 100) with
    | false => rw [hbo] at h7; exact h7.elim
    | true =>
      rw [hbo] at h7
      have ho : o = n / 100 := Nat.eq_of_beq_eq_true hbo
      subst ho
      obtain ⟨hrk, h7⟩ : (mm_r σ n).1 = k ∧ K (pc + 3, lv, .inr (.inr (k, (mm_r σ n).2)) :: st) σ := h7
      obtain ⟨h0, ha, rfl⟩ := h1.obj k3 k2
      obtain ⟨q, V, g1, -, g3, g4⟩ := hW.obj k3 h0
      cases g1.symm.trans k1
      subst ha
      refine so_get0 hx hb hts k4 hown hKK k1 g3 hj hlink d ?_
      have hf := g4 (n % 100) hj
      rw [show 100 * (n / 100) + n % 100 = n from Nat.div_add_mod n 100] at hf
      unfold so_fv at hf
      rw [hk] at hf
      have hf : so_rr H.size σ (mm_r σ n).1 (mm_r σ n).2 (V (n % 100)) := hf
      rw [hrk] at hf
      exact hK _ _ h7 H locs cells slots ls _ hW hS hA hc hs hl ⟨hf, hv1⟩
theorem so_putR {X : so_X} {cc : ByteArray} {nL pc : Nat} {own mn : String} (C : so_C X cc nL own mn) {index n : Nat} {ty : FieldType} (d : decode cc pc = .ok (.putfield index, 3)) (hk : so_fk n = 2) (hG : so_G X.2.2.2.2.1 X.2.2.2.2.2.2.1 own mn index n ty) (hty : ∀ a, narrow ty (.ref a) = .ref a ∧ fits ty (.ref a) = true ∧ narrow ty .null = .null ∧ fits ty .null = true) : so_ok X nL pc (mo_putR n) := by
  obtain ⟨p, l, e, R, s, m, args, below, meth, c, D, cA, A, E, O, Q, QF⟩ := X
  intro lv st σ K h hK
  match st, h with
  | .inr (.inr rr) :: .inr (.inr (o, a)) :: st, h =>
    intro H locs cells slots ls vs hW hS hA hc hs hl hv
    obtain ⟨w2, r2, rfl, h2, hv1⟩ := so_iv3 hv
    obtain ⟨w, r, rfl, h1, hv2⟩ := so_iv3 hv1
    have h7 : (bif Nat.beq o (n / 100) then K (pc + 3, lv, st) (mm_setr σ n rr) else False) := h
    clear h
    cases hbo : Nat.beq o (n / 100) with
    | false => rw [hbo] at h7; exact h7.elim
    | true =>
      rw [hbo] at h7
      have ho : o = n / 100 := Nat.eq_of_beq_eq_true hbo
      subst ho
      obtain ⟨Cn, T, N, tys, ⟨k1, k2, k3, k4, k5, k6⟩, hj, hty9, hlink⟩ := id hG
      obtain ⟨h0, ha, rfl⟩ := h1.obj k3 k2
      have hww : narrow ty w2 = w2 ∧ fits ty w2 = true := by
        rcases h2.ref with e9 | e9 <;> rw [e9]
        · exact ⟨(hty 0).2.2.1, (hty 0).2.2.2⟩
        · exact ⟨(hty _).1, (hty _).2.1⟩
      refine so_putG C d hG hww.1 hww.2 hW hA h1 (u := mm_setr σ n rr) rfl rfl rfl rfl ?_ (fun n' w' hn' hf => hf.setr hn') (fun H1 locs1 z1 W1 S1 => ?_)
      · unfold so_fv
        rw [hk]
        have e9 : mm_r (mm_setr σ n rr) n = rr := by simp [mm_r, mm_setr, mm_up]
        rw [e9]
        exact h2.same rfl rfl
      · exact hK _ _ h7 H1 locs1 cells slots ls _ W1 hS S1 hc hs (by rw [z1]; refine so_lv.same ?_ ?_ hl <;> rfl) (by rw [z1]; refine so_st.same ?_ ?_ hv2 <;> rfl)
