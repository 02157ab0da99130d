/-! new arrays, new objects -/
theorem so_fv.to {N M : Nat} {σ u : mmS} {n : Nat} {w : Value} (h : so_fv N σ n w) (hNM : N ≤ M) (hE : so_E N σ u) (ef : mm_f u n = mm_f σ n) (er : mm_r u n = mm_r σ n) (en : mm_n u n = mm_n σ n) (ev : mm_v u n = mm_v σ n) : so_fv M u n w := by
  unfold so_fv at h ⊢
  split
  · rename_i h9; rw [h9] at h; rw [ef]; exact h
  · rename_i h9; rw [h9] at h; rw [en, ev]; exact h
  · rename_i h9; rw [h9] at h; rw [er]; exact so_rv.on h hNM hE
  · trivial
theorem so_W.make {D : va_G} {cA : Nat → ClassId} {A : Nat → Prop} {σ : mmS} {H H1 : Heap} (hW : so_W D cA A σ H) {k n : Nat} {g : Nat → Int32} {h : Nat → Int64} (hk : 89 ≤ k ∧ k < 100) (hn : n < 2 ^ 31) (hAq : A H.size)
    (hz : H1.size = H.size + 1) (ho : ∀ a : Nat, a < H.size → H1[a]? = H[a]?) (hc : H1[H.size]? = some (vp_cell (cA (mm_kd k)) (n, if mm_kd k = 4 then .inr (.inl h) else .inl g))) :
    so_W D cA A (mm_make σ k n H.size g h) H1 ∧ so_E H.size σ (mm_make σ k n H.size g h) := by
  obtain ⟨u, hu⟩ : ∃ u, u = mm_make σ k n H.size g h := ⟨_, rfl⟩
  have en : ∀ j, j ≠ k → mm_n u j = mm_n σ j := fun j hj => by rw [hu]; simp [mm_n, mm_make, mm_up, hj]
  have ev : ∀ j, j ≠ k → mm_v u j = mm_v σ j := fun j hj => by rw [hu]; simp [mm_v, mm_make, mm_up, hj]
  have ea : ∀ j, j ≠ k → mm_a u j = mm_a σ j := fun j hj => by rw [hu]; simp [mm_a, mm_make, mm_up, hj]
  have el : ∀ j, j ≠ k → mm_l u j = mm_l σ j := fun j hj => by rw [hu]; simp [mm_l, mm_make, mm_up, hj]
  have enk : mm_n u k = n := by rw [hu]; simp [mm_n, mm_make, mm_up]
  have evk : mm_v u k = H.size := by rw [hu]; simp [mm_v, mm_make, mm_up]
  have eak : mm_a u k = g := by rw [hu]; simp [mm_a, mm_make, mm_up]
  have elk : mm_l u k = h := by rw [hu]; simp [mm_l, mm_make, mm_up]
  have ef : mm_f u = mm_f σ := by rw [hu]; rfl
  have er : mm_r u = mm_r σ := by rw [hu]; rfl
  rw [← hu]
  have hE : so_E H.size σ u := by
    refine ⟨fun j hj h0 => ⟨by rw [en j (by omega)]; exact h0, ev j (by omega)⟩, fun j hj h0 hN => ?_, fun j hj _ => ev j (by omega)⟩
    by_cases c : j = k
    · subst c; rw [evk] at hN; omega
    · exact ⟨j, hj, by rw [← en j c]; exact h0, (ev j c).symm⟩
  refine ⟨?_, hE⟩
  obtain ⟨w1, w2, w3, w4, w5, w6, w7⟩ := hW
  have hlt : ∀ j, j < 1000 → j ≠ k → mm_v u j < H.size := fun j hj c => by rw [ev j c]; exact w3 j hj
  refine ⟨fun j hj h0 => ?_, fun i j hi hj hi0 hj0 hij => ?_, fun j hj => ?_, trivial, fun j hj h0 => ?_, fun j hj => ?_, fun i j hi hi2 hi0 hj hj0 => ?_⟩
  · by_cases c : j = k
    · subst c
      unfold so_at
      rw [if_neg (by omega), evk, enk, eak, elk]
      exact hc
    · rw [en j c] at h0
      have g1 := w1 j hj h0
      unfold so_at at g1 ⊢
      by_cases c6 : j < 6
      · rw [if_pos c6] at g1 ⊢
        obtain ⟨q, V, q1, q2, q3, q4⟩ := g1
        refine ⟨q, V, q1, q2, by rw [ev j c]; exact q3.kept (ho _ (w3 j hj)), fun i hi => ?_⟩
        by_cases c9 : 100 * j + i = k
        · exfalso; omega
        · exact (q4 i hi).to (by omega) hE (by rw [ef]) (by rw [er]) (en _ c9) (ev _ c9)
      · rw [if_neg c6] at g1 ⊢
        rw [ev j c, en j c, ea j c, el j c, ho _ (w3 j hj)]
        exact g1
  · by_cases ci : i = k
    · by_cases cj : j = k
      · rw [ci, cj]
      · have := hlt j hj cj
        rw [ci, evk] at hij
        omega
    · by_cases cj : j = k
      · have := hlt i hi ci
        rw [cj, evk] at hij
        omega
      · rw [ev i ci, ev j cj] at hij
        exact w2 i j hi hj (by rw [← en i ci]; exact hi0) (by rw [← en j cj]; exact hj0) hij
  · by_cases c : j = k
    · rw [c, evk]; omega
    · have := hlt j hj c; omega
  · by_cases c : j = k
    · rw [c, evk]; exact hAq
    · rw [ev j c]; exact w5 j hj (by rw [← en j c]; exact h0)
  · by_cases c : j = k
    · rw [c, enk]; exact hn
    · rw [en j c]; exact w6 j hj
  · have ci : i ≠ k := by omega
    rw [en i ci] at hi0
    rw [ev i ci]
    by_cases cj : j = k
    · rw [cj, evk]
      have := w3 i hi2
      omega
    · rw [ev j cj]
      exact w7 i j hi hi2 hi0 hj (by rw [← en j cj]; exact hj0)
theorem so_tyk {D : va_G} {cA : Nat → ClassId} {s : State} (hK : va_K D so_cl (so_tys cA) s) : ∀ {d : Nat}, d < 5 → s.vm.findClass ("[" ++ (so_ty d).toString) = some (cA d)
  | 0, _ => (hK.2 0 _ rfl).2
  | 1, _ => (hK.2 1 _ rfl).2
  | 2, _ => (hK.2 2 _ rfl).2
  | 3, _ => (hK.2 3 _ rfl).2
  | 4, _ => (hK.2 4 _ rfl).2
  | n + 5, h => absurd h (by omega)
theorem so_dft {c : ClassId} {n : Nat} : ∀ {d : Nat}, d < 5 → arrV c n (fun _ => defaultValue (so_ty d)) = vp_cell c (n, if d = 4 then .inr (.inl fun _ => 0) else .inl fun _ => 0)
  | 0, _ => rfl
  | 1, _ => rfl
  | 2, _ => rfl
  | 3, _ => rfl
  | 4, _ => rfl
  | n + 5, h => absurd h (by omega)
theorem so_bytes : ∀ {d : Nat}, d < 5 → componentBytes (so_ty d) ≤ 8
  | 0, _ => by decide
  | 1, _ => by decide
  | 2, _ => by decide
  | 3, _ => by decide
  | 4, _ => by decide
  | n + 5, h => absurd h (by omega)
theorem so_newarr {X : so_X} {cc : ByteArray} {nL pc : Nat} {own mn : String} (C : so_C X cc nL own mn) {k : Nat} {atype : ArrayType} (hk : 89 ≤ k ∧ k < 100) (hkd : mm_kd k < 5) (hty : newarray.typeOf atype = so_ty (mm_kd k)) (harr : Cond.arrayClass (newarray.typeOf atype) ∈ lw_all)
    (d : decode cc pc = .ok (.newarray atype, 2)) : so_ok X nL pc (mo_newarr k) := by
  obtain ⟨p, l, e, R, s, m, args, below, meth, c, D, cA, A, E, O, Q, QF⟩ := X
  obtain ⟨hx, hb, hml, hown, hts, hnest, hKK, hvk, hAq, -⟩ := C
  intro lv st σ K h hK
  match st, h with
  | .inl x :: st, h =>
    intro H locs cells slots ls vs hW hS hA hc hs hl hv
    obtain ⟨r1, rfl, hv1⟩ := so_iv1 (v := .inl 0) hv
    obtain ⟨h1, h2, h3, h4, h5⟩ : ¬ x < 0 ∧ x.toNatClampNeg ≤ 67108864 ∧ 1 ≤ mm_bc σ ∧ x.toNatClampNeg ≤ mm_bs σ ∧ ∀ q, K (pc + 2, lv, .inr (.inr (k, q)) :: st) (mm_make σ k x.toNatClampNeg q (fun _ => 0) (fun _ => 0)) := h
    refine va_newaK hx hb (hts _ harr) (g := F0 m pc ls (.int x :: r1)) rfl d rfl h1 rfl ?_ (by omega) (by omega) rfl fun H' cA' e1 z1 o1 hAr hNm => ?_
    · rw [hty]
      have := so_bytes hkd
      calc x.toNatClampNeg * componentBytes (so_ty (mm_kd k)) ≤ 67108864 * 8 := Nat.mul_le_mul h2 this
        _ ≤ 536870912 := by decide
    · rw [hty] at e1 hNm
      obtain rfl : cA' = cA (mm_kd k) := Option.some.inj (hNm.symm.trans (so_tyk hKK hkd))
      rw [so_dft hkd] at e1
      obtain ⟨W1, E1⟩ := hW.make (g := fun _ => 0) (h := fun _ => 0) hk (by omega) (hAq _ hA.1) z1 o1 e1
      refine hK _ _ (h5 H.size) H' locs _ _ ls (.ref H.size :: r1) W1 (hS.on (fun j hj => ?_) (fun j hj h0 => ?_)) ⟨Nat.le_trans hA.1 (by omega), fun z q1 q2 => (o1 z (Nat.lt_of_lt_of_le q1 hA.1)).trans (hA.2.1 z q1 q2), hA.2.2⟩ ?_ ?_ (hl.on (by omega) E1) ⟨?_, hv1.on (by omega) E1⟩
      · have : j ≠ k := by omega
        simp [mm_n, mm_v, mm_a, mm_make, mm_up, this]
      · have : j ≠ k := by omega
        exact ⟨by simpa [mm_n, mm_make, mm_up, this] using h0, by simp [mm_v, mm_make, mm_up, this]⟩
      · show cells + 1 + (mm_bc σ - 1) ≤ R.cells
        omega
      · show slots + x.toNatClampNeg + (mm_bs σ - x.toNatClampNeg) ≤ R.slots
        omega
      · show so_rr H'.size _ k H.size (.ref H.size)
        unfold so_rr
        rw [if_neg (by omega), if_neg (by omega), if_neg (by omega), if_neg (by omega)]
        exact ⟨Or.inr rfl, by omega, fun _ _ _ _ => rfl⟩
theorem so_W.born {D : va_G} {cA : Nat → ClassId} {A : Nat → Prop} {σ : mmS} {H H1 : Heap} (hW : so_W D cA A σ H) {k n : Nat} {Cn : String} {T : u_T} {V : Nat → Value} (hk : 0 < k ∧ k < 6) (hcl : so_cl[k - 1]? = some (Cn, T, n)) (h100 : n < 100) (h0 : mm_n σ k = 0) (hf0 : ∀ j, j < n → mm_n σ (100 * k + j) = 0)
    (hAq : A H.size) (hz : H1.size = H.size + 1) (ho : ∀ a : Nat, a < H.size → H1[a]? = H[a]?) (hob : t_OB H.size (D.1 (k - 1)) n (D.2 (k - 1)) H1 V)
    (hV : ∀ j, j < n → (so_fk (100 * k + j) = 0 → V j = .int 0) ∧ (so_fk (100 * k + j) = 1 ∨ so_fk (100 * k + j) = 2 → V j = .null)) (hlen : ∀ (i : Nat) (q : vw_C), so_cl[i]? = some q → q.2.2 < 100) :
    so_W D cA A (mm_born σ k n H.size) H1 ∧ so_E H.size σ (mm_born σ k n H.size) := by
  obtain ⟨u, hu⟩ : ∃ u, u = mm_born σ k n H.size := ⟨_, rfl⟩
  have en : ∀ j, j ≠ k → mm_n u j = mm_n σ j := fun j hj => by rw [hu]; simp [mm_n, mm_born, mm_up, hj]
  have ev : ∀ j, j ≠ k → mm_v u j = mm_v σ j := fun j hj => by rw [hu]; simp [mm_v, mm_born, mm_up, hj]
  have enk : mm_n u k = 1 := by rw [hu]; simp [mm_n, mm_born, mm_up]
  have evk : mm_v u k = H.size := by rw [hu]; simp [mm_v, mm_born, mm_up]
  have ea : mm_a u = mm_a σ := by rw [hu]; rfl
  have el : mm_l u = mm_l σ := by rw [hu]; rfl
  have ef : ∀ j, mm_f u j = if j / 100 = k then 0 else mm_f σ j := fun j => by
    rw [hu]
    show (bif Nat.beq (j / 100) k then (0 : Int32) else σ.1 j) = _
    by_cases c : j / 100 = k
    · rw [if_pos c, show Nat.beq (j / 100) k = true from Nat.beq_eq.mpr c]; rfl
    · rw [if_neg c, show Nat.beq (j / 100) k = false from by cases hb : Nat.beq (j / 100) k with | false => rfl | true => exact absurd (Nat.eq_of_beq_eq_true hb) c]; rfl
  have er : ∀ j, mm_r u j = if j / 100 = k then (0, 0) else mm_r σ j := fun j => by
    rw [hu]
    show (bif Nat.beq (j / 100) k then ((0 : Nat), (0 : Nat)) else σ.2.2.2.2.2.1 j) = _
    by_cases c : j / 100 = k
    · rw [if_pos c, show Nat.beq (j / 100) k = true from Nat.beq_eq.mpr c]; rfl
    · rw [if_neg c, show Nat.beq (j / 100) k = false from by cases hb : Nat.beq (j / 100) k with | false => rfl | true => exact absurd (Nat.eq_of_beq_eq_true hb) c]; rfl
  rw [← hu]
  have hE : so_E H.size σ u := by
    refine ⟨fun j hj h9 => ?_, fun j hj h9 hN => ?_, fun j hj _ => ev j (by omega)⟩
    · have c : j ≠ k := fun z => by rw [z] at h9; omega
      exact ⟨by rw [en j c]; exact h9, ev j c⟩
    · by_cases c : j = k
      · subst c; rw [evk] at hN; omega
      · exact ⟨j, hj, by rw [← en j c]; exact h9, (ev j c).symm⟩
  refine ⟨?_, hE⟩
  obtain ⟨w1, w2, w3, w4, w5, w6, w7⟩ := hW
  have hlt : ∀ j, j < 1000 → j ≠ k → mm_v u j < H.size := fun j hj c => by rw [ev j c]; exact w3 j hj
  refine ⟨fun j hj h9 => ?_, fun i j hi hj hi0 hj0 hij => ?_, fun j hj => ?_, trivial, fun j hj h9 => ?_, fun j hj => ?_, fun i j hi hi2 hi0 hj hj0 => ?_⟩
  · by_cases c : j = k
    · subst c
      unfold so_at
      rw [if_pos hk.2]
      refine ⟨_, V, hcl, hk.1, by rw [evk]; exact hob, fun i hi => ?_⟩
      obtain ⟨v1, v2⟩ := hV i hi
      have hd : (100 * j + i) / 100 = j := by have : i < n := hi; omega
      unfold so_fv
      split
      · rename_i h9; rw [ef, if_pos hd]; exact v1 h9
      · rename_i h9
        refine ⟨Or.inl (v2 (Or.inl h9)), fun z => ?_⟩
        rw [en _ (by omega), hf0 i hi] at z
        omega
      · rename_i h9
        rw [er, if_pos hd]
        show so_rr _ _ 0 0 _
        unfold so_rr
        rw [if_pos rfl]
        exact v2 (Or.inr h9)
      · trivial
    · rw [en j c] at h9
      have g1 := w1 j hj h9
      unfold so_at at g1 ⊢
      by_cases c6 : j < 6
      · rw [if_pos c6] at g1 ⊢
        obtain ⟨q, V', q1, q2, q3, q4⟩ := g1
        have hq := hlen _ _ q1
        refine ⟨q, V', q1, q2, by rw [ev j c]; exact q3.kept (ho _ (w3 j hj)), fun i hi => ?_⟩
        have hd : ¬ (100 * j + i) / 100 = k := by omega
        exact (q4 i hi).to (by omega) hE (by rw [ef, if_neg hd]) (by rw [er, if_neg hd]) (en _ (by omega)) (ev _ (by omega))
      · rw [if_neg c6] at g1 ⊢
        rw [ev j c, en j c, ea, el, ho _ (w3 j hj)]
        exact g1
  · by_cases ci : i = k
    · by_cases cj : j = k
      · rw [ci, cj]
      · have := hlt j hj cj
        rw [ci, evk] at hij
        omega
    · by_cases cj : j = k
      · have := hlt i hi ci
        rw [cj, evk] at hij
        omega
      · rw [ev i ci, ev j cj] at hij
        exact w2 i j hi hj (by rw [← en i ci]; exact hi0) (by rw [← en j cj]; exact hj0) hij
  · by_cases c : j = k
    · rw [c, evk]; omega
    · have := hlt j hj c; omega
  · by_cases c : j = k
    · rw [c, evk]; exact hAq
    · rw [ev j c]; exact w5 j hj (by rw [← en j c]; exact h9)
  · by_cases c : j = k
    · rw [c, enk]; decide
    · rw [en j c]; exact w6 j hj
  · have ci : i ≠ k := by omega
    rw [en i ci] at hi0
    rw [ev i ci]
    by_cases cj : j = k
    · rw [cj, evk]
      have := w3 i hi2
      omega
    · rw [ev j cj]
      exact w7 i j hi hi2 hi0 hj (by rw [← en j cj]; exact hj0)
theorem so_cllen : ∀ (i : Nat) (q : vw_C), so_cl[i]? = some q → q.2.2 < 100
  | 0, _, h => by cases h; decide
  | 1, _, h => by cases h; decide
  | 2, _, h => by cases h; decide
  | 3, _, h => by cases h; decide
  | 4, _, h => by cases h; decide
  | n + 5, _, h => by cases h
theorem so_new {X : so_X} {cc : ByteArray} {nL pc : Nat} {own mn : String} (C : so_C X cc nL own mn) {k n index : Nat} {Cn : String} {T : u_T} {ty : Nat → FieldType} (hKd : so_K k Cn T n ty) (q1 : Cond.classLink own index Cn ∈ lw_all) (q2 : Cond.instantiable Cn n ∈ lw_all) (q3 : Cond.initialized Cn ∈ lw_all)
    (hV : ∀ j, j < n → (so_fk (100 * k + j) = 0 → defaultValue (ty j) = .int 0) ∧ (so_fk (100 * k + j) = 1 ∨ so_fk (100 * k + j) = 2 → defaultValue (ty j) = .null)) (d : decode cc pc = .ok (.new index, 3)) : so_ok X nL pc (mo_new k n) := by
  obtain ⟨p, l, e, R, s, m, args, below, meth, c, D, cA, A, E, O, Q, QF⟩ := X
  obtain ⟨hx, hb, hml, hown, hts, hnest, hKK, hvk, hAq, -⟩ := C
  obtain ⟨k1, k2, k3, k4, k5, k6⟩ := hKd
  intro lv st σ K h hK
  intro H locs cells slots ls vs hW hS hA hc hs hl hv
  obtain ⟨h1, h2, h3, h4, h5⟩ : mm_n σ k = 0 ∧ (∀ j, j < n → mm_n σ (100 * k + j) = 0) ∧ 1 ≤ mm_bc σ ∧ n ≤ mm_bs σ ∧ ∀ q, K (pc + 3, lv, .inr (.inr (k, q)) :: st) (mm_born σ k n q) := h
  have hKn := hKK.1 (k - 1) _ k1
  refine W.newcK hx hb hown (hts _ q1) (hts _ q2) (hts _ q3) (g := F0 m pc ls vs) rfl d (by omega) (by omega) hKn.2.1 rfl fun H1 kC hkC e1 z1 o1 => ?_
  obtain ⟨W1, E1⟩ := hW.born (V := fun j => defaultValue (ty j)) ⟨k2, k3⟩ k1 (so_cllen _ _ k1) h1 h2 (hAq _ hA.1) z1 o1 (u_born ty hts k4 hKn hkC e1 k5) hV so_cllen
  refine hK _ _ (h5 H.size) H1 locs _ _ ls (.ref H.size :: vs) W1 (hS.on (fun j hj => ?_) (fun j hj h0 => ?_)) ⟨Nat.le_trans hA.1 (by omega), fun z q1 q2 => (o1 z (Nat.lt_of_lt_of_le q1 hA.1)).trans (hA.2.1 z q1 q2), hA.2.2⟩ ?_ ?_ (hl.on (by omega) E1) ⟨?_, hv.on (by omega) E1⟩
  · have : j ≠ k := by omega
    simp [mm_n, mm_v, mm_a, mm_born, mm_up, this]
  · have : j ≠ k := fun z => by rw [z] at h0; omega
    exact ⟨by simpa [mm_n, mm_born, mm_up, this] using h0, by simp [mm_v, mm_born, mm_up, this]⟩
  · show cells + 1 + (mm_bc σ - 1) ≤ R.cells
    omega
  · show slots + n + (mm_bs σ - n) ≤ R.slots
    omega
  · show so_rr H1.size _ k H.size (.ref H.size)
    unfold so_rr
    rw [if_neg (by omega), if_pos k3]
    exact ⟨by simp [mm_n, mm_born, mm_up], by simp [mm_v, mm_born, mm_up], rfl⟩
