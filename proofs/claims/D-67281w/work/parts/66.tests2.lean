/-! PHASE 3. Rules: further tests, tokens read, nodes asked -/
def NZ1 (T : sT) (σ : mmS) : Prop := ∃ q, mm_f σ 311 = nI q ∧ q + 1 < 1262 ∧ T.1 (q + 1) ≠ 0
theorem kz_lt {T : sT} {σ : mmS} (t : cI T σ) {q : Nat} (h : T.1 q ≠ 0) : q < 1262 := by
  rcases Nat.lt_or_ge q 1262 with c | c
  · exact c
  · exact absurd (t.1.2.2.2.2.2.2.2.2.2.2 q c) h
section TESTS
variable {β : Type} {T : sT} {Sh : β → Nat → Int32 → mmS → Prop} {N : Int32 → mmS → Prop} {g : Nat} {w0 : cW} {m0 e0 : Nat} {θ : cTh} {l0 : Nat} {Z : Int32 → mmS → Prop} {b : Bool} {h : Nat} {w : cW} {A : cA} {m e : Nat} {r : sR β} {σ : mmS} {i : Nat}
variable {d a : Nat} {Q : mmQ} {Ak Bk : mmS → Prop} {K : Int32 → Prop}
theorem St.good (st : St T Sh N g w0 m0 e0 θ l0 Z false h w A m e r σ i) : cG T w A m e σ i := by
  rcases st with ⟨q, -⟩ | ⟨q, -⟩
  · exact q
  · exact absurd q (by decide)
theorem St.gd (st : St T Sh N g w0 m0 e0 θ l0 Z b h w A m e r σ i) (gd : GD σ) : cG T w A m e σ i := by
  rcases st with ⟨q, -⟩ | ⟨-, q, -⟩
  · exact q
  · exact absurd gd q.no
theorem St.weak (st : St T Sh N g w0 m0 e0 θ l0 Z false h w A m e r σ i) : St T Sh N g w0 m0 e0 θ l0 Z true h w A m e r σ i := by
  rcases st with q | ⟨q, -⟩
  · exact Or.inl q
  · exact absurd q (by decide)
theorem St.rdk (st : St T Sh N g w0 m0 e0 θ l0 Z b h w A m e r σ i) (k : ∀ x, (GD σ → T.1 i = x) → (x ≠ 0 → NZ T σ) → K x) : mm_L σ 304 (mm_f σ 311) K := by
  obtain ⟨q, q1, q2, q3⟩ := st.p
  rw [q1]
  exact st.ci.1.k (by omega) (k _ (fun gd => by rw [q3 gd]) (fun z => ⟨q, q1, kz_lt st.ci z, z⟩))
theorem St.rdv (st : St T Sh N g w0 m0 e0 θ l0 Z b h w A m e r σ i) (k : ∀ x, (GD σ → t_v T i = x) → K x) : mm_L σ 305 (mm_f σ 311) K := by
  obtain ⟨q, q1, q2, q3⟩ := st.p
  rw [q1]
  exact st.ci.1.v (by omega) (k _ (fun gd => by rw [q3 gd]))
theorem St.rdg (st : St T Sh N g w0 m0 e0 θ l0 Z b h w A m e r σ i) (k : ∀ x, (GD σ → T.2.2.1 i = x) → K x) : mm_L σ 308 (mm_f σ 311) K := by
  obtain ⟨q, q1, q2, q3⟩ := st.p
  rw [q1]
  exact st.ci.1.g (by omega) (k _ (fun gd => by rw [q3 gd]))
theorem St.rdk1 (st : St T Sh N g w0 m0 e0 θ l0 Z b h w A m e r σ i) (k : ∀ x, (GD σ → T.1 (i + 1) = x) → (x ≠ 0 → NZ1 T σ) → K x) : mm_L σ 304 (mm_f σ 311 + 1) K := by
  obtain ⟨q, q1, q2, q3⟩ := st.p
  rw [q1, nI_1]
  exact st.ci.1.k (by omega) (k _ (fun gd => by rw [q3 gd]) (fun z => ⟨q, q1, kz_lt st.ci z, z⟩))
theorem St.rdv1 (st : St T Sh N g w0 m0 e0 θ l0 Z b h w A m e r σ i) (k : ∀ x, (GD σ → t_v T (i + 1) = x) → K x) : mm_L σ 305 (mm_f σ 311 + 1) K := by
  obtain ⟨q, q1, q2, q3⟩ := st.p
  rw [q1, nI_1]
  exact st.ci.1.v (by omega) (k _ (fun gd => by rw [q3 gd]))
theorem St.isName (st : St T Sh N g w0 m0 e0 θ l0 Z b h w A m e r σ i) (hd : 1 ≤ d) (k0 : (GD σ → t_id T i = false) → Ak σ) (k1 : (GD σ → t_id T i = true) → NZ T σ → Bk σ) : mm_I (MC d) Q 3027 [.inr (.inr (3, a))] σ (fun x u => mm_br (x = 0) (Ak u) (Bk u)) := by
  obtain ⟨q, q1, q2, q3⟩ := st.p
  refine c_isName hd st.ci.1 q1 (by omega) (br_0 (fun z => k0 fun gd => by rw [← q3 gd]; exact z) (fun z => k1 (fun gd => by rw [← q3 gd]; exact z) ⟨q, q1, ?_⟩))
  have : T.1 q ≠ 0 := by
    simp only [t_id, Bool.and_eq_true, beq_iff_eq] at z
    rw [z.1]
    decide
  exact ⟨kz_lt st.ci this, this⟩
theorem St.line (st : St T Sh N g w0 m0 e0 θ l0 Z b h w A m e r σ i) (hd : 1 ≤ d) (k0 : (GD σ → t_ln T i = false) → Ak σ) (k1 : (GD σ → t_ln T i = true) → Bk σ) : mm_I (MC d) Q 3024 [.inr (.inr (3, a))] σ (fun x u => mm_br (x = 0) (Ak u) (Bk u)) := by
  obtain ⟨q, q1, q2, q3⟩ := st.p
  exact c_lineBefore hd st.ci.1 q1 (by omega) (br_0 (fun z => k0 fun gd => by rw [← q3 gd]; exact z) (fun z => k1 (fun gd => by rw [← q3 gd]; exact z)))
theorem St.lineAt1 (st : St T Sh N g w0 m0 e0 θ l0 Z b h w A m e r σ i) (hd : 1 ≤ d) (k0 : (GD σ → t_ln T (i + 1) = false) → Ak σ) (k1 : (GD σ → t_ln T (i + 1) = true) → Bk σ) : mm_I (MC d) Q 3042 [.inr (.inr (3, a)), .inl (mm_f σ 311 + 1)] σ (fun x u => mm_br (x = 0) (Ak u) (Bk u)) := by
  obtain ⟨q, q1, q2, q3⟩ := st.p
  rw [q1, nI_1]
  exact c_lineAt hd st.ci.1 (by omega) (br_0 (fun z => k0 fun gd => by rw [← q3 gd]; exact z) (fun z => k1 (fun gd => by rw [← q3 gd]; exact z)))
theorem St.signAt1 {s : Int32} (st : St T Sh N g w0 m0 e0 θ l0 Z b h w A m e r σ i) (hd : 1 ≤ d) (k0 : (GD σ → t_sg T (i + 1) s = false) → Ak σ) (k1 : (GD σ → t_sg T (i + 1) s = true) → NZ1 T σ → Bk σ) : mm_I (MC d) Q 3058 [.inr (.inr (3, a)), .inl (mm_f σ 311 + 1), .inl s] σ (fun x u => mm_br (x = 0) (Ak u) (Bk u)) := by
  obtain ⟨q, q1, q2, q3⟩ := st.p
  rw [q1, nI_1]
  refine c_signAt hd st.ci.1 (by omega) (br_0 (fun z => k0 fun gd => by rw [← q3 gd]; exact z) (fun z => k1 (fun gd => by rw [← q3 gd]; exact z) ⟨q, q1, ?_⟩))
  have : T.1 (q + 1) ≠ 0 := by
    simp only [t_sg, Bool.and_eq_true, beq_iff_eq] at z
    rw [z.1]
    decide
  exact ⟨kz_lt st.ci this, this⟩
theorem St.isKey1 (st : St T Sh N g w0 m0 e0 θ l0 Z b h w A m e r σ i) (hd : 2 ≤ d) (k0 : (GD σ → t_isk T (i + 1) = false) → Ak σ) (k1 : (GD σ → t_isk T (i + 1) = true) → Bk σ) : mm_I (MC d) Q 3081 [.inr (.inr (3, a)), .inl (mm_f σ 311 + 1)] σ (fun x u => mm_br (x = 0) (Ak u) (Bk u)) := by
  obtain ⟨q, q1, q2, q3⟩ := st.p
  rw [q1, nI_1]
  exact c_isKey hd st.ci.1 (by omega) (br_0 (fun z => k0 fun gd => by rw [← q3 gd]; exact z) (fun z => k1 (fun gd => by rw [← q3 gd]; exact z)))
theorem St.isArrow0 (st : St T Sh N g w0 m0 e0 θ l0 Z b h w A m e r σ i) (hd : 2 ≤ d) (k0 : (GD σ → t_ar T i = false) → Ak σ) (k1 : (GD σ → t_ar T i = true) → NZ T σ → Bk σ) : mm_I (MC d) Q 3057 [.inr (.inr (3, a)), .inl (mm_f σ 311)] σ (fun x u => mm_br (x = 0) (Ak u) (Bk u)) := by
  obtain ⟨q, q1, q2, q3⟩ := st.p
  rw [q1]
  refine c_isArrow hd st.ci.1 (by omega) (br_0 (fun z => k0 fun gd => by rw [← q3 gd]; exact z) (fun z => k1 (fun gd => by rw [← q3 gd]; exact z) ?_))
  unfold t_ar at z
  rw [Bool.and_eq_true] at z
  exact NZ_sg st.ci q1 z.1
theorem St.isArrow1 (st : St T Sh N g w0 m0 e0 θ l0 Z b h w A m e r σ i) (hd : 2 ≤ d) (k0 : (GD σ → t_ar T (i + 1) = false) → Ak σ) (k1 : (GD σ → t_ar T (i + 1) = true) → Bk σ) : mm_I (MC d) Q 3057 [.inr (.inr (3, a)), .inl (mm_f σ 311 + 1)] σ (fun x u => mm_br (x = 0) (Ak u) (Bk u)) := by
  obtain ⟨q, q1, q2, q3⟩ := st.p
  rw [q1, nI_1]
  exact c_isArrow hd st.ci.1 (by omega) (br_0 (fun z => k0 fun gd => by rw [← q3 gd]; exact z) (fun z => k1 (fun gd => by rw [← q3 gd]; exact z)))
theorem St.isArrow2 (st : St T Sh N g w0 m0 e0 θ l0 Z b h w A m e r σ i) (hd : 2 ≤ d) (k0 : (GD σ → t_ar T (i + 2) = false) → Ak σ) (k1 : (GD σ → t_ar T (i + 2) = true) → Bk σ) : mm_I (MC d) Q 3057 [.inr (.inr (3, a)), .inl (mm_f σ 311 + 2)] σ (fun x u => mm_br (x = 0) (Ak u) (Bk u)) := by
  obtain ⟨q, q1, q2, q3⟩ := st.p
  rw [q1, show nI q + 2 = nI (q + 2) from nI_add q 2]
  exact c_isArrow hd st.ci.1 (by omega) (br_0 (fun z => k0 fun gd => by rw [← q3 gd]; exact z) (fun z => k1 (fun gd => by rw [← q3 gd]; exact z)))
/-- closing(p) and closing(p + 1), where all is good; and the arrow behind -/
theorem St.close0 {C : Int32 → mmS → Prop} (st : St T Sh N g w0 m0 e0 θ l0 Z false h w A m e r σ i) (hd : 1 ≤ d) (k : C (nI (t_cl T i)) σ) : mm_I (MC d) Q 3059 [.inr (.inr (3, a)), .inl (mm_f σ 311)] σ C := by
  have q := st.good
  rw [q.2.2.1.1]
  exact c_closing (by rw [t_kd, st.ci.1.2.2.2.2.2.2.2.2.1]; rfl) hd st.ci.1 q.2.2.1.2 k
theorem St.close1 {C : Int32 → mmS → Prop} (st : St T Sh N g w0 m0 e0 θ l0 Z false h w A m e r σ i) (hd : 1 ≤ d) (hi : i < t_e T) (k : C (nI (t_cl T (i + 1))) σ) : mm_I (MC d) Q 3059 [.inr (.inr (3, a)), .inl (mm_f σ 311 + 1)] σ C := by
  have q := st.good
  rw [q.2.2.1.1, nI_1]
  exact c_closing (by rw [t_kd, st.ci.1.2.2.2.2.2.2.2.2.1]; rfl) hd st.ci.1 (by omega) k
theorem t_clL_le {T : sT} (hE : T.1 (t_e T) = 0) : ∀ (f : Nat) (δ : Int) (k : Nat), k ≤ t_e T → t_clL T f δ k ≤ t_e T
  | 0, _, _, _ => Nat.le_refl _
  | f + 1, δ, k, hk => by
    rw [t_clL]
    cases h0 : t_kd T k 0 with
    | true => exact Nat.le_refl _
    | false =>
      rw [cond_false]
      have hne : k ≠ t_e T := fun e => by
        rw [e, t_kd, hE] at h0
        exact absurd h0 (by decide)
      cases ((δ + (bif t_op T k then 1 else 0) - (bif t_sh T k then 1 else 0)) == 0) with
      | true => exact hk
      | false => exact t_clL_le hE f _ (k + 1) (by omega)
theorem lt_e {T : sT} {σ : mmS} {i : Nat} (t : cI T σ) (hi : i ≤ t_e T) (h : T.1 i ≠ 0) : i < t_e T := by
  have := t.1.2.2.2.2.2.2.2.2.1
  have : i ≠ t_e T := fun e => h (by rw [e]; exact this)
  omega
theorem St.isArrowC {z : Nat} (st : St T Sh N g w0 m0 e0 θ l0 Z b h w A m e r σ i) (hd : 2 ≤ d) (hz : z ≤ t_e T) (k0 : t_ar T (z + 1) = false → Ak σ) (k1 : t_ar T (z + 1) = true → Bk σ) : mm_I (MC d) Q 3057 [.inr (.inr (3, a)), .inl (nI z + 1)] σ (fun x u => mm_br (x = 0) (Ak u) (Bk u)) := by
  rw [nI_1]
  have := st.ci.1.2.2.2.2.2.2.2.1
  exact c_isArrow hd st.ci.1 (by omega) (br_0 k0 k1)
/-- nodes asked: simple targets, what may be deleted, mixed operators -/
theorem rN_si {v : sN} {k : Nat} (hr : rN v k σ) : r_si (mm_a σ 316 k) (mm_a σ 317 k) = n_si v := by
  unfold r_si n_si
  rw [hr.1]
  cases h4 : v.1 == 4 with
  | true => rw [hr.2.1 (eq_of_beq h4)]
  | false => rfl
theorem St.simple {n : Int32} {k : Nat} {v : sN} (st : St T Sh N g w0 m0 e0 θ l0 Z b h w A m e r σ i) (hd : 1 ≤ d) (hn : n = nI k) (hk : k < fN σ 315) (hr : GD σ → rN v k σ) (k0 : (GD σ → n_si v = false) → Ak σ) (k1 : (GD σ → n_si v = true) → Bk σ) : mm_I (MC d) Q 3102 [.inr (.inr (3, a)), .inl n] σ (fun x u => mm_br (x = 0) (Ak u) (Bk u)) := by
  rw [hn]
  exact c_isSimple hd st.ci.2.1 hk (br_0 (fun z => k0 fun gd => by rw [← rN_si (hr gd)]; exact z) (fun z => k1 fun gd => by rw [← rN_si (hr gd)]; exact z))
theorem St.mixes {n op : Int32} {k : Nat} {v : sN} (st : St T Sh N g w0 m0 e0 θ l0 Z b h w A m e r σ i) (hd : 1 ≤ d) (hn : n = nI k) (hk : k < fN σ 315) (hr : GD σ → rN v k σ) (k0 : (GD σ → n_mx v op = false) → Ak σ) (k1 : (GD σ → n_mx v op = true) → Bk σ) : mm_I (MC d) Q 3112 [.inr (.inr (3, a)), .inl n, .inl op] σ (fun x u => mm_br (x = 0) (Ak u) (Bk u)) := by
  rw [hn]
  have e : GD σ → (mm_a σ 316 k == 26 && mm_a σ 323 k == 0 && !(mm_a σ 320 k == op) && (op == 36 || mm_a σ 320 k == 36)) = n_mx v op := fun gd => by
    obtain ⟨a1, a2, a3, a4, -⟩ := hr gd
    unfold n_mx
    rw [a1, a4]
    cases h26 : v.1 == 26 with
    | false => rfl
    | true =>
      rw [a3 (Or.inl (eq_of_beq h26))]
      cases v.2.2.2.1 <;> rfl
  exact c_mixes hd st.ci.2.1 hk (br_0 (fun z => k0 fun gd => by rw [← e gd]; exact z) (fun z => k1 fun gd => by rw [← e gd]; exact z))
end TESTS
