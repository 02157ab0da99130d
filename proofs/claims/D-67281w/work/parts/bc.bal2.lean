/-! PHASE 4. The grammar's readings, one by one: balanced, covers, names -/
def lnB2 (g : Nat) (i : Nat) (n : Nat) (a0 : Int) (l : List Int32) (a : Int) (j : Nat) : Prop := a0 ≤ a ∧ l.length + g + i ≤ j + n
def GlE (T : sT) (E : sE) : Prop := (∀ cx b j a, gl T 0 j a (cvP a) (E.1 cx b j)) ∧ (∀ cx b j a, gl T 0 j a (cvP a) (E.2.1 cx b j)) ∧ (∀ cx j a, gl T 0 j a (cvP a) (E.2.2.1 cx j)) ∧ (∀ cx j a, gl T 0 j a (cvP a) (E.2.2.2.1 cx j)) ∧ (∀ cx as j a, gl T 0 j a (fun v => lenQ j 0 a v.2) (E.2.2.2.2.1 cx as j)) ∧ (∀ cx as j a, gl T 0 j a (fun v => lenQ j 0 a v.2.2) (E.2.2.2.2.2.1 cx as j)) ∧ (∀ x j a, gl T 0 j a (lenQ j 0 a) (E.2.2.2.2.2.2.1 x j)) ∧ ∀ x j a, gl T 0 j a (loP a) (E.2.2.2.2.2.2.2 x j)
section GLS
variable {T : sT} {E : sE}
theorem gl_nd {s : Int32} {e : Int} {j : Nat} {a a0 : Int} (h : a0 ≤ a := by omega) (he : dps s = e := by decide) : gl T e j a (loP a0) (s_nd T s j) := gl_if (fun q => gl_r (bl_sg q he) h) (fun _ => gl_none)
theorem gl_nw {w : Int32} {j : Nat} {a a0 : Int} (h : a0 ≤ a := by omega) : gl T 0 j a (loP a0) (s_nw T w j) := gl_if (fun q => gl_r (bl_wd q) h) (fun _ => gl_none)
theorem gl_ident {j : Nat} {a a0 : Int} (h : a0 ≤ a := by omega) : gl T 0 j a (fun _ a' j' => a0 ≤ a' ∧ j' = j + 1) (s_ident T j) := gl_if (fun q => gl_r (bl_id q) ⟨h, rfl⟩) (fun _ => gl_none)
theorem gl_semi {j : Nat} {a a0 : Int} (h : a0 ≤ a := by omega) : gl T 0 j a (loP a0) (s_semi T j) := gl_if (fun q => gl_r (bl_sg q) h) (fun _ => gl_i (gl_r bl_0 h) gl_none)
theorem gl_exprL (h : GlE T E) {cx : sC} {inn : Bool} {a0 : Int} : ∀ (f : Nat) (n : sN) (j : Nat) (a : Int), cvP a0 n a j → gl T 0 j a (cvP a0) (s_exprL T E cx inn f n j)
  | 0, _, _, _, _ => gl_none
  | f + 1, n, j, a, hn => gl_if (fun q => gl_a0 (bl_sg q) (gl_b0 (h.1 _ _ _ _) fun _ _ _ q _ => gl_exprL h f _ _ _ (cv_k (Int.le_trans hn.1 q.1)))) (fun _ => gl_r bl_0 hn)
theorem gl_expr (h : GlE T E) {cx : sC} {inn : Bool} {i : Nat} {a : Int} : gl T 0 i a (cvP a) (s_expr T E cx inn i) := gl_b0 (h.1 _ _ _ _) fun _ _ _ q _ => gl_exprL h _ _ _ _ q
theorem gl_argL (h : GlE T E) {cx : sC} {a0 : Int} : ∀ (f j : Nat) (a : Int), a0 ≤ a → gl T (-1) j a (loP a0) (s_argL T E cx f j)
  | 0, _, _, _ => gl_none
  | f + 1, j, a, ha => gl_if (fun q => gl_r (bl_sg q) ha) fun _ => gl_b0 (P1 := loP a0) (gl_if (c := t_sg T j 7) (r1 := E.1 cx true (j + 1)) (r2 := E.1 cx true j) (fun q => gl_a0 (bl_sg q) (gl_lo (h.1 _ _ _ _) ha)) (fun _ => gl_lo (h.1 _ _ _ _) ha) |> fun z => by
      cases hc : t_sg T j 7 with
      | true => rw [hc] at z; exact z
      | false => rw [hc] at z; exact z) fun _ _ _ q _ => gl_i (gl_argL h f _ _ q) (gl_b0 (gl_nd q) fun _ _ _ q _ => gl_argL h f _ _ q)
theorem gl_args (h : GlE T E) {cx : sC} {i : Nat} {a : Int} (hi : t_sg T i 2 = true) : gl T 0 i a (loP a) (s_args T E cx i) := gl_ao (bl_sg hi) (gl_argL h _ _ _ (Int.le_refl _))
theorem gl_tplL (h : GlE T E) {cx : sC} {tag : Bool} {a0 : Int} : ∀ (f j : Nat) (a : Int), t_kd T j 7 = true → a0 ≤ a → gl T (bif t_hd T j then 0 else -1) j a (loP a0) (s_tplL T E cx tag f j)
  | 0, _, _, _, _ => gl_none
  | f + 1, j, a, hk, ha => gl_i gl_none (gl_if (fun q => gl_r (bl_e (bl_7 hk) (by rw [q]; cases t_hd T j <;> rfl)) ha) fun q => by
      have go : ∀ e : Int, e = (bif t_hd T j then 1 else 0) → gl T (e + -1) j a (loP a0) (s_b (s_expr T E cx true (j + 1)) fun _ k => bif t_kd T k 7 && !t_hd T k then s_tplL T E cx tag f k else none) := fun e he => by
        refine gl_a (e1 := e) (e2 := -1) (bl_e (bl_7 hk) (by rw [q, he]; cases t_hd T j <;> rfl)) (gl_b0 (gl_expr h) (fun _ k a' q _ => gl_if (fun c => ?_) (fun _ => gl_none))) rfl (Or.inr (by decide))
        rw [Bool.and_eq_true] at c
        have := gl_tplL h (cx := cx) (tag := tag) f k a' c.1 (Int.le_trans ha q.1)
        rw [show t_hd T k = false by cases hh : t_hd T k with | true => rw [hh] at c; exact nomatch c.2 | false => rfl] at this
        exact this
      have := go _ rfl
      cases hh : t_hd T j with
      | true => rw [hh] at this; exact this
      | false => rw [hh] at this; exact this)
theorem gl_tpl (h : GlE T E) {cx : sC} {tag : Bool} {i : Nat} {a : Int} (hi : (t_kd T i 7 && t_hd T i) = true) : gl T 0 i a (cvP a) (s_tpl T E cx tag i) := by
  rw [Bool.and_eq_true] at hi
  have := gl_tplL h (cx := cx) (tag := tag) (t_e T + 1) i a hi.1 (Int.le_refl _)
  rw [hi.2] at this
  exact gl_b this fun _ _ _ q _ => gl_r bl_0 (cv_k q)
theorem gl_sup (h : GlE T E) {cx : sC} {i : Nat} {a : Int} (hi : t_wd T i 26 = true) : gl T 0 i a (cvP a) (s_sup T E cx i) :=
  gl_a0 (bl_wd hi) (gl_if (fun q => gl_i (gl_b0 (gl_args h q) fun _ _ _ q _ => gl_r bl_0 (cv_k q)) gl_none) fun _ => gl_i (gl_if (fun q => gl_if (fun q2 => gl_r (bl_t0 (bl_sg q) (bl_kd q2)) (cv_k (Int.le_refl _))) (fun _ => gl_none)) fun _ =>
    gl_bo (gl_nd (a0 := a)) fun _ _ _ q _ => gl_b0 (gl_expr h) fun _ _ _ q2 _ => gl_bc (gl_nd (Int.le_trans q q2.1)) fun _ _ _ q _ => gl_r bl_0 (cv_k q)) gl_none)
theorem gl_new (h : GlE T E) {cx : sC} {i : Nat} {a : Int} (hi : t_wd T i 23 = true) : gl T 0 i a (cvP a) (s_new T E cx i) :=
  gl_a0 (bl_wd hi) (gl_if (fun q => gl_if (fun q2 => gl_i (gl_r (bl_t0 (bl_sg q) (bl_wd q2)) (cv_k (Int.le_refl _))) gl_none) fun _ => gl_none) fun _ => h.2.2.1 _ _ _)
theorem gl_memL (h : GlE T E) {cx : sC} {calls : Bool} {a0 : Int} : ∀ (f : Nat) (n : sN) (ch : Bool) (j : Nat) (a : Int), cvP a0 n a j → gl T 0 j a (cvP a0) (s_memL T E cx calls f n ch j)
  | 0, _, _, _, _, _ => gl_none
  | f + 1, n, ch, j, a, hn => by
    have gx : ∀ (k : Nat) (c : Bool), t_sg T k 4 = true → gl T 0 k a (cvP a0) (s_b (s_expr T E cx true (k + 1)) fun _ m => s_b (s_nd T 5 m) fun _ q => s_memL T E cx calls f (n_k 15) c q) := fun k c hk =>
      gl_ao (bl_sg hk) (gl_b0 (gl_expr h) fun _ _ _ q _ => gl_bc (gl_nd (Int.le_trans hn.1 q.1)) fun _ _ _ q _ => gl_memL h f _ _ _ _ (cv_k q)) 
    have ga : ∀ (k : Nat) (c : Bool), t_sg T k 2 = true → gl T 0 k a (cvP a0) (s_b (s_args T E cx k) fun _ q => s_memL T E cx calls f (n_k 17) c q) := fun k c hk =>
      gl_b0 (gl_args h hk) fun _ _ _ q _ => gl_memL h f _ _ _ _ (cv_k (Int.le_trans hn.1 q))
    have gp : ∀ (k : Nat) (c : Bool), t_kd T k 2 = true → gl T 0 k a (cvP a0) (s_b (s_w (sA_pu (t_v T k)) () (k + 1)) fun _ m => s_memL T E cx calls f (n_k 16) c m) := fun k c hk =>
      gl_b0 (P1 := loP a0) (gl_w0 (bl_kd hk) rfl hn.1) fun _ _ _ q _ => gl_memL h f _ _ _ _ (cv_k q)
    refine gl_if (fun c => gl_a0 (bl_sg c) (gl_i gl_none (gl_i gl_none (gl_if (fun c => gp _ _ c) (fun _ => gl_if (fun c => gl_a0 (bl_kd c) (gl_memL h f _ _ _ _ (cv_k hn.1))) fun _ => gl_if (fun c => gx _ _ c) fun _ => gl_if (fun c => ga _ _ c) fun _ => gl_none))))) fun _ => ?_
    refine gl_if (fun c => gl_a0 (bl_sg c) (gl_if (fun c => gp _ _ c) (fun _ => gl_if (fun c => gl_a0 (bl_kd c) (gl_memL h f _ _ _ _ (cv_k hn.1))) fun _ => gl_none))) fun _ => ?_
    refine gl_if (fun c => gx _ _ c) fun _ => gl_if (fun c => ?_) fun _ => gl_if (fun c => gl_i gl_none (gl_b0 (gl_tpl h c) fun _ _ _ q _ => gl_memL h f _ _ _ _ (cv_k (Int.le_trans hn.1 q.1)))) fun _ => gl_r bl_0 ?_
    · rw [Bool.and_eq_true] at c
      exact ga _ _ c.2
    · cases ch with
      | true => exact ⟨hn.1, op_none⟩
      | false => exact hn
theorem gl_mem (h : GlE T E) {cx : sC} {calls : Bool} {n : sN} {j : Nat} {a a0 : Int} (hn : cvP a0 n a j) : gl T 0 j a (cvP a0) (s_mem T E cx calls n j) := gl_memL h _ _ _ _ _ hn
theorem bl_key {i : Nat} (h : t_key T i = true) : bl T 0 i (i + 1) := by
  unfold t_key at h
  simp only [Bool.or_eq_true] at h
  rcases h with ((h | h) | h) | h
  · exact bl_kd h
  · exact bl_kd h
  · exact bl_kd h
  · exact bl_kd h
theorem gl_key (h : GlE T E) {cx : sC} {i : Nat} {a a0 : Int} (ha : a0 ≤ a := by omega) : gl T 0 i a (fun _ a' j => a0 ≤ a' ∧ i + 1 ≤ j) (s_key T E cx i) := gl_if (fun q => gl_r (bl_key q) ⟨ha, Nat.le_refl _⟩) fun _ =>
  gl_bo (P1 := fun _ a' j => a0 ≤ a' ∧ i + 1 ≤ j) (gl_if (fun q => gl_r (bl_sg q) ⟨ha, Nat.le_refl _⟩) fun _ => gl_none) fun _ _ _ q _ => gl_b0 (h.1 _ _ _ _) fun _ _ _ q2 hj => gl_mono (gl_nd (Int.le_trans q.1 q2.1)) fun _ _ _ hj2 q3 => ⟨q3, by have := q.2; omega⟩
theorem gl_named {as j : Nat} {a a0 : Int} (ha : a0 ≤ a := by omega) : gl T 0 j a (fun v => lenQ j 0 a0 v.2) (s_named T as j) := gl_b0 (gl_ident ha) fun x k _ q _ => gl_i gl_none (gl_w0 bl_0 rfl ⟨q.1, by have := q.2; show 1 + j ≤ k + 0; omega⟩)
theorem gl_barL (h : GlE T E) {cx : sC} {as : Nat} {a0 : Int} {i : Nat} : ∀ (f : Nat) (l : List Int32) (j : Nat) (a : Int), a0 ≤ a → l.length + i ≤ j → gl T (-1) j a (fun v => lenQ i 0 a0 v.2) (s_barL T E cx as f l j)
  | 0, _, _, _, _, _ => gl_none
  | f + 1, l, j, a, ha, hl => gl_if (fun q => gl_r (bl_sg q) ⟨ha, by show l.length + i ≤ j + 1 + 0; omega⟩) fun _ => gl_if (fun _ => gl_b0 (gl_nd ha) fun _ _ _ q hj => gl_barL h f _ _ _ q (by omega)) fun _ =>
      gl_if (fun q => gl_a0 (bl_sg q) (gl_b0 (h.2.2.2.2.1 _ _ _ _) fun b k a2 q2 hj => gl_bc (gl_nd (a0 := a0) (Int.le_trans ha q2.1)) fun _ m _ q3 hm => gl_r bl_0 ⟨q3, by have := q2.2; simp only [List.length_append]; omega⟩)) fun _ =>
      gl_b0 (h.2.2.2.2.2.1 _ _ _ _) fun b k a2 q2 hj => gl_i (gl_barL h f _ _ _ (Int.le_trans ha q2.1) (by have := q2.2; simp only [List.length_append]; omega)) (gl_b0 (gl_nd (Int.le_trans ha q2.1)) fun _ m _ q hm => gl_barL h f _ _ _ q (by have := q2.2; simp only [List.length_append]; omega))
theorem gl_bobL (h : GlE T E) {cx : sC} {as : Nat} {a0 : Int} {i : Nat} : ∀ (f : Nat) (l : List Int32) (j : Nat) (a : Int), a0 ≤ a → l.length + i ≤ j → gl T (-1) j a (fun v => lenQ i 0 a0 v.2) (s_bobL T E cx as f l j)
  | 0, _, _, _, _, _ => gl_none
  | f + 1, l, j, a, ha, hl => gl_if (fun q => gl_r (bl_sg q) ⟨ha, by show l.length + i ≤ j + 1 + 0; omega⟩) fun _ =>
      gl_if (fun q => gl_a0 (bl_sg q) (gl_b0 (gl_named (a0 := a0) ha) fun b k a2 q2 hj => gl_bc (gl_nd q2.1) fun _ m _ q3 hm => gl_r bl_0 ⟨q3, by have := q2.2; simp only [List.length_append]; omega⟩)) fun _ =>
      gl_b0 (gl_key h ha) fun _ k a2 q2 hk => gl_b0 (P1 := lenQ j 0 a0) (gl_if (fun c => gl_a0 (bl_sg c) (gl_b0 (h.2.2.2.2.2.1 _ _ _ _) fun b m a3 q3 hm => gl_r bl_0 ⟨Int.le_trans q2.1 q3.1, by have := q3.2; have := q2.2; show b.2.2.length + j ≤ m + 0; omega⟩))
        (fun _ => gl_i (gl_b0 (P1 := fun _ a' j' => a0 ≤ a' ∧ j' = k) (gl_w0 bl_0 rfl ⟨q2.1, rfl⟩) fun _ m a3 q3 _ => gl_if (fun c => gl_a0 (bl_sg c) (gl_b0 (h.1 _ _ _ _) fun _ m2 _ q4 hm2 => gl_r bl_0 ⟨Int.le_trans q3.1 q4.1, by have := q2.2; have := q3.2; show 1 + j ≤ m2 + 0; omega⟩)) fun _ => gl_r bl_0 ⟨q3.1, by have := q2.2; have := q3.2; show 1 + j ≤ m + 0; omega⟩) gl_none))
        fun l2 m a3 q3 hm => gl_i (gl_bobL h f _ _ _ q3.1 (by have := q3.2; simp only [List.length_append]; omega)) (gl_b0 (gl_nd q3.1) fun _ m2 _ q hm2 => gl_bobL h f _ _ _ q (by have := q3.2; simp only [List.length_append]; omega))
theorem gl_bind (h : GlE T E) {cx : sC} {as i : Nat} {a : Int} : gl T 0 i a (fun v => lenQ i 0 a v.2) (s_bind T E cx as i) :=
  gl_if (fun q => gl_ao (bl_sg q) (gl_barL h _ _ _ _ (Int.le_refl _) (by simp))) fun _ => gl_if (fun q => gl_ao (bl_sg q) (gl_bobL h _ _ _ _ (Int.le_refl _) (by simp))) fun _ => gl_named
theorem gl_elem (h : GlE T E) {cx : sC} {as i : Nat} {a : Int} : gl T 0 i a (fun v => lenQ i 0 a v.2.2) (s_elem T E cx as i) := gl_b0 (gl_bind h) fun b _ _ q _ => gl_if (fun c => gl_a0 (bl_sg c) (gl_b0 (h.1 _ _ _ _) fun _ m _ q2 hj => gl_r bl_0 ⟨Int.le_trans q.1 q2.1, by have := q.2; show b.2.length + i ≤ m + 0; omega⟩)) fun _ => gl_r bl_0 q
theorem gl_parL (h : GlE T E) {cx : sC} {a0 : Int} : ∀ (f : Nat) (si : Bool) (n j : Nat) (a : Int), a0 ≤ a → gl T (-1) j a (loP a0) (s_parL T E cx f si n j)
  | 0, _, _, _, _, _ => gl_none
  | f + 1, si, n, j, a, ha => gl_if (fun q => gl_r (bl_sg q) ha) fun _ => gl_if (fun q => gl_a0 (bl_sg q) (gl_b0 (h.2.2.2.2.1 _ _ _ _) fun _ _ _ q2 _ => gl_bc (gl_nd (Int.le_trans ha q2.1)) fun _ _ _ q3 _ => gl_r bl_0 q3)) fun _ =>
      gl_b0 (h.2.2.2.2.2.1 _ _ _ _) fun _ _ _ q2 _ => gl_i (gl_parL h f _ _ _ _ (Int.le_trans ha q2.1)) (gl_b0 (gl_nd (Int.le_trans ha q2.1)) fun _ _ _ q3 _ => gl_parL h f _ _ _ _ q3)
theorem gl_listL (h : GlE T E) {x : sX} {a0 : Int} : ∀ (f j : Nat) (a : Int), a0 ≤ a → gl T 0 j a (loP a0) (s_listL T E x f j)
  | 0, _, _, _ => gl_none
  | f + 1, j, a, ha => gl_i (gl_r bl_0 ha) (gl_b0 (h.2.2.2.2.2.2.1 _ _ _) fun _ _ _ q _ => gl_listL h f _ _ (Int.le_trans ha q.1))
theorem gl_list (h : GlE T E) {x : sX} {i : Nat} {a a0 : Int} (ha : a0 ≤ a := by omega) : gl T 0 i a (loP a0) (s_list T E x i) := gl_listL h _ _ _ ha
theorem gl_body (h : GlE T E) {x : sX} {si : Bool} {i : Nat} {a a0 : Int} (ha : a0 ≤ a := by omega) : gl T 0 i a (loP a0) (s_body T E x si i) := gl_bo (gl_nd ha) fun _ _ _ q _ => gl_i gl_none (gl_b0 (gl_list h q) fun _ _ _ q _ => gl_nd q)
theorem gl_plain (h : GlE T E) {hm mk gen asy : Bool} {gs i : Nat} {a a0 : Int} (ha : a0 ≤ a := by omega) : gl T 0 i a (loP a0) (s_plain T E hm mk gs gen asy i) := gl_fn (gl_bo (gl_nd ha) fun _ _ _ q _ => gl_bc (gl_parL h _ _ _ _ _ q) (fun _ _ _ q _ => gl_i gl_none (gl_body h q)))
theorem bl_ar {i : Nat} (h : t_ar T i = true) : bl T 0 i (i + 1) := by
  unfold t_ar at h
  rw [Bool.and_eq_true] at h
  exact bl_sg h.1
/-- a reading and then an answer -/
theorem gl_br {β γ : Type} {e : Int} {i : Nat} {a : Int} {P1 : γ → Int → Nat → Prop} {P : β → Int → Nat → Prop} {r : sR γ} {g : γ → β} (h : gl T e i a P1 r) (hp : ∀ v b j, i ≤ j → P1 v b j → P (g v) b j) : gl T e i a P (s_b r fun v k => s_r (g v) k) :=
  gl_b (e1 := e) (e2 := 0) h (fun v j b q hj => gl_r bl_0 (hp v b j hj q)) (Int.add_zero e) (Or.inr (Int.le_refl _))
theorem gl_arrow (h : GlE T E) {cx : sC} {inn asy : Bool} {i : Nat} {a : Int} : gl T 0 i a (cvP a) (s_arrow T E cx inn asy i) :=
  gl_fn (gl_b0 (P1 := loP a) (gl_if (fun q => gl_ao (bl_sg q) (gl_br (gl_parL h _ _ _ _ _ (Int.le_refl _)) fun _ _ _ _ q => q)) fun _ => gl_br (gl_named (a0 := a)) fun _ _ _ _ q => q.1) fun _ _ a2 q _ => gl_if (fun c => gl_a0 (bl_ar c)
    (gl_i (gl_br (gl_body h q) fun _ _ _ _ q => cv_k q) (gl_br (h.1 _ _ _ _) fun _ _ _ _ q2 => cv_k (Int.le_trans q q2.1)))) fun _ => gl_none)
theorem bl_opt {c : Bool} {i : Nat} (h : c = true → bl T 0 i (i + 1)) : bl T 0 i (bif c then i + 1 else i) := by
  cases c with
  | true => exact h rfl
  | false => exact bl_0
theorem gl_fnAt (h : GlE T E) {asy : Bool} {i : Nat} {a : Int} : gl T 0 i a (cvP a) (s_fnAt T E asy i) :=
  gl_i gl_none (gl_b0 (P1 := loP a) (gl_a0 (bl_opt fun c => bl_sg c) (gl_i (gl_r bl_0 (Int.le_refl _)) (gl_b0 (gl_ident (a0 := a)) fun _ _ _ q _ => gl_i gl_none (gl_r bl_0 q.1)))) fun _ _ _ q _ => gl_br (gl_plain h q) fun _ _ _ _ q => cv_k q)
theorem gl_mrest (h : GlE T E) {heir ct fixed gen asy hid lit : Bool} {gs k : Nat} {x : Int32} {D : List (Int32 × Nat)} {a a0 : Int} (ha : a0 ≤ a) : gl T 0 k a (loP a0) (s_mrest T E heir ct fixed gen asy gs hid lit x D k) :=
  gl_i gl_none (gl_b0 (P1 := loP a0) (gl_i (gl_b0 (P1 := loP a0) (gl_w0 bl_0 rfl ha) fun _ _ _ q _ => gl_w0 bl_0 rfl q) (gl_r bl_0 ha)) fun _ j a2 q _ => gl_i (gl_b0 (P1 := loP a0) (gl_if (fun c => gl_fn (gl_a0 (bl_sg c) (gl_br (h.1 _ _ _ _) fun _ _ _ _ q2 => Int.le_trans q q2.1))) fun _ => gl_r bl_0 q) fun _ _ _ q _ => gl_br (gl_semi q) fun _ _ _ _ q => q)
    (gl_i (gl_i gl_none (gl_br (gl_plain h q) fun _ _ _ _ q => q)) (gl_br (gl_plain h q) fun _ _ _ _ q => q)))
theorem bl_asy {i : Nat} : bl T 0 i (bif t_asy T i then i + 1 else i) := bl_opt fun c => by
  unfold t_asy at c
  rw [Bool.and_eq_true, Bool.and_eq_true] at c
  exact bl_wd c.1.1
theorem bl_gs {i : Nat} {c : Bool} : bl T 0 i (bif (bif c then 0 else t_gs T i) == 0 then i else i + 1) := by
  cases c with
  | true => exact bl_0
  | false =>
    rw [cond_false]
    cases hg : t_gs T i == 0 with
    | true => exact bl_0
    | false =>
      unfold t_gs at hg
      cases h49 : t_wd T i 49 with
      | true => exact bl_wd h49
      | false =>
        cases h51 : t_wd T i 51 with
        | true => exact bl_wd h51
        | false =>
          rw [h49, h51] at hg
          cases hk : t_isk T (i + 1) <;> rw [hk] at hg <;> exact nomatch hg
theorem gl_member2 (h : GlE T E) {cx : sC} {heir ct fixed : Bool} {D : List (Int32 × Nat)} {i : Nat} {a a0 : Int} (ha : a0 ≤ a) : gl T 0 i a (loP a0) (s_member2 T E cx heir ct fixed D i) := by
  refine gl_i gl_none (gl_a0 bl_asy (gl_a0 (bl_opt fun c => bl_sg c) (gl_a0 bl_gs (gl_if (fun c => gl_i gl_none (gl_a0 (bl_kd c) (gl_mrest h ha))) fun _ => gl_b0 (gl_key h ha) fun _ _ _ q _ => gl_mrest h q.1))))
theorem gl_member (h : GlE T E) {cx : sC} {heir ct : Bool} {D : List (Int32 × Nat)} {i : Nat} {a a0 : Int} (ha : a0 ≤ a) : gl T 0 i a (loP a0) (s_member T E cx heir ct D i) := by
  refine gl_if (fun c => ?_) fun _ => gl_member2 h ha
  rw [Bool.and_eq_true] at c
  exact gl_a0 (bl_wd c.1) (gl_i (gl_br (gl_fn (gl_body h ha)) fun _ _ _ _ q => q) (gl_member2 h ha))
theorem gl_clsL (h : GlE T E) {cx : sC} {heir : Bool} {a0 : Int} : ∀ (f : Nat) (ct : Bool) (D : List (Int32 × Nat)) (j : Nat) (a : Int), a0 ≤ a → gl T (-1) j a (loP a0) (s_clsL T E cx heir f ct D j)
  | 0, _, _, _, _, _ => gl_none
  | f + 1, ct, D, j, a, ha => gl_if (fun c => gl_r (bl_sg c) ha) fun _ => gl_if (fun c => gl_a0 (bl_sg c) (gl_clsL h f _ _ _ _ ha)) fun _ => gl_b0 (gl_member h ha) fun _ _ _ q _ => gl_clsL h f _ _ _ _ q
theorem gl_class (h : GlE T E) {cx : sC} {i : Nat} {a : Int} : gl T 0 i a (cvP a) (s_class T E cx i) :=
  gl_b0 (P1 := loP a) (gl_if (fun c => gl_a0 (bl_wd c) (gl_br (h.2.2.2.1 _ _ _) fun _ _ _ _ q => q.1)) fun _ => gl_r bl_0 (Int.le_refl _)) fun _ _ _ q _ => gl_mono (gl_cl (gl_bo gl_nd fun _ _ _ q _ => gl_clsL h _ _ _ _ _ q)) fun _ _ _ _ q2 => ⟨Int.le_trans q q2.1, op_mono q2.2 q (Int.le_refl _)⟩
/-- a property: what it costs as a part of a pattern -/
def pcP (a0 : Int) (p : Int32 × sN × Bool) (a : Int) (_ : Nat) : Prop := a0 ≤ a ∧ opP a0 (n_pc p) a
theorem gl_prop (h : GlE T E) {cx : sC} {i : Nat} {a : Int} : gl T 0 i a (pcP a) (s_prop T E cx i) := by
  have none3 : ∀ {k : Int32} {v : sN} {c : Bool} {b : Int}, (k = 1 ∨ k = 2 ∨ k = 3) → opP a (n_pc (k, v, c)) b := fun hk x q => by
    rcases hk with rfl | rfl | rfl <;> exact nomatch q
  refine gl_if (fun c => gl_a0 (bl_sg c) (gl_br (h.1 _ _ _ _) fun v b j _ q => ⟨q.1, fun x e => ?_⟩)) fun _ => ?_
  · have e : (bif n_si v then some 0 else none : Option Int) = some x := e
    cases hs : n_si v with
    | false => rw [hs] at e; exact nomatch e
    | true =>
      rw [hs] at e
      have : (0 : Int) = x := Option.some.inj e
      subst this
      exact ⟨Int.le_refl _, by have := q.1; omega⟩
  refine gl_i gl_none (gl_a0 bl_asy (gl_a0 (bl_opt fun c => bl_sg (s := 20) c) ?_))
  generalize hj2 : (bif t_sg T (bif t_asy T i then i + 1 else i) 20 then (bif t_asy T i then i + 1 else i) + 1 else (bif t_asy T i then i + 1 else i)) = j2
  refine gl_if (fun c => gl_i gl_none ?_) fun _ => ?_
  · rw [Bool.and_eq_true] at c
    have hb := bl_gs (T := T) (i := j2) (c := false)
    rw [cond_false] at hb
    have hg : (t_gs T j2 == 0) = false := by cases hh : t_gs T j2 == 0 with | true => rw [hh] at c; exact nomatch c.2 | false => rfl
    rw [hg] at hb
    refine gl_a0 hb (gl_b0 (gl_key h (Int.le_refl a)) fun _ _ _ q _ => gl_br (gl_plain h q.1) fun _ _ _ _ q => ⟨q, ?_⟩)
    cases t_gs T j2 == 1
    · exact none3 (Or.inr (Or.inl rfl))
    · exact none3 (Or.inl rfl)
  · refine gl_b0 (gl_key h (Int.le_refl a)) fun _ k a2 q _ => gl_i (gl_br (gl_plain h q.1) fun _ _ _ _ q => ⟨q, none3 (Or.inr (Or.inr rfl))⟩) (gl_if (fun c => gl_a0 (bl_sg c) (gl_br (h.1 _ _ _ _) fun v b j _ q2 => ⟨Int.le_trans q.1 q2.1, fun x e => ?_⟩)) fun _ => gl_i (gl_if (fun c => ?_) fun _ => gl_r bl_0 ⟨q.1, fun x e => ?_⟩) gl_none)
    · have := op_el q2 x e
      have := q.1
      exact ⟨by omega, by omega⟩
    · refine gl_b0 (P1 := loP (a + 1)) (gl_w (bl_sg c) (by show a + 1 ≤ a2 + 1; have := q.1; omega)) fun _ m a3 q3 _ => gl_br (h.1 _ _ _ _) fun v b j _ q4 => ?_
      have h3 : a + 1 ≤ a3 := q3
      have h4 := q4.1
      refine ⟨by omega, fun x e => ?_⟩
      have e : n_cb (some 1) (n_tg (n_id (t_v T j2))) = some x := e
      unfold n_tg at e
      cases hs : n_si (n_id (t_v T j2)) with
      | true =>
        rw [hs] at e
        have : (1 : Int) + 0 = x := Option.some.inj e
        exact ⟨by omega, by omega⟩
      | false => rw [hs] at e; exact nomatch e
    · have e : n_cb (some 0) (n_tg (n_id (t_v T j2))) = some x := e
      unfold n_tg at e
      cases hs : n_si (n_id (t_v T j2)) with
      | true =>
        rw [hs] at e
        have : (0 : Int) + 0 = x := Option.some.inj e
        have := q.1
        exact ⟨by omega, by omega⟩
      | false => rw [hs] at e; exact nomatch e
theorem op_sp {a0 a : Int} {c : Option Int} (sp : Bool) (h : opP a0 c a) : opP a0 (bif sp then none else c) a := by
  cases sp with
  | true => exact op_none
  | false => exact h
def opQ (a0 : Int) (c : Option Int) (a : Int) (_ : Nat) : Prop := a0 ≤ a ∧ opP a0 c a
theorem gl_objL (h : GlE T E) {cx : sC} {a0 : Int} : ∀ (f : Nat) (c : Option Int) (sp : Bool) (j : Nat) (a : Int), a0 ≤ a → opP a0 c a → gl T (-1) j a (opQ a0) (s_objL T E cx f c sp j)
  | 0, _, _, _, _, _, _ => gl_none
  | f + 1, c, sp, j, a, ha, hc => gl_if (fun q => gl_r (bl_sg q) ⟨ha, hc⟩) fun _ => gl_b0 (gl_prop h) fun p k a2 q _ => gl_if (fun c2 => gl_r (bl_sg c2) ⟨Int.le_trans ha q.1, op_cb (op_sp sp hc) q.2⟩) fun _ =>
      gl_b0 (gl_nd (a0 := a2)) fun _ m a3 q3 _ => gl_objL h f _ _ _ _ (by have : a2 ≤ a3 := q3; have := q.1; omega) (by
        have h3 : a2 ≤ a3 := q3
        cases p.1 == 4 && t_sg T m 1 with
        | true => exact op_none
        | false => exact op_cb (op_sp sp hc) (op_mono q.2 (Int.le_refl _) h3))
theorem gl_arrL (h : GlE T E) {cx : sC} {a0 : Int} : ∀ (f : Nat) (c : Option Int) (sp : Bool) (j : Nat) (a : Int), a0 ≤ a → opP a0 c a → gl T (-1) j a (opQ a0) (s_arrL T E cx f c sp j)
  | 0, _, _, _, _, _, _ => gl_none
  | f + 1, c, sp, j, a, ha, hc => gl_if (fun q => gl_r (bl_sg q) ⟨ha, hc⟩) fun _ => gl_if (fun q => gl_a0 (bl_sg q) (gl_arrL h f _ _ _ _ ha (op_sp sp hc))) fun _ => by
      have hd : bl T 0 j (bif t_sg T j 7 then j + 1 else j) := bl_opt fun c => bl_sg c
      refine gl_a0 hd (gl_b0 (h.1 _ _ _ _) fun v k a2 q _ => ?_)
      have hv : opP a (bif t_sg T j 7 then n_tg v else n_el v) a2 := by
        cases t_sg T j 7 with
        | true => exact op_tg q
        | false => exact op_el q
      refine gl_if (fun c2 => gl_r (bl_sg c2) ⟨Int.le_trans ha q.1, op_cb (op_sp sp hc) hv⟩) fun _ => gl_b0 (gl_nd (a0 := a2)) fun _ m a3 q3 _ => gl_arrL h f _ _ _ _ (by have : a2 ≤ a3 := q3; have := q.1; omega) ?_
      have h3 : a2 ≤ a3 := q3
      cases t_sg T j 7 && t_sg T m 5 with
      | true => exact op_none
      | false => exact op_cb (op_sp sp hc) (op_mono hv (Int.le_refl _) h3)
theorem op_some0 {a : Int} : opP a (some 0) a := fun x e => by
  have : (0 : Int) = x := Option.some.inj e
  omega
theorem gl_prim (h : GlE T E) {cx : sC} {i : Nat} {a : Int} : gl T 0 i a (cvP a) (s_prim T E cx i) := by
  refine gl_if (fun c => gl_r ?_ (cv_k (Int.le_refl _))) fun _ => gl_if (fun c => gl_tpl h c) fun _ => gl_if (fun c => ?_) fun _ => gl_if (fun c => gl_ao (bl_sg c) (gl_b0 (gl_expr h) fun n _ _ q _ => gl_br (gl_nd (a0 := _) (Int.le_refl _)) fun _ _ _ _ q2 => ⟨Int.le_trans q.1 q2, op_mono q.2 (Int.le_refl _) q2⟩)) fun _ =>
    gl_if (fun c => gl_ao (bl_sg c) (gl_br (gl_arrL h _ _ _ _ _ (Int.le_refl _) op_some0) fun _ _ _ _ q => q)) fun _ => gl_if (fun c => gl_ao (bl_sg c) (gl_br (gl_objL h _ _ _ _ _ (Int.le_refl _) op_some0) fun _ _ _ _ q => q)) fun _ => gl_none
  · simp only [Bool.or_eq_true] at c
    rcases c with (c | c) | c
    · exact bl_kd c
    · exact bl_kd c
    · exact bl_kd c
  · refine gl_if (fun c2 => ?_) fun _ => gl_i (gl_i gl_none (gl_r (bl_kd c) (cv_id (Int.le_refl _)))) (gl_i (gl_a0 (bl_kd c) (gl_fnAt h)) (gl_i (gl_a0 (bl_kd c) (gl_if (fun c3 => gl_i gl_none (gl_a0 (bl_id c3) (gl_class h))) fun _ => gl_class h)) (gl_i (gl_r (bl_kd c) (cv_k (Int.le_refl _))) (gl_i (gl_r (bl_kd c) (cv_k (Int.le_refl _))) (gl_i (gl_r (bl_kd c) (cv_k (Int.le_refl _))) (gl_i (gl_r (bl_kd c) (cv_k (Int.le_refl _))) gl_none))))))
    rw [Bool.and_eq_true, Bool.and_eq_true] at c2
    exact gl_a0 (bl_wd c2.1.1) (gl_a0 (bl_wd c2.1.2) (gl_fnAt h))
theorem gl_base (h : GlE T E) {cx : sC} {i : Nat} {a : Int} : gl T 0 i a (cvP a) (s_base T E cx i) := gl_if (fun c => gl_new h c) fun _ => gl_if (fun c => gl_sup h c) fun _ => gl_prim h
theorem gl_left (h : GlE T E) {cx : sC} {i : Nat} {a : Int} : gl T 0 i a (cvP a) (s_left T E cx i) := gl_b0 (gl_base h) fun _ _ _ q _ => gl_mem h q
theorem gl_newb (h : GlE T E) {cx : sC} {i : Nat} {a : Int} : gl T 0 i a (cvP a) (s_newb T E cx i) := gl_b0 (gl_base h) fun _ _ _ q _ => gl_i gl_none (gl_b0 (gl_mem h q) fun _ _ _ q _ => gl_if (fun c => gl_br (gl_args h c) fun _ _ _ _ q2 => cv_k (Int.le_trans q.1 q2)) fun _ => gl_r bl_0 (cv_k q.1))
theorem bl_un {i : Nat} (h : t_un T i = true) : bl T 0 i (i + 1) := by
  unfold t_un at h
  rw [Bool.or_eq_true, Bool.and_eq_true, Bool.and_eq_true] at h
  rcases h with ⟨h1, h2⟩ | ⟨h1, h2⟩
  · simp only [Bool.or_eq_true] at h2
    have t : ∀ s, (t_v T i == s) = true → t_sg T i s = true := fun s hs => by
      unfold t_sg
      have h1 : (T.1 i == 3) = true := h1
      have hs : (T.2.1 i == s) = true := hs
      rw [h1, hs]; rfl
    rcases h2 with ((h2 | h2) | h2) | h2
    · exact bl_sg (t _ h2)
    · exact bl_sg (t _ h2)
    · exact bl_sg (t _ h2)
    · exact bl_sg (t _ h2)
  · exact bl_kd h1
theorem gl_una (h : GlE T E) {cx : sC} {pw : Bool} {i : Nat} {a : Int} : gl T 0 i a (cvP a) (s_una T E cx pw i) := by
  refine gl_if (fun c => gl_a0 ?_ (gl_b0 (h.2.1 _ _ _ _) fun _ _ _ q _ => gl_i gl_none (gl_r bl_0 (cv_k q.1)))) fun _ => gl_b0 (P1 := cvP a) (gl_if (fun c => gl_a0 ?_ (gl_b0 (h.2.1 _ _ _ _) fun _ _ _ q _ => gl_i (gl_r bl_0 (cv_k q.1)) gl_none)) fun _ => gl_b0 (gl_left h) fun _ _ _ q _ => gl_if (fun c => gl_i (gl_r ?_ (cv_k q.1)) gl_none) fun _ => gl_r bl_0 q) fun _ _ _ q _ => gl_if (fun c => ?_) fun _ => gl_r bl_0 q
  · rw [Bool.or_eq_true] at c
    rcases c with c | c
    · exact bl_un c
    · rw [Bool.and_eq_true] at c
      exact bl_wd c.1
  · rw [Bool.or_eq_true] at c
    rcases c with c | c
    · exact bl_sg c
    · exact bl_sg c
  · rw [Bool.and_eq_true, Bool.or_eq_true] at c
    rcases c.2 with c | c
    · exact bl_sg c
    · exact bl_sg c
  · rw [Bool.and_eq_true] at c
    exact gl_a0 (bl_sg c.2) (gl_br (h.2.1 _ _ _ _) fun _ _ _ _ q2 => cv_d (Int.le_trans q.1 q2.1))
theorem bl_lv {inn : Bool} {j : Nat} (h : (t_lv T inn j == 0) = false) : bl T 0 j (j + 1) := by
  unfold t_lv at h
  cases h1 : t_kd T j 1 with
  | true => exact bl_kd h1
  | false =>
    rw [h1, cond_false] at h
    cases h3 : t_kd T j 3 with
    | false => rw [h3] at h; exact nomatch h
    | true =>
      have hk : T.1 j = 3 := eq_of_beq h3
      have e : t_sg T j (t_v T j) = true := by
        unfold t_sg t_v
        rw [hk, beq_self_eq_true, beq_self_eq_true]; rfl
      have hb := bl_sg (e := dps (t_v T j)) e rfl
      refine bl_e hb ?_
      rw [h3] at h
      generalize t_v T j = s at h
      unfold dps
      by_cases c0 : s = 0
      · subst c0; exact nomatch h
      by_cases c1 : s = 1
      · subst c1; exact nomatch h
      by_cases c2 : s = 2
      · subst c2; exact nomatch h
      by_cases c3 : s = 3
      · subst c3; exact nomatch h
      by_cases c4 : s = 4
      · subst c4; exact nomatch h
      by_cases c5 : s = 5
      · subst c5; exact nomatch h
      rw [beq_eq_false_iff_ne.mpr c0, beq_eq_false_iff_ne.mpr c1, beq_eq_false_iff_ne.mpr c2, beq_eq_false_iff_ne.mpr c3, beq_eq_false_iff_ne.mpr c4, beq_eq_false_iff_ne.mpr c5]
      rfl
theorem gl_binL {inn : Bool} {B : Nat → Nat → sR sN} {least : Nat} {a0 : Int} (hB : ∀ l j a, gl T 0 j a (cvP a) (B l j)) : ∀ (f : Nat) (n : sN) (j : Nat) (a : Int), cvP a0 n a j → gl T 0 j a (cvP a0) (s_binL T inn B least f n j)
  | 0, _, _, _, _ => gl_none
  | f + 1, n, j, a, hn => gl_if (fun _ => gl_r bl_0 hn) fun c => gl_a0 (bl_lv (by cases hh : t_lv T inn j == 0 with | true => rw [hh] at c; exact nomatch c | false => rfl)) (gl_b0 (hB _ _ _) fun _ _ _ q _ => gl_i (gl_binL hB f _ _ _ (cv_d (Int.le_trans hn.1 q.1))) (gl_i gl_none (gl_binL hB f _ _ _ (cv_d (Int.le_trans hn.1 q.1)))))
theorem gl_bin (h : GlE T E) {cx : sC} {inn : Bool} : ∀ (g least i : Nat) (a : Int), gl T 0 i a (cvP a) (s_bin T E cx inn g least i)
  | 0, _, _, _ => gl_none
  | g + 1, least, i, a => gl_b0 (P1 := cvP a) (gl_if (fun c => by
      simp only [Bool.and_eq_true] at c
      exact gl_b0 (P1 := loP a) (gl_w0 (bl_t (bl_kd c.1.1.1) (bl_wd c.2)) rfl (Int.le_refl _)) fun _ _ _ q _ => gl_br (gl_bin h g _ _ _) fun _ _ _ _ q2 => cv_k (Int.le_trans q q2.1)) fun _ => gl_una h) fun _ _ _ q _ => gl_binL (fun l j a => gl_bin h g l j a) _ _ _ _ q
theorem gl_cond (h : GlE T E) {cx : sC} {inn : Bool} {i : Nat} {a : Int} : gl T 0 i a (cvP a) (s_cond T E cx inn i) := gl_b0 (gl_bin h _ _ _ _) fun _ _ _ q _ => gl_if (fun c => gl_a0 (bl_sg c) (gl_b0 (h.1 _ _ _ _) fun _ _ _ q2 _ => gl_b0 (gl_nd (Int.le_trans q.1 q2.1)) fun _ _ _ q3 _ => gl_br (h.1 _ _ _ _) fun _ _ _ _ q4 => cv_k (Int.le_trans q3 q4.1))) fun _ => gl_r bl_0 q
theorem gl_yield (h : GlE T E) {cx : sC} {inn : Bool} {i : Nat} {a : Int} (hi : t_wd T i 37 = true) : gl T 0 i a (cvP a) (s_yield T E cx inn i) := by
  refine gl_if (fun c => ?_) fun _ => gl_i (gl_r (bl_wd hi) (cv_k (Int.le_refl _))) (gl_a0 (bl_wd hi) (gl_br (h.1 _ _ _ _) fun _ _ _ _ q => cv_k q.1))
  rw [Bool.and_eq_true] at c
  exact gl_a0 (bl_wd hi) (gl_a0 (bl_sg c.2) (gl_br (h.1 _ _ _ _) fun _ _ _ _ q => cv_k q.1))
theorem gl_asg (h : GlE T E) {cx : sC} {inn : Bool} {i : Nat} {a : Int} : gl T 0 i a (cvP a) (s_asg T E cx inn i) := by
  refine gl_if (fun c => ?_) fun _ => gl_if (fun c => ?_) fun _ => gl_i (gl_arrow h) (gl_b0 (gl_cond h) fun n j a2 q _ => gl_if (fun c => ?_) fun _ => gl_r bl_0 q)
  · rw [Bool.and_eq_true] at c
    exact gl_yield h c.2
  · unfold t_aarr at c
    rw [Bool.and_eq_true, Bool.and_eq_true] at c
    exact gl_a0 (bl_wd c.1.1) (gl_arrow h)
  · have hb : bl T 0 j (j + 1) := by
      rw [Bool.and_eq_true, Bool.and_eq_true] at c
      obtain ⟨⟨c1, c2⟩, -⟩ := c
      have hk : T.1 j = 3 := eq_of_beq c1
      have e : t_sg T j (t_v T j) = true := by
        unfold t_sg t_v
        rw [hk, beq_self_eq_true, beq_self_eq_true]; rfl
      refine bl_e (bl_sg (e := dps (t_v T j)) e rfl) ?_
      generalize t_v T j = s at c2
      unfold dps
      by_cases c0 : s = 0
      · subst c0; exact nomatch c2
      by_cases c1 : s = 1
      · subst c1; exact nomatch c2
      by_cases c2' : s = 2
      · subst c2'; exact nomatch c2
      by_cases c3 : s = 3
      · subst c3; exact nomatch c2
      by_cases c4 : s = 4
      · subst c4; exact nomatch c2
      by_cases c5 : s = 5
      · subst c5; exact nomatch c2
      rw [beq_eq_false_iff_ne.mpr c0, beq_eq_false_iff_ne.mpr c1, beq_eq_false_iff_ne.mpr c2', beq_eq_false_iff_ne.mpr c3, beq_eq_false_iff_ne.mpr c4, beq_eq_false_iff_ne.mpr c5]
      rfl
    refine gl_i ?_ (gl_i (gl_a0 hb (gl_br (h.1 _ _ _ _) fun _ _ _ _ q2 => cv_d (Int.le_trans q.1 q2.1))) gl_none)
    cases ht : n_tg n with
    | none => exact gl_none
    | some c =>
      have := op_tg q c ht
      exact gl_b0 (P1 := loP a) (gl_w hb (by show a ≤ a2 + -c; omega)) fun _ _ _ q _ => gl_br (h.1 _ _ _ _) fun _ _ _ _ q2 => cv_d (Int.le_trans q q2.1)
theorem gl_decL (h : GlE T E) {cx : sC} {as : Nat} {cst inn : Bool} {a0 : Int} {i n : Nat} : ∀ (f : Nat) (l : List Int32) (j : Nat) (a : Int), a0 ≤ a → l.length + i ≤ j + n → gl T 0 j a (lenQ i n a0) (s_decL T E cx as cst inn f l j)
  | 0, _, _, _, _, _ => gl_none
  | f + 1, l, j, a, ha, hl => gl_b0 (gl_bind h) fun b k a2 q _ => gl_b0 (P1 := loP a0) (gl_if (fun c => gl_a0 (bl_sg c) (gl_br (h.1 _ _ _ _) fun _ _ _ _ q2 => Int.le_trans ha (Int.le_trans q.1 q2.1))) fun _ => gl_i gl_none (gl_r bl_0 (Int.le_trans ha q.1))) fun _ m _ q2 hm =>
      gl_if (fun c => gl_a0 (bl_sg c) (gl_decL h f _ _ _ q2 (by have := q.2; simp only [List.length_append]; omega))) fun _ => gl_r bl_0 ⟨q2, by have := q.2; simp only [List.length_append]; omega⟩
theorem gl_dec (h : GlE T E) {cx : sC} {as : Nat} {cst : Bool} {i : Nat} {a : Int} : gl T 0 i a (lenQ i 0 a) (s_dec T E cx as cst i) := gl_decL h _ _ _ _ (Int.le_refl _) (by simp)
theorem gl_hoist (h : GlE T E) {asy unn : Bool} {i : Nat} {a : Int} : gl T 0 i a (lenQ i 1 a) (s_hoist T E asy unn i) :=
  gl_i gl_none (gl_a0 (bl_opt fun c => bl_sg c) (gl_b0 (P1 := lenQ (bif t_sg T i 20 then i + 1 else i) 1 a) (gl_i (gl_w0 bl_0 rfl ⟨Int.le_refl _, by simp only [List.length_cons, List.length_nil]; omega⟩) (gl_br (gl_named (a0 := a)) fun _ _ _ _ q => ⟨q.1, by have := q.2; omega⟩)) fun _ _ _ q _ => gl_br (gl_plain h q.1) fun _ _ m hm q2 => ⟨q2, by
    have := q.2
    have h1 : i ≤ (bif t_sg T i 20 then i + 1 else i) := by cases t_sg T i 20 <;> simp
    omega⟩))
end GLS
