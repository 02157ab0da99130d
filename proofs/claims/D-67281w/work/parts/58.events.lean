/-! PHASE 3. Which kinds of declarations a part of the grammar tells -/
def ev {β : Type} (P : Nat → Bool) (r : sR β) : Prop := ∀ v j α, r = some (v, j, α) → ∀ x ∈ α.2.2.2.2.2, P x.1 = true ∧ (x.1 = 7 ∨ x.1 = 10 ∨ n_bad x.2 = false)
def eN (_ : Nat) : Bool := false
def eK (a k : Nat) : Bool := k == a
def eS (k : Nat) : Bool := decide (k < 3)
section EV
variable {β γ : Type} {P P' : Nat → Bool} {r : sR β} {f : β → Nat → sR γ}
theorem ev_none : ev P (none : sR β) := fun _ _ _ h => nomatch h
theorem ev_w {α : sA} {v : β} {j : Nat} (h : α.2.2.2.2.2 = []) : ev P (s_w α v j) := by
  intro v2 j2 α2 e x hx
  unfold s_w at e
  simp only [Option.some.injEq, Prod.mk.injEq] at e
  obtain ⟨-, -, e⟩ := e
  subst e
  rw [h] at hx
  exact absurd hx List.not_mem_nil
theorem ev_r {v : β} {j : Nat} : ev P (s_r v j) := ev_w (α := sA0) rfl
theorem ev_e {k j : Nat} {n : Int32} {v : β} (hk : P k = true) (hn : k = 7 ∨ k = 10 ∨ n_bad n = false) : ev P (s_w (sA_ev k n) v j) := by
  intro v2 j2 α2 e x hx
  unfold s_w at e
  simp only [Option.some.injEq, Prod.mk.injEq] at e
  obtain ⟨-, -, e⟩ := e
  subst e
  have : x = (k, n) := List.mem_singleton.mp hx
  subst this
  exact ⟨hk, hn⟩
theorem ev_b (h : ev P r) (g : ∀ v j, ev P (f v j)) : ev P (s_b r f) := by
  intro w k α e x hx
  unfold s_b at e
  cases hr : r with
  | none => rw [hr] at e; exact nomatch e
  | some z =>
    obtain ⟨v, j, α1⟩ := z
    rw [hr] at e
    simp only at e
    cases hf : f v j with
    | none => rw [hf] at e; exact nomatch e
    | some y =>
      obtain ⟨v2, j2, α2⟩ := y
      rw [hf] at e
      simp only [Option.some.injEq, Prod.mk.injEq] at e
      obtain ⟨-, -, e⟩ := e
      subst e
      have hx : x ∈ α1.2.2.2.2.2 ++ α2.2.2.2.2.2 := hx
      rcases List.mem_append.mp hx with hx | hx
      · exact h v j α1 hr x hx
      · exact g v j v2 j2 α2 hf x hx
theorem ev_if {c : Bool} {a b : sR β} (h1 : c = true → ev P a) (h2 : c = false → ev P b) : ev P (bif c then a else b) := by
  cases c with
  | true => exact h1 rfl
  | false => exact h2 rfl
theorem ev_i {c : Bool} {a b : sR β} (h1 : ev P a) (h2 : ev P b) : ev P (bif c then a else b) := ev_if (fun _ => h1) (fun _ => h2)
theorem ev_mono (h : ev P r) (hp : ∀ k, P k = true → P' k = true) : ev P' r := fun v j α e x hx => ⟨hp _ (h v j α e x hx).1, (h v j α e x hx).2⟩
theorem ev_n (h : ev eN r) : ev P r := ev_mono h (fun _ q => nomatch q)
theorem ev_blk (h : ev P r) : ev (fun k => P k && k == 0) (s_blk r) := by
  intro v j α e x hx
  unfold s_blk at e
  cases hr : r with
  | none => rw [hr] at e; exact nomatch e
  | some z =>
    obtain ⟨v1, j1, cv, pu, nf, nc, ok, evs⟩ := z
    rw [hr] at e
    simp only [Option.some.injEq, Prod.mk.injEq] at e
    obtain ⟨-, -, e⟩ := e
    subst e
    have hx : x ∈ evs.filter (fun x => x.1 == 0) := hx
    rw [List.mem_filter] at hx
    have := h v1 j1 _ hr x hx.1
    refine ⟨?_, this.2⟩
    show (P x.1 && x.1 == 0) = true
    rw [this.1, hx.2]; rfl
theorem ev_fn {n : Nat} : ev P (s_fn n r) := by
  intro v j α e x hx
  unfold s_fn at e
  cases hr : r with
  | none => rw [hr] at e; exact nomatch e
  | some z =>
    obtain ⟨v1, j1, cv, pu, nf, nc, ok, evs⟩ := z
    rw [hr] at e
    simp only [Option.some.injEq, Prod.mk.injEq] at e
    obtain ⟨-, -, e⟩ := e
    subst e
    exact absurd hx List.not_mem_nil
theorem ev_cl {r : sR (List (Int32 × Nat))} (h : ev (eK 7) r) : ev P (s_cl r) := by
  intro v j α e x hx
  unfold s_cl at e
  cases hr : r with
  | none => rw [hr] at e; exact nomatch e
  | some z =>
    obtain ⟨v1, j1, cv, pu, nf, nc, ok, evs⟩ := z
    rw [hr] at e
    simp only [Option.some.injEq, Prod.mk.injEq] at e
    obtain ⟨-, -, e⟩ := e
    subst e
    have hx : x ∈ evs.filter (fun x => !(x.1 == 7)) := hx
    rw [List.mem_filter] at hx
    have := h v1 j1 _ hr x hx.1
    have e2 : (x.1 == 7) = true := this.1
    rw [e2] at hx
    exact nomatch hx.2
end EV
def EvE (E : sE) : Prop := (∀ cx b j, ev eN (E.1 cx b j)) ∧ (∀ cx b j, ev eN (E.2.1 cx b j)) ∧ (∀ cx j, ev eN (E.2.2.1 cx j)) ∧ (∀ cx j, ev eN (E.2.2.2.1 cx j)) ∧ (∀ cx as j, ev (eK as) (E.2.2.2.2.1 cx as j)) ∧ (∀ cx as j, ev (eK as) (E.2.2.2.2.2.1 cx as j)) ∧ (∀ x j, ev eS (E.2.2.2.2.2.2.1 x j)) ∧ ∀ x j, ev eS (E.2.2.2.2.2.2.2 x j)
section EVS
variable {T : sT} {E : sE} {P : Nat → Bool}
theorem ev_nd {s : Int32} {j : Nat} : ev P (s_nd T s j) := ev_i ev_r ev_none
theorem ev_nw {s : Int32} {j : Nat} : ev P (s_nw T s j) := ev_i ev_r ev_none
theorem ev_ident {j : Nat} : ev P (s_ident T j) := ev_i ev_r ev_none
theorem ev_semi {j : Nat} : ev P (s_semi T j) := ev_i ev_r (ev_i ev_r ev_none)
theorem ev_exprL (h : EvE E) {cx : sC} {inn : Bool} : ∀ (f : Nat) (n : sN) (j : Nat), ev eN (s_exprL T E cx inn f n j)
  | 0, _, _ => ev_none
  | f + 1, n, j => ev_i (ev_b (h.1 _ _ _) fun _ _ => ev_exprL h f _ _) ev_r
theorem ev_expr (h : EvE E) {cx : sC} {inn : Bool} {i : Nat} : ev eN (s_expr T E cx inn i) := ev_b (h.1 _ _ _) fun _ _ => ev_exprL h _ _ _
theorem ev_argL (h : EvE E) {cx : sC} : ∀ (f j : Nat), ev eN (s_argL T E cx f j)
  | 0, _ => ev_none
  | f + 1, j => ev_i ev_r (ev_b (h.1 _ _ _) fun _ _ => ev_i (ev_argL h f _) (ev_b ev_nd fun _ _ => ev_argL h f _))
theorem ev_args (h : EvE E) {cx : sC} {i : Nat} : ev eN (s_args T E cx i) := ev_argL h _ _
theorem ev_tplL (h : EvE E) {cx : sC} {tag : Bool} : ∀ (f j : Nat), ev eN (s_tplL T E cx tag f j)
  | 0, _ => ev_none
  | f + 1, j => ev_i ev_none (ev_i ev_r (ev_b (ev_expr h) fun _ _ => ev_i (ev_tplL h f _) ev_none))
theorem ev_tpl (h : EvE E) {cx : sC} {tag : Bool} {i : Nat} : ev eN (s_tpl T E cx tag i) := ev_b (ev_tplL h _ _) fun _ _ => ev_r
theorem ev_sup (h : EvE E) {cx : sC} {i : Nat} : ev eN (s_sup T E cx i) :=
  ev_i (ev_i (ev_b (ev_args h) fun _ _ => ev_r) ev_none) (ev_i (ev_i (ev_i ev_r ev_none) (ev_b ev_nd fun _ _ => ev_b (ev_expr h) fun _ _ => ev_b ev_nd fun _ _ => ev_r)) ev_none)
theorem ev_new (h : EvE E) {cx : sC} {i : Nat} : ev eN (s_new T E cx i) := ev_i (ev_i (ev_i ev_r ev_none) ev_none) (h.2.2.1 _ _)
theorem ev_memL (h : EvE E) {cx : sC} {calls : Bool} : ∀ (f : Nat) (n : sN) (ch : Bool) (j : Nat), ev eN (s_memL T E cx calls f n ch j)
  | 0, _, _, _ => ev_none
  | f + 1, n, ch, j => ev_i (ev_i ev_none (ev_i ev_none (ev_i (ev_b (ev_w rfl) fun _ _ => ev_memL h f _ _ _) (ev_i (ev_memL h f _ _ _) (ev_i (ev_b (ev_expr h) fun _ _ => ev_b ev_nd fun _ _ => ev_memL h f _ _ _) (ev_i (ev_b (ev_args h) fun _ _ => ev_memL h f _ _ _) ev_none))))))
      (ev_i (ev_i (ev_b (ev_w rfl) fun _ _ => ev_memL h f _ _ _) (ev_i (ev_memL h f _ _ _) ev_none)) (ev_i (ev_b (ev_expr h) fun _ _ => ev_b ev_nd fun _ _ => ev_memL h f _ _ _) (ev_i (ev_b (ev_args h) fun _ _ => ev_memL h f _ _ _) (ev_i (ev_i ev_none (ev_b (ev_tpl h) fun _ _ => ev_memL h f _ _ _)) ev_r))))
theorem ev_mem (h : EvE E) {cx : sC} {calls : Bool} {n : sN} {j : Nat} : ev eN (s_mem T E cx calls n j) := ev_memL h _ _ _ _
theorem ev_key (h : EvE E) {cx : sC} {i : Nat} : ev eN (s_key T E cx i) := ev_i ev_r (ev_b ev_nd fun _ _ => ev_b (h.1 _ _ _) fun _ _ => ev_nd)
theorem ev_named {as j : Nat} : ev (eK as) (s_named T as j) := ev_b ev_ident fun _ _ => ev_if (fun _ => ev_none) fun q => ev_e (beq_self_eq_true as) (Or.inr (Or.inr q))
theorem ev_barL (h : EvE E) {cx : sC} {as : Nat} : ∀ (f : Nat) (l : List Int32) (j : Nat), ev (eK as) (s_barL T E cx as f l j)
  | 0, _, _ => ev_none
  | f + 1, l, j => ev_i ev_r (ev_i (ev_b ev_nd fun _ _ => ev_barL h f _ _) (ev_i (ev_b (h.2.2.2.2.1 _ _ _) fun _ _ => ev_b ev_nd fun _ _ => ev_r) (ev_b (h.2.2.2.2.2.1 _ _ _) fun _ _ => ev_i (ev_barL h f _ _) (ev_b ev_nd fun _ _ => ev_barL h f _ _))))
theorem ev_bobL (h : EvE E) {cx : sC} {as : Nat} : ∀ (f : Nat) (l : List Int32) (j : Nat), ev (eK as) (s_bobL T E cx as f l j)
  | 0, _, _ => ev_none
  | f + 1, l, j => ev_i ev_r (ev_i (ev_b ev_named fun _ _ => ev_b ev_nd fun _ _ => ev_r) (ev_b (ev_n (ev_key h)) fun _ _ => ev_b (ev_i (ev_b (h.2.2.2.2.2.1 _ _ _) fun _ _ => ev_r)
      (ev_if (fun q => ev_b (ev_e (beq_self_eq_true as) (Or.inr (Or.inr (by rw [Bool.and_eq_true] at q; cases hb : n_bad (t_v T j) with | true => rw [hb] at q; exact nomatch q.2 | false => rfl)))) fun _ _ => ev_i (ev_b (ev_n (h.1 _ _ _)) fun _ _ => ev_r) ev_r) (fun _ => ev_none))) fun _ _ => ev_i (ev_bobL h f _ _) (ev_b ev_nd fun _ _ => ev_bobL h f _ _)))
theorem ev_bind (h : EvE E) {cx : sC} {as i : Nat} : ev (eK as) (s_bind T E cx as i) := ev_i (ev_barL h _ _ _) (ev_i (ev_bobL h _ _ _) ev_named)
theorem ev_elem (h : EvE E) {cx : sC} {as i : Nat} : ev (eK as) (s_elem T E cx as i) := ev_b (ev_bind h) fun _ _ => ev_i (ev_b (ev_n (h.1 _ _ _)) fun _ _ => ev_r) ev_r
theorem ev_parL (h : EvE E) {cx : sC} : ∀ (f : Nat) (si : Bool) (n j : Nat), ev (eK 3) (s_parL T E cx f si n j)
  | 0, _, _, _ => ev_none
  | f + 1, si, n, j => ev_i ev_r (ev_i (ev_b (h.2.2.2.2.1 _ _ _) fun _ _ => ev_b ev_nd fun _ _ => ev_r) (ev_b (h.2.2.2.2.2.1 _ _ _) fun _ _ => ev_i (ev_parL h f _ _ _) (ev_b ev_nd fun _ _ => ev_parL h f _ _ _)))
theorem ev_listL (h : EvE E) {x : sX} : ∀ (f j : Nat), ev eS (s_listL T E x f j)
  | 0, _ => ev_none
  | f + 1, j => ev_i ev_r (ev_b (h.2.2.2.2.2.2.1 _ _) fun _ _ => ev_listL h f _)
theorem ev_list (h : EvE E) {x : sX} {i : Nat} : ev eS (s_list T E x i) := ev_listL h _ _
theorem ev_body (h : EvE E) {x : sX} {si : Bool} {i : Nat} : ev eS (s_body T E x si i) := ev_b ev_nd fun _ _ => ev_i ev_none (ev_b (ev_list h) fun _ _ => ev_nd)
theorem ev_plain {hm mk gen asy : Bool} {gs i : Nat} : ev P (s_plain T E hm mk gs gen asy i) := ev_fn
theorem ev_arrow {cx : sC} {inn asy : Bool} {i : Nat} : ev P (s_arrow T E cx inn asy i) := ev_fn
theorem ev_fnAt {asy : Bool} {i : Nat} : ev P (s_fnAt T E asy i) := ev_i ev_none (ev_b (ev_i ev_r (ev_b ev_ident fun _ _ => ev_i ev_none ev_r)) fun _ _ => ev_b ev_plain fun _ _ => ev_r)
theorem ev_mrest {heir ct fixed gen asy hid lit : Bool} {gs k : Nat} {x : Int32} {D : List (Int32 × Nat)} : ev (eK 7) (s_mrest T E heir ct fixed gen asy gs hid lit x D k) :=
  ev_i ev_none (ev_b (ev_i (ev_b (ev_w rfl) fun _ _ => ev_e rfl (Or.inl rfl)) ev_r) fun _ _ => ev_i (ev_b (ev_i ev_fn ev_r) fun _ _ => ev_b ev_semi fun _ _ => ev_r) (ev_i (ev_i ev_none (ev_b ev_plain fun _ _ => ev_r)) (ev_b ev_plain fun _ _ => ev_r)))
theorem ev_member2 (h : EvE E) {cx : sC} {heir ct fixed : Bool} {D : List (Int32 × Nat)} {i : Nat} : ev (eK 7) (s_member2 T E cx heir ct fixed D i) :=
  ev_i ev_none (ev_i (ev_i ev_none ev_mrest) (ev_b (ev_n (ev_key h)) fun _ _ => ev_mrest))
theorem ev_member (h : EvE E) {cx : sC} {heir ct : Bool} {D : List (Int32 × Nat)} {i : Nat} : ev (eK 7) (s_member T E cx heir ct D i) := ev_i (ev_i (ev_b ev_fn fun _ _ => ev_r) (ev_member2 h)) (ev_member2 h)
theorem ev_clsL (h : EvE E) {cx : sC} {heir : Bool} : ∀ (f : Nat) (ct : Bool) (D : List (Int32 × Nat)) (j : Nat), ev (eK 7) (s_clsL T E cx heir f ct D j)
  | 0, _, _, _ => ev_none
  | f + 1, ct, D, j => ev_i ev_r (ev_i (ev_clsL h f _ _ _) (ev_b (ev_member h) fun _ _ => ev_clsL h f _ _ _))
theorem ev_class (h : EvE E) {cx : sC} {i : Nat} : ev eN (s_class T E cx i) := ev_b (ev_i (ev_b (h.2.2.2.1 _ _) fun _ _ => ev_r) ev_r) fun _ _ => ev_cl (ev_b ev_nd fun _ _ => ev_clsL h _ _ _ _)
theorem ev_prop (h : EvE E) {cx : sC} {i : Nat} : ev eN (s_prop T E cx i) :=
  ev_i (ev_b (h.1 _ _ _) fun _ _ => ev_r) (ev_i ev_none (ev_i (ev_i ev_none (ev_b (ev_key h) fun _ _ => ev_b ev_plain fun _ _ => ev_r)) (ev_b (ev_key h) fun _ _ => ev_i (ev_b ev_plain fun _ _ => ev_r) (ev_i (ev_b (h.1 _ _ _) fun _ _ => ev_r) (ev_i (ev_i (ev_b (ev_w rfl) fun _ _ => ev_b (h.1 _ _ _) fun _ _ => ev_r) ev_r) ev_none)))))
theorem ev_objL (h : EvE E) {cx : sC} : ∀ (f : Nat) (c : Option Int) (sp : Bool) (j : Nat), ev eN (s_objL T E cx f c sp j)
  | 0, _, _, _ => ev_none
  | f + 1, c, sp, j => ev_i ev_r (ev_b (ev_prop h) fun _ _ => ev_i ev_r (ev_b ev_nd fun _ _ => ev_objL h f _ _ _))
theorem ev_arrL (h : EvE E) {cx : sC} : ∀ (f : Nat) (c : Option Int) (sp : Bool) (j : Nat), ev eN (s_arrL T E cx f c sp j)
  | 0, _, _, _ => ev_none
  | f + 1, c, sp, j => ev_i ev_r (ev_i (ev_arrL h f _ _ _) (ev_b (h.1 _ _ _) fun _ _ => ev_i ev_r (ev_b ev_nd fun _ _ => ev_arrL h f _ _ _)))
theorem ev_prim (h : EvE E) {cx : sC} {i : Nat} : ev eN (s_prim T E cx i) :=
  ev_i ev_r (ev_i (ev_tpl h) (ev_i (ev_i ev_fnAt (ev_i (ev_i ev_none ev_r) (ev_i ev_fnAt (ev_i (ev_i (ev_i ev_none (ev_class h)) (ev_class h)) (ev_i ev_r (ev_i ev_r (ev_i ev_r (ev_i ev_r ev_none)))))))) (ev_i (ev_b (ev_expr h) fun _ _ => ev_b ev_nd fun _ _ => ev_r) (ev_i (ev_b (ev_arrL h _ _ _ _) fun _ _ => ev_r) (ev_i (ev_b (ev_objL h _ _ _ _) fun _ _ => ev_r) ev_none)))))
theorem ev_base (h : EvE E) {cx : sC} {i : Nat} : ev eN (s_base T E cx i) := ev_i (ev_new h) (ev_i (ev_sup h) (ev_prim h))
theorem ev_left (h : EvE E) {cx : sC} {i : Nat} : ev eN (s_left T E cx i) := ev_b (ev_base h) fun _ _ => ev_mem h
theorem ev_newb (h : EvE E) {cx : sC} {i : Nat} : ev eN (s_newb T E cx i) := ev_b (ev_base h) fun _ _ => ev_i ev_none (ev_b (ev_mem h) fun _ _ => ev_i (ev_b (ev_args h) fun _ _ => ev_r) ev_r)
theorem ev_una (h : EvE E) {cx : sC} {pw : Bool} {i : Nat} : ev eN (s_una T E cx pw i) :=
  ev_i (ev_b (h.2.1 _ _ _) fun _ _ => ev_i ev_none ev_r) (ev_b (ev_i (ev_b (h.2.1 _ _ _) fun _ _ => ev_i ev_r ev_none) (ev_b (ev_left h) fun _ _ => ev_i (ev_i ev_r ev_none) ev_r)) fun _ _ => ev_i (ev_b (h.2.1 _ _ _) fun _ _ => ev_r) ev_r)
theorem ev_binL {inn : Bool} {B : Nat → Nat → sR sN} {least : Nat} (hB : ∀ l j, ev eN (B l j)) : ∀ (f : Nat) (n : sN) (j : Nat), ev eN (s_binL T inn B least f n j)
  | 0, _, _ => ev_none
  | f + 1, n, j => ev_i ev_r (ev_b (hB _ _) fun _ _ => ev_i (ev_binL hB f _ _) (ev_i ev_none (ev_binL hB f _ _)))
theorem ev_bin (h : EvE E) {cx : sC} {inn : Bool} : ∀ (g least i : Nat), ev eN (s_bin T E cx inn g least i)
  | 0, _, _ => ev_none
  | g + 1, least, i => ev_b (ev_i (ev_b (ev_w rfl) fun _ _ => ev_b (ev_bin h g _ _) fun _ _ => ev_r) (ev_una h)) fun _ _ => ev_binL (fun l j => ev_bin h g l j) _ _ _
theorem ev_cond (h : EvE E) {cx : sC} {inn : Bool} {i : Nat} : ev eN (s_cond T E cx inn i) := ev_b (ev_bin h _ _ _) fun _ _ => ev_i (ev_b (h.1 _ _ _) fun _ _ => ev_b ev_nd fun _ _ => ev_b (h.1 _ _ _) fun _ _ => ev_r) ev_r
theorem ev_yield (h : EvE E) {cx : sC} {inn : Bool} {i : Nat} : ev eN (s_yield T E cx inn i) := ev_i (ev_b (h.1 _ _ _) fun _ _ => ev_r) (ev_i ev_r (ev_b (h.1 _ _ _) fun _ _ => ev_r))
theorem ev_asg (h : EvE E) {cx : sC} {inn : Bool} {i : Nat} : ev eN (s_asg T E cx inn i) := by
  refine ev_i (ev_yield h) (ev_i ev_arrow (ev_i ev_arrow (ev_b (ev_cond h) fun n j => ev_i (ev_i ?_ (ev_i (ev_b (h.1 _ _ _) fun _ _ => ev_r) ev_none)) ev_r)))
  cases n_tg n with
  | none => exact ev_none
  | some c => exact ev_b (ev_w rfl) fun _ _ => ev_b (h.1 _ _ _) fun _ _ => ev_r
theorem ev_decL (h : EvE E) {cx : sC} {as : Nat} {cst inn : Bool} : ∀ (f : Nat) (l : List Int32) (j : Nat), ev (eK as) (s_decL T E cx as cst inn f l j)
  | 0, _, _ => ev_none
  | f + 1, l, j => ev_b (ev_bind h) fun _ _ => ev_b (ev_i (ev_b (ev_n (h.1 _ _ _)) fun _ _ => ev_r) (ev_i ev_none ev_r)) fun _ _ => ev_i (ev_decL h f _ _) ev_r
theorem ev_dec (h : EvE E) {cx : sC} {as : Nat} {cst : Bool} {i : Nat} : ev (eK as) (s_dec T E cx as cst i) := ev_decL h _ _ _
theorem ev_3 {β : Type} {r : sR β} {a : Nat} (g : ev (eK a) r) (ha : a < 3) : ev eS r := ev_mono g fun k q => by
  have : k = a := by simpa [eK] using q
  simp [eS, this, ha]
theorem ev_hoist {asy : Bool} {i : Nat} : ev eS (s_hoist T E asy false i) := ev_i ev_none (ev_b (ev_if (fun q => nomatch q) fun _ => ev_b (ev_3 ev_named (by decide)) fun _ _ => ev_r) fun _ _ => ev_b ev_plain fun _ _ => ev_r)
theorem ev_cond2 (h : EvE E) {cx : sC} {i : Nat} : ev eN (s_cond2 T E cx i) := ev_b ev_nd fun _ _ => ev_b (ev_expr h) fun _ _ => ev_nd
theorem ev_blkS {β : Type} {r : sR β} (g : ev eS r) : ev eS (s_blk r) := ev_mono (ev_blk g) fun k q => by rw [Bool.and_eq_true] at q; exact q.1
theorem ev_block (h : EvE E) {x : sX} {i : Nat} : ev eS (s_block T E x i) := ev_blkS (ev_b ev_nd fun _ _ => ev_b (ev_list h) fun _ _ => ev_nd)
theorem ev_stm (h : EvE E) {x : sX} {i : Nat} : ev eS (s_stm E x i) := h.2.2.2.2.2.2.2 _ _
theorem ev_fplain (h : EvE E) {x : sX} {i : Nat} : ev eS (s_fplain T E x i) :=
  ev_b ev_nd fun _ _ => ev_b (ev_i ev_r (ev_b (ev_n (ev_expr h)) fun _ _ => ev_r)) fun _ _ => ev_b ev_nd fun _ _ => ev_b (ev_i ev_r (ev_b (ev_n (ev_expr h)) fun _ _ => ev_r)) fun _ _ => ev_b ev_nd fun _ _ => ev_stm h
theorem ev_feach (h : EvE E) {x : sX} {i : Nat} : ev eS (s_feach T E x i) := ev_b (ev_i (ev_b (ev_n (h.1 _ _ _)) fun _ _ => ev_r) (ev_b (ev_n (ev_expr h)) fun _ _ => ev_r)) fun _ _ => ev_b ev_nd fun _ _ => ev_stm h
theorem ev_for (h : EvE E) {x : sX} {i : Nat} : ev eS (s_for T E x i) := by
  refine ev_blkS (ev_b ev_nd fun _ j => ev_i ?_ (ev_i (ev_fplain h) (ev_b (ev_n (ev_expr h)) fun n k => ev_i (ev_i ev_none ?_) (ev_fplain h))))
  · have two : ∀ (c : Bool), (bif c then 0 else 1) < 3 := fun c => by cases c <;> decide
    exact ev_b (ev_3 (ev_bind h) (two _)) fun _ _ => ev_i (ev_feach h) (ev_b (ev_i (ev_b (ev_n (h.1 _ _ _)) fun _ _ => ev_r) (ev_i ev_none ev_r)) fun _ _ => ev_b (ev_i (ev_b (ev_3 (ev_decL h _ _ _) (two _)) fun _ _ => ev_r) ev_r) fun _ _ => ev_fplain h)
  · cases n_tg n with
    | none => exact ev_none
    | some c => exact ev_b (ev_w rfl) fun _ _ => ev_feach h
theorem ev_swL (h : EvE E) {x : sX} : ∀ (f : Nat) (o : Bool) (j : Nat), ev eS (s_swL T E x f o j)
  | 0, _, _ => ev_none
  | f + 1, o, j => ev_i ev_r (ev_b (ev_i (ev_i ev_none ev_r) (ev_b ev_nw fun _ _ => ev_b (ev_n (ev_expr h)) fun _ _ => ev_r)) fun _ _ => ev_b ev_nd fun _ _ => ev_b (ev_list h) fun _ _ => ev_swL h f _ _)
theorem ev_switch (h : EvE E) {x : sX} {i : Nat} : ev eS (s_switch T E x i) := ev_b (ev_n (ev_cond2 h)) fun _ _ => ev_blkS (ev_b ev_nd fun _ _ => ev_swL h _ _ _)
theorem ev_try (h : EvE E) {x : sX} {i : Nat} : ev eS (s_try T E x i) :=
  ev_b (ev_block h) fun _ _ => ev_b (ev_i (ev_blkS (ev_b (ev_i (ev_b (ev_3 (ev_bind h) (by decide)) fun _ _ => ev_nd) ev_r) fun _ _ => ev_b ev_nd fun _ _ => ev_b (ev_list h) fun _ _ => ev_nd)) ev_r) fun _ _ => ev_i (ev_block h) (ev_i ev_r ev_none)
theorem ev_label (h : EvE E) {x : sX} {i : Nat} : ev eS (s_label T E x i) := ev_i ev_none (ev_stm h)
theorem ev_jump {x : sX} {brk : Bool} {i : Nat} : ev P (s_jump T x brk i) := ev_i (ev_i ev_semi ev_none) (ev_i ev_semi ev_none)
theorem ev_stmIn (h : EvE E) {x : sX} {i : Nat} : ev eS (s_stmIn T E x i) :=
  ev_i (ev_block h) (ev_i ev_r (ev_i (ev_label h) (ev_i (ev_b (ev_3 (ev_dec h) (by decide)) fun _ _ => ev_semi) (ev_i (ev_b (ev_n (ev_cond2 h)) fun _ _ => ev_b (ev_stm h) fun _ _ => ev_i (ev_stm h) ev_r) (ev_i (ev_for h) (ev_i (ev_b (ev_n (ev_cond2 h)) fun _ _ => ev_stm h)
    (ev_i (ev_b (ev_stm h) fun _ _ => ev_b ev_nw fun _ _ => ev_b (ev_n (ev_cond2 h)) fun _ _ => ev_r) (ev_i ev_jump (ev_i ev_jump (ev_i (ev_i (ev_i ev_semi (ev_b (ev_n (ev_expr h)) fun _ _ => ev_semi)) ev_none) (ev_i (ev_switch h) (ev_i (ev_i ev_none (ev_b (ev_n (ev_expr h)) fun _ _ => ev_semi)) (ev_i (ev_try h) (ev_i ev_semi (ev_i ev_none (ev_b (ev_n (ev_expr h)) fun _ _ => ev_semi)))))))))))))))) 
theorem ev_stmE (h : EvE E) {x : sX} {i : Nat} : ev eS (s_stmE T E x i) := ev_i ev_none (ev_stmIn h)
theorem ev_item (h : EvE E) {x : sX} {i : Nat} : ev eS (s_item T E x i) :=
  ev_i ev_hoist (ev_i ev_hoist (ev_i (ev_b (ev_3 ev_named (by decide)) fun _ _ => ev_b (ev_n (ev_class h)) fun _ _ => ev_r) (ev_i (ev_b (ev_3 (ev_dec h) (by decide)) fun _ _ => ev_b ev_semi fun _ _ => ev_r) (ev_i (ev_b (ev_3 (ev_dec h) (by decide)) fun _ _ => ev_b ev_semi fun _ _ => ev_r) (ev_b (ev_stmIn h) fun _ _ => ev_r)))))
end EVS
theorem ev_lv {T : sT} : ∀ ν, EvE (s_lv T ν)
  | 0 => ⟨fun _ _ _ => ev_none, fun _ _ _ => ev_none, fun _ _ => ev_none, fun _ _ => ev_none, fun _ _ _ => ev_none, fun _ _ _ => ev_none, fun _ _ => ev_none, fun _ _ => ev_none⟩
  | ν + 1 => have h := ev_lv (T := T) ν; ⟨fun _ _ _ => ev_asg h, fun _ _ _ => ev_una h, fun _ _ => ev_newb h, fun _ _ => ev_left h, fun _ _ _ => ev_bind h, fun _ _ _ => ev_elem h, fun _ _ => ev_item h, fun _ _ => ev_stmE h⟩
