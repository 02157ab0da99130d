/-! PHASE 3. Rules of walking: tests, tokens, nodes, calls -/
theorem NS_th {σ u : mmS} {w x y z : Int32} (n : NS σ w x y z u) : th u = (fN σ 315 + 1, fN σ 336, fN σ 371, fN σ 356) := by
  obtain ⟨n1, n2, n3, -⟩ := n
  unfold th
  rw [n2, fN_eq (n3 336 (by decide)), fN_eq (n3 371 (by decide)), fN_eq (n3 356 (by decide))]
theorem Fr.NS {σ u : mmS} {w x y z : Int32} (n : NS σ w x y z u) : Fr (th σ) σ u := by
  obtain ⟨n1, n2, n3, n4, n5, n6, n7, n8, n9, n10, n11⟩ := n
  have s (k : Nat) (k1 : 326 ≤ k) : sam σ u k := n7 k ⟨Or.inr (by omega), by omega⟩
  refine ⟨fun q => ?_, fun j hj => n3 j (fun e => by rw [e] at hj; exact absurd hj (by decide)), ⟨n4, gro.of (s 328 (by decide)).1 (s 332 (by decide)).1 (s 334 (by decide)).1⟩, fun k k1 k2 => n7 k ⟨k1, fun ⟨a, b⟩ => ?_⟩, ⟨by omega, ?_, ?_, ?_⟩, fun t _ => ⟨by rw [(s 326 (by decide)).1], by rw [(s 327 (by decide)).1]⟩, fun t _ => ⟨by rw [(s 337 (by decide)).1], by rw [(s 339 (by decide)).1]⟩, fun _ => ⟨?_, fun k k1 k2 i _ hi => n5 k k1 k2 i hi, fun f _ => ⟨by rw [(s 338 (by decide)).1], by rw [(s 342 (by decide)).1]⟩, fun k _ => ⟨by rw [(s 369 (by decide)).1], by rw [(s 370 (by decide)).1]⟩, fun k _ => ⟨by rw [(s 361 (by decide)).1], by rw [(s 362 (by decide)).1]⟩⟩⟩
  · unfold GD at q ⊢
    rw [n3 303 (by decide)] at q
    exact q
  · have : cms k = true := by simp [cms, Nat.ble_eq_true_of_le a, Nat.ble_eq_true_of_le b]
    rw [this] at k2
    exact absurd k2 (by decide)
  · rw [fN_eq (n3 324 (by decide))]; exact Nat.le_refl _
  · rw [fN_eq (n3 325 (by decide))]; exact Nat.le_refl _
  · rw [fN_eq (n3 336 (by decide))]; exact Nat.le_refl _
  · rw [fN_eq (n3 371 (by decide))]; exact Nat.le_refl _
theorem cG.caps {T : sT} {w : cW} {A : cA} {m e : Nat} {σ : mmS} {i : Nat} (h : cG T w A m e σ i) : fN σ 315 ≤ 15300 ∧ fN σ 324 ≤ 4000 ∧ fN σ 336 ≤ 2000 ∧ fN σ 325 ≤ 126500 := by
  obtain ⟨h1, h2, h3, h4, h5, h6, h7, h8, h9, h10, h11, h12, c1, c2, c3, c4, n, c5, c6⟩ := h
  have he : t_e T < 1262 := h1.1.2.2.2.2.2.2.2.1
  omega
theorem cG.NS {T : sT} {w : cW} {A : cA} {m e : Nat} {σ u : mmS} {i : Nat} {a x y z : Int32} (h : cG T w A m e σ i) (hm : 1 ≤ m) (n : NS σ a x y z u) (h35 : (a == 35) = false ∨ nid x σ) : cG T w A (m - 1) e u i := by
  have hI := h.1.NS n (by have := h.caps; omega) h35
  obtain ⟨h1, h2, h3, h4, h5, h6, h7, h8, ⟨u1, u2, u3⟩, h10, h11, h12, c1, c2, c3, c4, c5⟩ := h
  obtain ⟨n1, n2, n3, n4, n5, n6, n7, n8, n9, n10, n11⟩ := n
  have s (k : Nat) (k1 : 326 ≤ k) : sam σ u k := n7 k ⟨Or.inr (by omega), by omega⟩
  have f (j : Nat) (hj : j ≠ 315) := n3 j hj
  have fe (j : Nat) (hj : j ≠ 315) := fN_eq (n3 j hj)
  refine ⟨hI, (f 303 (by decide)).trans h2, by rw [f 311 (by decide)]; exact h3, by rw [f 312 (by decide)]; exact h4, h5.of (fun k k1 k2 => f k (by omega)) (by rw [(s 337 (by decide)).1]) (s 361 (by decide)).1 (s 362 (by decide)).1, by rw [f 346 (by decide), f 347 (by decide)]; exact h6, h7.of (f 324 (by decide)) (f 325 (by decide)) (f 346 (by decide)) (fun k k1 _ => ⟨(s k k1).1, (s k k1).2.1⟩),
    by rw [f 313 (by decide)]; exact h8, by rw [f 360 (by decide), (s 363 (by decide)).1]; exact ⟨u1, u2, u3⟩, by rw [fe 336 (by decide), cntF_of (σ := σ) (fun k _ => by rw [(s 337 (by decide)).1])]; exact h10, ⟨(f 359 (by decide)).trans h11.1, by have := h11.2; omega⟩, by rw [f 358 (by decide)]; exact h12, ?_⟩
  unfold cC
  rw [fe 324 (by decide), fe 336 (by decide), fe 325 (by decide), f 371 (by decide)]
  exact ⟨by omega, by omega, by omega, c4, c5⟩
theorem cB.NS {T : sT} {g : Nat} {σ u : mmS} {a x y z : Int32} (h : cB T (g + 1) σ) (n : NS σ a x y z u) (h35 : (a == 35) = false ∨ nid x σ) : cB T g u := by
  have hI : cI T u := by
    obtain ⟨h1, h2, ⟨q, q1, q2, q3, q4, -⟩, -⟩ := h
    exact h1.NS n (by omega) h35
  obtain ⟨h1, h2, ⟨q, q1, q2, q3, q4, h4, h5, h6⟩, nn, u1, u2⟩ := h
  obtain ⟨n1, n2, n3, n4, n5, n6, n7, n8, n9, n10, n11⟩ := n
  have f (j : Nat) (hj : j ≠ 315) := n3 j hj
  have fe (j : Nat) (hj : j ≠ 315) := fN_eq (n3 j hj)
  exact ⟨hI, (f 303 (by decide)).trans h2, ⟨q, (f 311 (by decide)).trans q1, q2, by omega, by omega, by rw [fe 324 (by decide)]; omega, by rw [fe 336 (by decide)]; omega, by rw [fe 325 (by decide)]; omega⟩, nn, (f 360 (by decide)).trans u1, u2⟩
section WALK
variable {β γ : Type} {T : sT} {Sh : β → Nat → Int32 → mmS → Prop} {N : Int32 → mmS → Prop} {g : Nat} {w0 : cW} {m0 e0 : Nat} {θ : cTh} {l0 : Nat} {Z : Int32 → mmS → Prop} {b : Bool} {h : Nat} {w : cW} {A : cA} {m e : Nat} {r r' : sR β} {σ : mmS} {i : Nat}
variable {d a : Nat} {Q : mmQ}
abbrev SS {β : Type} (T : sT) (Sh : β → Nat → Int32 → mmS → Prop) (N : Int32 → mmS → Prop) (g : Nat) (w0 : cW) (m0 e0 : Nat) (θ : cTh) (l0 : Nat) (Z : Int32 → mmS → Prop) (b : Bool) (h : Nat) (w : cW) (A : cA) (m e : Nat) (r : sR β) (σ : mmS) (i : Nat) : Prop := St T Sh N g w0 m0 e0 θ l0 Z b h w A m e r σ i
theorem St.ci (st : St T Sh N g w0 m0 e0 θ l0 Z b h w A m e r σ i) : cI T σ := by
  rcases st with ⟨q, -⟩ | ⟨-, q, -⟩
  · exact q.1
  · exact q.1
theorem St.p (st : St T Sh N g w0 m0 e0 θ l0 Z b h w A m e r σ i) : ∃ q, mm_f σ 311 = nI q ∧ q ≤ 1332 ∧ (GD σ → q = i) := by
  rcases st with ⟨q, -⟩ | ⟨-, q, -⟩
  · have := q.1.1.2.2.2.2.2.2.2.1
    exact ⟨i, q.2.2.1.1, by have := q.2.2.1.2; omega, fun _ => rfl⟩
  · obtain ⟨k, k1, k2, k3, k4⟩ := q.2.2.1
    exact ⟨k, k1, by omega, fun z => absurd z q.no⟩
theorem St.rw (st : St T Sh N g w0 m0 e0 θ l0 Z b h w A m e r σ i) (hr : GD σ → r = r') : St T Sh N g w0 m0 e0 θ l0 Z b h w A m e r' σ i := by
  rcases st with ⟨q1, q2, q3, q4⟩ | q
  · rw [hr q1.2.1] at q4
    exact Or.inl ⟨q1, q2, q3, q4⟩
  · exact Or.inr q
theorem St.f {c : Bool} {r1 r2 : sR β} (st : St T Sh N g w0 m0 e0 θ l0 Z b h w A m e (bif c then r1 else r2) σ i) (hc : GD σ → c = false) : St T Sh N g w0 m0 e0 θ l0 Z b h w A m e r2 σ i := st.rw fun q => by rw [hc q]; rfl
theorem St.t {c : Bool} {r1 r2 : sR β} (st : St T Sh N g w0 m0 e0 θ l0 Z b h w A m e (bif c then r1 else r2) σ i) (hc : GD σ → c = true) : St T Sh N g w0 m0 e0 θ l0 Z b h w A m e r1 σ i := st.rw fun q => by rw [hc q]; rfl
/-- what returns -/
theorem St.ret {v : β} {n : Int32} {j : Nat} (st : St T Sh N g w0 m0 e0 θ l0 Z b h w A m e (s_r v j) σ i) (hw : GD σ → w = w0) (hj : GD σ → j = i) (hl : GD σ → l0 ≤ i) (q : Nat) (hm : GD σ → m0 + q ≤ m) (he : GD σ → e0 ≤ e) (hs : GD σ → Sh v q n σ) (hn : ¬ GD σ → N n σ) : Z n σ := by
  rcases st with ⟨q1, q2, q3, q4⟩ | ⟨-, q2, q3⟩
  · have gd := q1.2.1
    rw [hw gd] at q1
    refine q4 n σ ⟨Fr.rfl', Or.inl ⟨v, i, A, q, ?_, q1.mono (hm gd) (he gd), hs gd, hl gd⟩⟩
    rw [run_r, hj gd]
  · exact q3 n σ Fr.rfl' (q2.mono (by omega)) (hn q2.no)
/-- a bad end -/
theorem St.bad {n : Int32} (st : St T Sh N g w0 m0 e0 θ l0 Z b h w A m e r σ i) (hg : ¬ GD σ) (hn : N n σ) : Z n σ := by
  rcases st with ⟨q1, -⟩ | ⟨-, q2, q3⟩
  · exact absurd q1.2.1 hg
  · exact q3 n σ Fr.rfl' (q2.mono (by omega)) hn
/-- going on in another state -/
theorem St.go {u : mmS} {b' : Bool} {h' m' e' i' : Nat} {w' : cW} {A' : cA} {r2 : sR γ} {Sh2 : γ → Nat → Int32 → mmS → Prop} (st : St T Sh N g w0 m0 e0 θ l0 Z b h w A m e r σ i) (hf : Fr (th σ) σ u)
    (hg : cG T w A m e σ i → (cG T w' A' m' e' u i' ∧ th u = th σ ∧ h' ≤ h ∧ ∀ v j B, run (w_in w0) A' r' = some (v, j, B) → run (w_in w0) A r = some (v, j, B)) ∧ (run (w_in w0) A' r' = none → run (w_in w0) A r = none)) (hb : cB T (g + h) σ → b = true → b' = true ∧ cB T (g + h') u) : St T Sh N g w0 m0 e0 θ l0 Z b' h' w' A' m' e' r' u i' := by
  rcases st with ⟨q1, q2, q3, q4⟩ | ⟨q1, q2, q3⟩
  · obtain ⟨⟨g1, g2, g3, g4⟩, g5⟩ := hg q1
    refine Or.inl ⟨g1, by rw [g2]; exact q2, by omega, fun n v rs => q4 n v ?_⟩
    obtain ⟨r1, rs⟩ := rs
    refine ⟨(hf.mono (fun _ => q2)).trans r1, ?_⟩
    rcases rs with ⟨x, j, B, q, x1, x2, x3, x4⟩ | ⟨x1 | x1, x2, x3⟩
    · exact Or.inl ⟨x, j, B, q, g4 _ _ _ x1, x2, x3, x4⟩
    · exact Or.inr ⟨Or.inl (g5 x1), x2, x3⟩
    · exact absurd g1.2.1 x1
  · obtain ⟨b1, b2⟩ := hb q2 q1
    exact Or.inr ⟨b1, b2, fun n v f c hn => q3 n v ((hf.mono (fun z => absurd z q2.no)).trans f) c hn⟩
/-- a token on -/
theorem St.adv (st : St T Sh N g w0 m0 e0 θ l0 Z b h w A m e r σ i) (z : NZ T σ) : St T Sh N g w0 m0 e0 θ l0 Z b h w A (m + 12) e r (mm_setf σ 311 (mm_f σ 311 + 1)) (i + 1) := by
  refine st.go (r' := r) (Sh2 := Sh) (r2 := r) (Fr.setf rfl (by decide) (by decide) (by decide) (by decide) (by decide) (by decide)) (fun q => ⟨⟨q.adv z, th_setf (by decide) (by decide) (by decide) (by decide), Nat.le_refl _, fun _ _ _ x => x⟩, id⟩) (fun q hb => ⟨hb, (q.adv z).mono (Nat.le_succ _)⟩)
theorem Fr_adv {σ : mmS} {x : Int32} : Fr (th σ) σ (mm_setf σ 311 x) := Fr.setf rfl (by decide) (by decide) (by decide) (by decide) (by decide) (by decide)
theorem NZ_sg {T : sT} {σ : mmS} {q : Nat} {s : Int32} (t : cI T σ) (hp : mm_f σ 311 = nI q) (h : t_sg T q s = true) : NZ T σ := by
  have k : T.1 q = 3 := by
    unfold t_sg at h
    rw [Bool.and_eq_true] at h
    exact eq_of_beq h.1
  refine ⟨q, hp, ?_, by rw [k]; decide⟩
  rcases Nat.lt_or_ge q 1262 with c | c
  · exact c
  · have := t.1.2.2.2.2.2.2.2.2.2.2 q c
    rw [this] at k
    exact absurd k (by decide)
theorem NZ_wd {T : sT} {σ : mmS} {q : Nat} {s : Int32} (t : cI T σ) (hp : mm_f σ 311 = nI q) (h : t_wd T q s = true) : NZ T σ := by
  have k : T.1 q = 1 := by
    unfold t_wd at h
    rw [Bool.and_eq_true] at h
    exact eq_of_beq h.1
  refine ⟨q, hp, ?_, by rw [k]; decide⟩
  rcases Nat.lt_or_ge q 1262 with c | c
  · exact c
  · have := t.1.2.2.2.2.2.2.2.2.2.2 q c
    rw [this] at k
    exact absurd k (by decide)
/-- isSign, isWord: with a branch behind them -/
theorem St.sign {s : Int32} {Ak Bk : mmS → Prop} (st : St T Sh N g w0 m0 e0 θ l0 Z b h w A m e r σ i) (hd : 1 ≤ d) (k0 : (GD σ → t_sg T i s = false) → Ak σ) (k1 : (GD σ → t_sg T i s = true) → NZ T σ → Bk σ) : mm_I (MC d) Q 3023 [.inr (.inr (3, a)), .inl s] σ (fun x u => mm_br (x = 0) (Ak u) (Bk u)) := by
  obtain ⟨q, q1, q2, q3⟩ := st.p
  refine c_isSign hd st.ci.1 q1 (by omega) (br_0 (fun z => k0 fun gd => by rw [← q3 gd]; exact z) (fun z => k1 (fun gd => by rw [← q3 gd]; exact z) (NZ_sg st.ci q1 z)))
theorem St.word {s : Int32} {Ak Bk : mmS → Prop} (st : St T Sh N g w0 m0 e0 θ l0 Z b h w A m e r σ i) (hd : 1 ≤ d) (k0 : (GD σ → t_wd T i s = false) → Ak σ) (k1 : (GD σ → t_wd T i s = true) → NZ T σ → Bk σ) : mm_I (MC d) Q 3018 [.inr (.inr (3, a)), .inl s] σ (fun x u => mm_br (x = 0) (Ak u) (Bk u)) := by
  obtain ⟨q, q1, q2, q3⟩ := st.p
  refine c_isWord hd st.ci.1 q1 (by omega) (br_0 (fun z => k0 fun gd => by rw [← q3 gd]; exact z) (fun z => k1 (fun gd => by rw [← q3 gd]; exact z) (NZ_wd st.ci q1 z)))
/-- eat, eatWord -/
theorem St.eat {s : Int32} {Ak Bk : mmS → Prop} (st : St T Sh N g w0 m0 e0 θ l0 Z b h w A m e r σ i) (hd : 2 ≤ d) (k0 : (GD σ → t_sg T i s = false) → Ak σ) (k1 : ∀ u, (GD σ → t_sg T i s = true) → St T Sh N g w0 m0 e0 θ l0 Z b h w A (m + 12) e r u (i + 1) → Fr (th σ) σ u → Bk u) : mm_I (MC d) Q 3022 [.inr (.inr (3, a)), .inl s] σ (fun x u => mm_br (x = 0) (Ak u) (Bk u)) := by
  obtain ⟨q, q1, q2, q3⟩ := st.p
  refine c_eat hd st.ci.1 q1 (by omega) (fun z => br_y rfl (k0 fun gd => by rw [← q3 gd]; exact z)) (fun z => br_n (by decide) ?_)
  have := st.adv (NZ_sg st.ci q1 z)
  rw [q1, ← nI_succ] at this
  exact k1 _ (fun gd => by rw [← q3 gd]; exact z) this Fr_adv
theorem St.eatWord {s : Int32} {Ak Bk : mmS → Prop} (st : St T Sh N g w0 m0 e0 θ l0 Z b h w A m e r σ i) (hd : 2 ≤ d) (k0 : (GD σ → t_wd T i s = false) → Ak σ) (k1 : ∀ u, (GD σ → t_wd T i s = true) → St T Sh N g w0 m0 e0 θ l0 Z b h w A (m + 12) e r u (i + 1) → Fr (th σ) σ u → Bk u) : mm_I (MC d) Q 3035 [.inr (.inr (3, a)), .inl s] σ (fun x u => mm_br (x = 0) (Ak u) (Bk u)) := by
  obtain ⟨q, q1, q2, q3⟩ := st.p
  refine c_eatWord hd st.ci.1 q1 (by omega) (fun z => br_y rfl (k0 fun gd => by rw [← q3 gd]; exact z)) (fun z => br_n (by decide) ?_)
  have := st.adv (NZ_wd st.ci q1 z)
  rw [q1, ← nI_succ] at this
  exact k1 _ (fun gd => by rw [← q3 gd]; exact z) this Fr_adv
theorem GD_fl {T : sT} {σ : mmS} : ¬ GD (fl T σ) := by
  unfold GD
  rw [fl_flags.1]
  decide
/-- fail(), where nothing can be read -/
theorem St.fl (st : St T Sh N g w0 m0 e0 θ l0 Z b h w A m e r σ i) (hr : GD σ → r = none) (r' : sR β) (w' : cW) (A' : cA) (m' e' i' : Nat) : St T Sh N g w0 m0 e0 θ l0 Z true h w' A' m' e' r' (fl T σ) i' := by
  rcases st with ⟨q1, q2, q3, q4⟩ | ⟨q1, q2, q3⟩
  · refine Or.inr ⟨rfl, q1.bad q3, fun n u f c hn => q4 n u ⟨Fr_fl.trans f, Or.inr ⟨Or.inl ?_, c, hn⟩⟩⟩
    rw [hr q1.2.1]
    exact run_none
  · exact Or.inr ⟨rfl, q2.again, fun n u f c hn => q3 n u (Fr_fl.trans f) c hn⟩
theorem St.fail {C : Int32 → mmS → Prop} (st : St T Sh N g w0 m0 e0 θ l0 Z b h w A m e r σ i) (hd : 1 ≤ d) (hr : GD σ → r = none) (k : ∀ u, ¬ GD u → St T Sh N g w0 m0 e0 θ l0 Z true h w A m e r u i → Fr (th σ) σ u → C 0 u) : mm_I (MC d) Q 3025 [.inr (.inr (3, a))] σ C :=
  c_fail hd st.ci.1 (k _ GD_fl (st.fl hr _ _ _ _ _ _) Fr_fl)
/-- need, needWord -/
theorem St.need {s : Int32} {f : Unit → Nat → sR β} {V : mmS → Prop} (st : St T Sh N g w0 m0 e0 θ l0 Z b h w A m e (s_b (s_nd T s i) f) σ i) (hd : 3 ≤ d) (k : ∀ u, St T Sh N g w0 m0 e0 θ l0 Z true h w A (m + 12) e (f () (i + 1)) u (i + 1) → Fr (th σ) σ u → (GD u → t_sg T i s = true) → V u) : mm_V (MC d) Q 3036 [.inr (.inr (3, a)), .inl s] σ V := by
  obtain ⟨q, q1, q2, q3⟩ := st.p
  refine c_need hd st.ci.1 q1 (by omega) (fun z => k _ (st.fl (fun gd => ?_) _ _ _ _ _ _) Fr_fl (fun q => absurd q GD_fl)) (fun z => ?_)
  · rw [s_nd, ← q3 gd, z]; rfl
  · have := st.adv (NZ_sg st.ci q1 z)
    rw [q1, ← nI_succ] at this
    have e := this.rw (r' := f () (i + 1)) (fun gd => ?_)
    · refine k _ ?_ Fr_adv (fun gd => by rw [← q3 gd]; exact z)
      rcases e with e | ⟨e1, e2⟩
      · exact Or.inl e
      · exact Or.inr ⟨rfl, e2⟩
    · have gd2 : GD σ := gd
      rw [s_nd, ← q3 gd2, z]
      show s_b (s_r () (q + 1)) f = _
      unfold s_b s_r
      simp only
      cases f () (q + 1) with
      | none => rfl
      | some x => obtain ⟨x1, x2, x3⟩ := x; obtain ⟨a1, a2, a3, a4, a5, a6⟩ := x3; simp [sA_m, sA0]
end WALK
