/-! PHASE 3. parameters() -/
/-- a function's row while its parameters are read: n so far, the last one is v3 -/
def pInv (fk n : Nat) (si : Bool) (v3 : Int32) (u : mmS) : Prop := (mm_a u 338 fk &&& 4 = 0 ↔ si = false) ∧ ((n = 0 ∧ v3 = 0 ∧ mm_a u 342 fk = 0) ∨ (1 ≤ n ∧ ∃ k t, mm_a u 342 fk = nI k ∧ 1 ≤ k ∧ k < fN u 315 ∧ mm_a u 316 k = 52 ∧ v3 = nI t ∧ 1 ≤ t ∧ t < fN u 315 ∧ mm_a u 322 t = 0 ∧ (n = 1 → t = k) ∧ (2 ≤ n → t ≠ k ∧ ¬ mm_a u 322 k = 0)))
/-- and when all are read -/
def parF (fk : Nat) (b : Bool × Nat × Bool) (u : mmS) : Prop := (mm_a u 338 fk &&& 4 = 0 ↔ b.1 = false) ∧ (mm_a u 342 fk = 0 ↔ b.2.1 = 0) ∧ (b.2.1 ≠ 0 → ∃ k, mm_a u 342 fk = nI k ∧ 1 ≤ k ∧ k < fN u 315 ∧ (mm_a u 322 k = 0 ↔ b.2.1 = 1) ∧ (b.2.1 = 1 → (mm_a u 316 k = 52 ↔ b.2.2 = false)))
theorem pInv.mono {fk n : Nat} {si : Bool} {v3 : Int32} {u u' : mmS} (h : pInv fk n si v3 u) (hf : fk < fN u 336) (f : Fr (th u) u u') (gd : GD u') : pInv fk n si v3 u' := by
  obtain ⟨h1, h2⟩ := h
  have fg := f.2.2.2.2.2.2.2 gd
  have fl := fg.2.2.1 fk hf
  have nd := fg.2.1
  have fn := f.nn
  refine ⟨by rw [fl.1]; exact h1, ?_⟩
  rw [fl.2]
  rcases h2 with h2 | ⟨h2, k, t, k1, k2, k3, k4, t1, t2, t3, t4, t5, t6⟩
  · exact Or.inl h2
  · exact Or.inr ⟨h2, k, t, k1, k2, by omega, by rw [nd 316 (by decide) (by decide) k k2 k3]; exact k4, t1, t2, by omega, by rw [nd 322 (by decide) (by decide) t t2 t3]; exact t4, t5, by rw [nd 322 (by decide) (by decide) k k2 k3]; exact t6⟩
theorem parF.mono {fk : Nat} {b : Bool × Nat × Bool} {u u' : mmS} (h : parF fk b u) (hf : fk < fN u 336) (f : Fr (th u) u u') (gd : GD u') : parF fk b u' := by
  obtain ⟨h1, h2, h3⟩ := h
  have fg := f.2.2.2.2.2.2.2 gd
  have fl := fg.2.2.1 fk hf
  have nd := fg.2.1
  have fn := f.nn
  refine ⟨by rw [fl.1]; exact h1, by rw [fl.2]; exact h2, fun q => ?_⟩
  obtain ⟨k, k1, k2, k3, k4, k5⟩ := h3 q
  exact ⟨k, by rw [fl.2]; exact k1, k2, by omega, by rw [nd 322 (by decide) (by decide) k k2 k3]; exact k4, by rw [nd 316 (by decide) (by decide) k k2 k3]; exact k5⟩
theorem pInv.fin {fk n : Nat} {si : Bool} {v3 : Int32} {u : mmS} (h : pInv fk n si v3 u) (hb : fN u 315 ≤ 85000) : parF fk (si, n, false) u := by
  obtain ⟨h1, h2⟩ := h
  rcases h2 with ⟨rfl, h2, h3⟩ | ⟨h2, k, t, k1, k2, k3, k4, t1, t2, t3, t4, t5, t6⟩
  · exact ⟨h1, ⟨fun _ => rfl, fun _ => h3⟩, fun q => absurd rfl q⟩
  · refine ⟨h1, ⟨fun q => ?_, fun q => ?_⟩, fun _ => ⟨k, k1, k2, k3, ⟨fun q => ?_, fun q => ?_⟩, fun _ => ⟨fun _ => rfl, fun _ => k4⟩⟩⟩
    · exact absurd (k1.symm.trans q) (nI_ne0 k2 (by omega))
    · have q : n = 0 := q
      omega
    · show n = 1
      have : n = 1 ∨ 2 ≤ n := by omega
      rcases this with z | z
      · exact z
      · exact absurd q (t6 z).2
    · have q : n = 1 := q
      rw [← t5 q]; exact t4
section PAR
variable {β : Type} {T : sT} {Sh : β → Nat → Int32 → mmS → Prop} {N : Int32 → mmS → Prop} {g : Nat} {w0 : cW} {m0 e0 : Nat} {θ : cTh} {l0 : Nat} {Z : Int32 → mmS → Prop} {b : Bool} {h : Nat} {w : cW} {A : cA} {m e : Nat} {r r' : sR β} {σ σ0 : mmS} {i : Nat}
variable {ν a d : Nat} {Q : mmQ}
theorem Fr.fun_ {s f : Nat} {x : Int32} (hs : s = 338 ∨ s = 342) (hf : GD σ → θ.2.1 ≤ f) : Fr θ σ (mm_seta σ s f x) := by
  have n (k : Nat) (hk : k ≠ s) : mm_a (mm_seta σ s f x) k = mm_a σ k := a_seta_n hk
  have ns (k : Nat) (hk : k < 338 ∨ 342 < k) : mm_a (mm_seta σ s f x) k = mm_a σ k := n k (by omega)
  refine ⟨id, fun _ _ => rfl, ⟨rfl, gro.of (ns 328 (by decide)) (ns 332 (by decide)) (ns 334 (by decide))⟩, fun k _ k2 => ⟨n k (fun e => ?_), rfl, rfl, rfl⟩, ⟨Nat.le_refl _, Nat.le_refl _, Nat.le_refl _, Nat.le_refl _⟩, fun t _ => ⟨by rw [ns 326 (by decide)], by rw [ns 327 (by decide)]⟩, fun t _ => ⟨by rw [ns 337 (by decide)], by rw [n 339 (by omega)]⟩, fun gd => ⟨Nat.le_refl _, fun k k1 k2 i _ hi => by rw [ns k (by omega)], fun j hj => ⟨by rw [a_seta_i (by have := hf gd; omega)], by rw [a_seta_i (by have := hf gd; omega)]⟩, fun k _ => ⟨by rw [ns 369 (by decide)], by rw [ns 370 (by decide)]⟩, fun k _ => ⟨by rw [ns 361 (by decide)], by rw [ns 362 (by decide)]⟩⟩⟩
  rcases hs with hs | hs <;> (rw [e, hs] at k2; exact absurd k2 (by decide))
/-- a function's first parameter -/
theorem cI.set42 {f : Nat} {x : Int32} (h : cI T σ) (hx : nid x σ) : cI T (mm_seta σ 342 f x) := by
  obtain ⟨t, c, ⟨R, g⟩, p, ⟨k1, ⟨k2, k4⟩, k3⟩, s, l⟩ := h
  have n (k : Nat) (hk : k ≠ 342) : mm_a (mm_seta σ 342 f x) k = mm_a σ k := a_seta_n hk
  refine ⟨Tk_sam t (fun k hk => by rcases tkS_c hk with rfl | rfl | rfl | rfl | rfl | rfl | rfl <;> exact ⟨n _ (by decide), rfl, rfl, rfl⟩) rfl rfl, c.of rfl (fun _ _ _ => rfl) (fun i _ q => by rw [n 323 (by decide)]; exact q), ⟨R, g.of rfl rfl (fun k k1 _ => ⟨n k (by omega), rfl⟩)⟩, ⟨upH.of p.1 rfl (n 326 (by decide)) (n 327 (by decide)) rfl (n 369 (by decide)) (Nat.le_refl _), p.2.of rfl (n 316 (by decide)) (n 317 (by decide))⟩, ⟨k1.of rfl (fun _ _ _ => rfl) (by decide), ⟨k2, fun j hj => ?_⟩, by rw [n 337 (by decide), n 339 (by decide)]; exact k3⟩, s, l⟩
  by_cases c : j = f
  · subst c
    obtain ⟨k, y1, y2⟩ := hx
    exact ⟨k, a_seta_s.trans y1, y2⟩
  · rw [a_seta_i c]
    exact k4 j hj
theorem cI.fun_ {s f : Nat} {x : Int32} (h : cI T σ) (hs : s = 338 ∨ (s = 342 ∧ nid x σ)) : cI T (mm_seta σ s f x) := by
  rcases hs with rfl | ⟨rfl, hx⟩
  · exact h.seta rfl
  · exact h.set42 hx
theorem cG.fun_ {s f : Nat} {x : Int32} (h : cG T w A m e σ i) (hs : s = 338 ∨ (s = 342 ∧ nid x σ)) : cG T w A m e (mm_seta σ s f x) i := by
  have hI : cI T (mm_seta σ s f x) := h.1.fun_ hs
  have n (k : Nat) (hk : k < 338 ∨ 342 < k) : mm_a (mm_seta σ s f x) k = mm_a σ k := a_seta_n (by omega)
  obtain ⟨h1, h2, h3, h4, h5, h6, h7, h8, ⟨u1, u2, u3⟩, h10, h11, h12, hc⟩ := h
  exact ⟨hI, h2, h3, h4, h5.of (fun _ _ _ => rfl) (by rw [n 337 (by decide)]) (n 361 (by decide)) (n 362 (by decide)), h6, h7.of rfl rfl rfl (fun k k1 k2 => ⟨n k (by omega), rfl⟩), h8, ⟨u1, u2, by rw [n 363 (by decide)]; exact u3⟩, (cntF_of (fun k _ => by rw [n 337 (by decide)])).trans h10, h11, h12, hc⟩
theorem St.fun_ {s f : Nat} {x : Int32} (st : St T Sh N g w0 m0 e0 θ l0 Z b h w A m e r σ i) (hs : s = 338 ∨ (s = 342 ∧ nid x σ)) (hf : GD σ → θ.2.1 ≤ f) : St T Sh N g w0 m0 e0 θ l0 Z b h w A m e r (mm_seta σ s f x) i :=
  st.same (Fr.fun_ (by rcases hs with hs | hs; exact Or.inl hs; exact Or.inr hs.1) hf) (fun _ => tle.rfl') (fun gd => st.tl.2 gd) (fun q => q.fun_ hs) (fun q => ⟨q.1.fun_ hs, q.2⟩)
/-- fFlags[f] is changed -/
theorem St.flg {fk : Nat} {F : Int32 → Int32} {K : mmS → Prop} (st : St T Sh N g w0 m0 e0 θ l0 Z b h w A m e r σ i) (hf : fk < fN σ 336) (ho : GD σ → θ.2.1 ≤ fk) (k : St T Sh N g w0 m0 e0 θ l0 Z b h w A m e r (mm_seta σ 338 fk (F (mm_a σ 338 fk))) i → Fr θ σ (mm_seta σ 338 fk (F (mm_a σ 338 fk))) → K (mm_seta σ 338 fk (F (mm_a σ 338 fk)))) : mm_L σ 338 (nI fk) (fun x => mm_S σ 338 (nI fk) (F x) K) :=
  rd_fl st.ci hf (wr_fn st.ci (by decide) hf (k (st.fun_ (Or.inl rfl) ho) (Fr.fun_ (Or.inl rfl) ho)))
theorem an_5 (x : Int32) : (x &&& -5) &&& 4 = 0 := by
  rw [Int32.and_assoc]
  have : (-5 : Int32) &&& 4 = 0 := by decide
  rw [this, Int32.and_zero]
theorem pInv.flag0 {fk n : Nat} {si : Bool} {v3 x : Int32} {u : mmS} (h : pInv fk n si v3 u) : pInv fk n false v3 (mm_seta u 338 fk (x &&& -5)) := by
  obtain ⟨h1, h2⟩ := h
  have n2 : mm_a (mm_seta u 338 fk (x &&& -5)) 342 = mm_a u 342 := a_seta_n (by decide)
  have n6 : mm_a (mm_seta u 338 fk (x &&& -5)) 316 = mm_a u 316 := a_seta_n (by decide)
  have n3 : mm_a (mm_seta u 338 fk (x &&& -5)) 322 = mm_a u 322 := a_seta_n (by decide)
  refine ⟨⟨fun _ => rfl, fun _ => by rw [a_seta_s]; exact an_5 x⟩, ?_⟩
  rw [n2, n6, n3]
  exact h2
theorem pInv.flag1 {fk n : Nat} {si : Bool} {v3 : Int32} {u : mmS} (h : pInv fk n si v3 u) : pInv fk n si v3 (mm_seta u 338 fk (mm_a u 338 fk ||| 256)) := by
  obtain ⟨h1, h2⟩ := h
  have n2 : mm_a (mm_seta u 338 fk (mm_a u 338 fk ||| 256)) 342 = mm_a u 342 := a_seta_n (by decide)
  have n6 : mm_a (mm_seta u 338 fk (mm_a u 338 fk ||| 256)) 316 = mm_a u 316 := a_seta_n (by decide)
  have n3 : mm_a (mm_seta u 338 fk (mm_a u 338 fk ||| 256)) 322 = mm_a u 322 := a_seta_n (by decide)
  refine ⟨by rw [a_seta_s, b_or4 (by decide)]; exact h1, ?_⟩
  rw [n2, n6, n3]
  exact h2
theorem pInv.len {fk n : Nat} {si : Bool} {v3 x : Int32} {u : mmS} {s j : Nat} (h : pInv fk n si v3 u) (hs : frS s) : pInv fk n si v3 (mm_seta u s j x) := by
  obtain ⟨h1, h2⟩ := h
  have q (k : Nat) (hk : ¬ frS k) : mm_a (mm_seta u s j x) k = mm_a u k := a_seta_n (fun e => hk (by rw [e]; exact hs))
  have q8 : ¬ frS 338 := by unfold frS; omega
  have q2 : ¬ frS 342 := by unfold frS; omega
  have q6 : ¬ frS 316 := by unfold frS; omega
  have q3 : ¬ frS 322 := by unfold frS; omega
  refine ⟨by rw [q 338 q8]; exact h1, ?_⟩
  rw [q 342 q2, q 316 q6, q 322 q3]
  exact h2
/-- one more: an element (c = true) or a rest -/
theorem pInv.add {fk n kx : Nat} {si c : Bool} {v3 : Int32} {u : mmS} (h : pInv fk n si v3 u) (hb : fN u 315 ≤ 85000) (hx : 1 ≤ kx ∧ kx < fN u 315) (h0 : mm_a u 322 kx = 0) (hk : ∀ t, (v3 = nI t ∨ mm_a u 342 fk = nI t) → t < 2 ^ 31 → t < kx) (hw : mm_a u 316 kx = if c then 52 else 53) :
    (v3 = 0 → (c = true → pInv fk (n + 1) si (nI kx) (mm_seta u 342 fk (nI kx))) ∧ (c = false → parF fk (si, n + 1, true) (mm_seta u 342 fk (nI kx)))) ∧
    (¬ v3 = 0 → ∀ t, v3 = nI t → t < 2 ^ 31 → (c = true → pInv fk (n + 1) si (nI kx) (mm_seta u 322 t (nI kx))) ∧ (c = false → parF fk (si, n + 1, true) (mm_seta u 322 t (nI kx)))) := by
  obtain ⟨h1, h2⟩ := h
  refine ⟨fun z => ?_, fun z t ht ht2 => ?_⟩
  · have hn : n = 0 := by
      rcases h2 with ⟨q, -⟩ | ⟨q, k, t, k1, k2, k3, k4, t1, t2, t3, -⟩
      · exact q
      · exact absurd (t1.symm.trans z) (nI_ne0 t2 (by omega))
    subst hn
    have n8 : mm_a (mm_seta u 342 fk (nI kx)) 338 = mm_a u 338 := a_seta_n (by decide)
    have n6 : mm_a (mm_seta u 342 fk (nI kx)) 316 = mm_a u 316 := a_seta_n (by decide)
    have n3 : mm_a (mm_seta u 342 fk (nI kx)) 322 = mm_a u 322 := a_seta_n (by decide)
    refine ⟨fun hc => ⟨by rw [n8]; exact h1, Or.inr ⟨by omega, kx, kx, a_seta_s, hx.1, hx.2, by rw [n6, hw, hc]; rfl, rfl, hx.1, hx.2, by rw [n3]; exact h0, fun _ => rfl, fun q => absurd q (by omega)⟩⟩, fun hc => ⟨by rw [n8]; exact h1, ⟨fun q => ?_, fun q => absurd q (by show ¬ 0 + 1 = 0; omega)⟩, fun _ => ⟨kx, a_seta_s, hx.1, hx.2, ⟨fun _ => rfl, fun _ => by rw [n3]; exact h0⟩, fun _ => ⟨fun q => ?_, fun q => nomatch q⟩⟩⟩⟩
    · rw [a_seta_s] at q
      exact absurd q (nI_ne0 hx.1 (by omega))
    · rw [n6, hw, hc] at q
      exact absurd q (by decide)
  · rcases h2 with ⟨q, q2, -⟩ | ⟨q, k, t', k1, k2, k3, k4, t1, t2, t3, t4, t5, t6⟩
    · exact absurd q2 z
    · have : t = t' := nI_inj ht2 (by omega) (ht.symm.trans t1)
      subst this
      have n8 : mm_a (mm_seta u 322 t (nI kx)) 338 = mm_a u 338 := a_seta_n (by decide)
      have n2 : mm_a (mm_seta u 322 t (nI kx)) 342 = mm_a u 342 := a_seta_n (by decide)
      have n6 : mm_a (mm_seta u 322 t (nI kx)) 316 = mm_a u 316 := a_seta_n (by decide)
      have hkt : t < kx := hk t (Or.inl t1) (by omega)
      have hkk : k < kx := hk k (Or.inr k1) (by omega)
      have k0 : ¬ mm_a (mm_seta u 322 t (nI kx)) 322 k = 0 := by
        by_cases c1 : k = t
        · rw [c1, a_seta_s]
          exact nI_ne0 hx.1 (by omega)
        · rw [a_seta_i c1]
          have : n = 1 ∨ 2 ≤ n := by omega
          rcases this with z1 | z1
          · exact absurd (t5 z1).symm c1
          · exact (t6 z1).2
      refine ⟨fun hc => ⟨by rw [n8]; exact h1, Or.inr ⟨by omega, k, kx, by rw [n2]; exact k1, k2, k3, by rw [n6]; exact k4, rfl, hx.1, hx.2, by rw [a_seta_i (by omega)]; exact h0, fun q => absurd q (by omega), fun _ => ⟨by omega, k0⟩⟩⟩, fun hc => ⟨by rw [n8]; exact h1, ⟨fun q => ?_, fun q => absurd q (by show ¬ n + 1 = 0; omega)⟩, fun _ => ⟨k, by rw [n2]; exact k1, k2, k3, ⟨fun q => absurd q k0, fun q => absurd q (by show ¬ n + 1 = 1; omega)⟩, fun q => absurd q (by show ¬ n + 1 = 1; omega)⟩⟩⟩
      rw [n2, k1] at q
      exact absurd q (nI_ne0 k2 (by omega))
end PAR
