/-! PHASE 3. declare() as a rule, and the names that are bound by it -/
theorem cG.DV {T : sT} {w : cW} {A : cA} {m e i b : Nat} {σ u : mmS} {R R2 : Nat → List Nat} {L2 : hC} (h : cG T w A m (e + 1) σ i) (d : DV T σ R b (hl A.1) u R2) (hf : mm_f u 303 = mm_f σ 303 ∧ mm_f u 311 = mm_f σ 311) (hm : L2.map (·.1) = A.1.map (·.1)) (hp : path u R2 L2 (mm_f σ 346) b) : cG T w (L2, A.2) m e u i := by
  have hI := h.1.DV d
  obtain ⟨h1, h2, h3, ⟨n1, n2, n3⟩, h5, h6, ⟨R0, b0, y1, y2, y3, y4, y5⟩, h8, ⟨u1, u2, u3⟩, h10, h11, h12, c1, c2, c3, c4, nh, c5, c6⟩ := h
  obtain ⟨d1, d2, d3, d4, d5, d6, d7, d8, d9, d10, d11, d12⟩ := d
  have f (k : Nat) (k1 : k ≠ 325) (k2 : k ≠ 303) (k3 : k ≠ 311) := d2 k k1 k2 k3
  have fe (k : Nat) (k1 : k ≠ 325) (k2 : k ≠ 303) (k3 : k ≠ 311) := fN_eq (f k k1 k2 k3)
  have s (k : Nat) (k1 : 336 ≤ k) : sam σ u k := d4 k ⟨Or.inr (by omega), by omega, by omega, by omega, by omega⟩
  obtain ⟨m1, m2⟩ := hl_map hm
  refine ⟨hI, hf.1.trans h2, by rw [hf.2]; exact h3, by rw [f 312 (by decide) (by decide) (by decide)]; exact ⟨n1, n2, n3⟩, h5.of (fun k k1 k2 => f k (by omega) (by omega) (by omega)) (by rw [(s 337 (by decide)).1]) (s 361 (by decide)).1 (s 362 (by decide)).1, by rw [f 346 (by decide) (by decide) (by decide), f 347 (by decide) (by decide) (by decide)]; exact h6,
    ⟨R2, b, d1, by rw [f 346 (by decide) (by decide) (by decide)]; exact hp, m2.trans y3, by rw [m1]; exact y4, fun x t q z => ?_⟩, by rw [f 313 (by decide) (by decide) (by decide)]; exact h8, by rw [f 360 (by decide) (by decide) (by decide), (s 363 (by decide)).1]; exact ⟨u1, u2, u3⟩, by rw [fe 336 (by decide) (by decide) (by decide), cntF_of (σ := σ) (fun k _ => by rw [(s 337 (by decide)).1])]; exact h10, by rw [f 359 (by decide) (by decide) (by decide)]; exact h11, by rw [f 358 (by decide) (by decide) (by decide)]; exact h12, ?_⟩
  · have q : L2 = x :: t := q
    rw [q] at hm
    cases hA : A.1 with
    | nil => rw [hA] at hm; exact nomatch hm
    | cons x0 t0 =>
      rw [hA] at hm
      simp only [List.map_cons, List.cons.injEq] at hm
      have := y5 x0 t0 hA (by rw [← hm.1]; exact z)
      intro e
      rw [e] at hm
      cases t0 with
      | nil => exact this rfl
      | cons a b => exact nomatch hm.2
  · unfold cC
    rw [fe 315 (by decide) (by decide) (by decide), fe 324 (by decide) (by decide) (by decide), fe 336 (by decide) (by decide) (by decide), f 371 (by decide) (by decide) (by decide)]
    have : hl A.1 ≤ 99 := by
      have := y4
      omega
    exact ⟨c1, c2, c3, by omega, nh, c5, by omega⟩
section DECL
variable {β : Type} {T : sT} {Sh : β → Nat → Int32 → mmS → Prop} {N : Int32 → mmS → Prop} {g : Nat} {w0 : cW} {m0 e0 : Nat} {θ : cTh} {l0 : Nat} {Z : Int32 → mmS → Prop} {b : Bool} {h : Nat} {w : cW} {A : cA} {m e : Nat} {r : sR β} {σ σ0 : mmS} {i : Nat}
variable {ν a d : Nat} {Q : mmQ}
theorem run_ev {inn : Bool} {k j : Nat} {n : Int32} : run inn A (s_w (sA_ev k n) () j) = match h_ev k n A.1 with | none => none | some L2 => some ((), j, (L2, A.2)) := by
  obtain ⟨L, cv, us, f, kk⟩ := A
  simp only [run, s_w, sA_ev, A_st, h_run]
  cases h_ev k n L <;> simp
theorem cB.DV {T : sT} {g : Nat} {w : cW} {A : cA} {m e i b c : Nat} {σ u : mmS} {R R2 : Nat → List Nat} (h : cG T w A m (e + 1) σ i) (d : DV T σ R b c u R2) (hc : c ≤ 100) (hf : mm_f u 303 = 1 ∧ mm_f u 311 = nI (t_e T)) (hg : g ≤ 69500) : cB T g u := by
  have hI := h.1.DV d
  obtain ⟨h1, h2, h3, h4, h5, h6, h7, h8, ⟨u1, u2, u3⟩, h10, h11, h12, c1, c2, c3, c4, nh, c5, c6⟩ := h
  obtain ⟨d1, d2, d3, d4, d5, d6, d7, d8, d9, d10, d11, d12⟩ := d
  have he : t_e T < 1262 := h1.1.2.2.2.2.2.2.2.1
  have f (k : Nat) (k1 : k ≠ 325) (k2 : k ≠ 303) (k3 : k ≠ 311) := d2 k k1 k2 k3
  have fe (k : Nat) (k1 : k ≠ 325) (k2 : k ≠ 303) (k3 : k ≠ 311) := fN_eq (f k k1 k2 k3)
  refine ⟨hI, hf.1, ⟨t_e T, hf.2, Nat.le_refl _, by omega, ?_, ?_, ?_, ?_⟩, _, (f 360 (by decide) (by decide) (by decide)).trans u1, by omega⟩
  · rw [fe 315 (by decide) (by decide) (by decide), pot_e]; omega
  · rw [fe 324 (by decide) (by decide) (by decide), pot_e]; omega
  · rw [fe 336 (by decide) (by decide) (by decide), pot_e]; omega
  · rw [pot_e]; omega
theorem St.declare {k : Nat} {n ro : Int32} {f : Unit → Nat → sR β} {C : mmS → Prop} (hw : w_in w = w_in w0) (st : St T Sh N g w0 m0 e0 θ l0 Z false h w A m (e + 1) (s_b (s_w (sA_ev k n) () i) f) σ i) (hd : 4 ≤ d) (hk : cls ro = k)
    (kk : ∀ u B, St T Sh N g w0 m0 e0 θ l0 Z true h w B m e (f () i) u i → Fr (th σ) σ u → (¬ GD u → mm_f u 311 = nI (t_e T)) → C u) : mm_V (MC d) Q 3029 [.inr (.inr (3, a)), .inl n, .inl ro] σ C := by
  have q := st.good
  have gd := q.2.1
  obtain ⟨R, b, y1, y2, y3, y4, y5⟩ := q.2.2.2.2.2.2.1
  have lb := lnB.use q.1
  have hlen := y2.len2
  have cp := q.caps
  have hc : hl A.1 ≤ 99 := by
    have := q.2.2.2.1.2.2
    omega
  subst hk
  refine c_declare hd q.1.1 y1 lb.2.2 y2 y3 (by omega) y5 (fun u R2 L2 z1 z2 z3 z4 => ?_) (fun u R2 L2 z1 z2 z3 z4 => ?_)
  · have g2 := q.DV z1 z2 (h_dec_map z3) z4
    have fr := Fr.DV z1
    have st2 := st.acc (v := ()) (i' := i) (B := (L2, A.2)) (h' := h) (m' := m) (e' := e) (u := u) (by rw [run_ev, h_ev_cls, z3]) (fr.mono st.tl.1) (th_le q g2 fr) (Nat.le_refl _) g2
    exact kk u _ st2.tt fr (fun ng => absurd g2.2.1 ng)
  · have fr := Fr.DV z1
    have hr : run (w_in w0) A (s_b (s_w (sA_ev (cls ro) n) () i) f) = none := by rw [run_b, run_ev, h_ev_cls, z3]
    have cb := cB.DV (g := g + h) q z1 (by omega) z2 (by have := st.tl.2 gd; omega)
    exact kk u A (St_bad_of (h' := h) (r' := f () i) (w' := w) (A' := A) (m' := m) (e' := e) (i' := i) st gd hr cb (fr.mono st.tl.1)) fr (fun _ => z2.2)
end DECL
