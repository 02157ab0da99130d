/-! PHASE 3. binding(): array patterns -/
section BIND
variable {β : Type} {T : sT} {Sh : β → Nat → Int32 → mmS → Prop} {N : Int32 → mmS → Prop} {g : Nat} {w0 : cW} {m0 e0 : Nat} {θ : cTh} {l0 : Nat} {Z : Int32 → mmS → Prop} {b : Bool} {h : Nat} {w : cW} {A : cA} {m e : Nat} {r r' : sR β} {σ σ0 : mmS} {i : Nat}
variable {ν a d : Nat} {Q : mmQ}
/-- the pattern's node, when all is read -/
theorem patG.done {D : Nat} {n tl : Int32} {nm : List Int32} {u : mmS} {q : Nat} (h : patG D (fN σ0 315) n tl nm u) (h1 : 1 ≤ fN σ0 315) (hb : fN u 315 ≤ 85000) : shBd (D + 2) σ0 (false, nm) q n u := by
  obtain ⟨k, l, k1, k2, k3, k4, k5, k6, k7, k8, k9, k11⟩ := h
  obtain ⟨f, hf⟩ := rwN_tl (lo := k + 1) (by omega) hb k6 k7
  have n4 : ¬ mm_a u 316 k = 4 := fun z => by rcases k4 with w | w <;> rw [w] at z <;> exact absurd z (by decide)
  have n5 : ¬ (mm_a u 316 k = 52 ∨ mm_a u 316 k = 53) := fun z => by rcases k4 with w | w <;> rw [w] at z <;> exact absurd z (by decide)
  refine ⟨k, k1, h1, k2, k3, ⟨fun z => absurd z n4, fun z => nomatch z⟩, k5, f + 1, ?_⟩
  rw [tlR, if_pos ⟨k2, k3⟩, if_neg n4, if_neg n5, if_pos k4, if_neg (by omega), k11]
  exact tlR_same (by omega) (Nat.le_refl _) (fun _ _ _ _ _ _ => rfl) (D + 1) _ f _ _ _ _ (by omega) (Nat.le_refl _) hf
/-- an element is put behind the others: W122 / W428 -/
theorem St.link {D : Nat} {n tl x : Int32} {nm l2 : List Int32} {ly : Nat} {C1 C2 : mmS → Prop} (st : St T Sh N g w0 m0 e0 θ l0 Z b h w A m e r σ i) (hn : own θ n σ) (ht : ¬ tl = 0 → own θ tl σ) (hx : own θ x σ) (hp : GD σ → patG D θ.1 n tl nm σ ∧ (∃ k, x = nI k ∧ elN D σ ly (k, l2) ∧ mm_a σ 322 k = 0 ∧ ∀ t, (n = nI t ∨ tl = nI t) → t < 2 ^ 31 → t < ly))
    (k1 : ∀ u, St T Sh N g w0 m0 e0 θ l0 Z b h w A m e r u i → Fr θ σ u → (GD u → patG D θ.1 n x (nm ++ l2) u) → C1 u) (k2 : ∀ u, St T Sh N g w0 m0 e0 θ l0 Z b h w A m e r u i → Fr θ σ u → (GD u → patG D θ.1 n x (nm ++ l2) u) → C2 u) : mm_br (tl = 0) (mm_S σ 317 n x C1) (mm_S σ 322 tl x C2) := by
  have hc := st.cap.1
  refine br_p (fun z => ?_) (fun z => ?_)
  · obtain ⟨k, e1, e2, e3⟩ := hn
    refine st.setn (by decide) (Or.inl (by decide)) e1 e2 e3 (Or.inr (Or.inl ⟨rfl, Or.inl hx.nid⟩)) (fun st2 => k1 _ st2 (Fr.seta (by decide) e3) (fun gd => ?_))
    have gds : GD σ := gd
    obtain ⟨p1, kx, x1, x2, x3, x4⟩ := hp gds
    subst x1
    rw [z] at p1
    exact p1.add0 hc e1 e2 (elN_lo x2 (by have := x4 k (Or.inl e1) (by omega); omega)) x3
  · obtain ⟨k, e1, e2, e3⟩ := hn
    obtain ⟨t, t1, t2, t3⟩ := ht z
    refine st.setn (by decide) (Or.inl (by decide)) t1 t2 t3 (Or.inl ⟨by decide, by decide⟩) (fun st2 => k2 _ st2 (Fr.seta (by decide) t3) (fun gd => ?_))
    have gds : GD σ := gd
    obtain ⟨p1, kx, x1, x2, x3, x4⟩ := hp gds
    subst x1
    exact p1.add1 hc e1 e2 t1 t2 z x2 (x4 t (Or.inr t1) (by omega)) x3
end BIND
