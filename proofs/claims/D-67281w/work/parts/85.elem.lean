/-! PHASE 3. element(), restElement(): what is said of them; a function's flag -/
section ELEM
variable {β : Type} {T : sT} {Sh : β → Nat → Int32 → mmS → Prop} {N : Int32 → mmS → Prop} {g : Nat} {w0 : cW} {m0 e0 : Nat} {θ : cTh} {l0 : Nat} {Z : Int32 → mmS → Prop} {b : Bool} {h : Nat} {w : cW} {A : cA} {m e : Nat} {r r' : sR β} {σ σ0 : mmS} {i : Nat}
variable {ν a d : Nat} {Q : mmQ}
/-- fFlags[here] |= v -/
theorem St.flag {v : Int32} {K : mmS → Prop} (st : St T Sh N g w0 m0 e0 θ l0 Z b h w A m e r σ i) (h4 : v &&& 4 = 0) (k : ∀ u, St T Sh N g w0 m0 e0 θ l0 Z b h w A m e r u i → Fr (th σ) σ u → mm_f u = mm_f σ → K u) : mm_L σ 338 (mm_f σ 347) (fun x => mm_S σ 338 (mm_f σ 347) (x ||| v) K) := by
  obtain ⟨f, f1, f2⟩ := st.ci.2.2.2.2.2.1.2
  obtain ⟨⟨c1, c2, c3, c4, c5⟩, c6, c7⟩ := st.ci.2.2.2.2.1
  rw [f1]
  refine rd (c5 338 (by decide) (by decide)) (by omega) (by omega) (wr (c5 338 (by decide) (by decide)) (by omega) (by omega) ?_)
  have hx : (mm_a σ 338 f ||| v) &&& 4 = mm_a σ 338 f &&& 4 := b_or4 h4
  generalize mm_a σ 338 f ||| v = x at hx
  have n (k : Nat) (hk : k ≠ 338) : mm_a (mm_seta σ 338 f x) k = mm_a σ k := a_seta_n hk
  have hI : cI T (mm_seta σ 338 f x) := st.ci.seta rfl
  have fr : Fr (th σ) σ (mm_seta σ 338 f x) := by
    refine ⟨id, fun _ _ => rfl, ⟨rfl, gro.of (n 328 (by decide)) (n 332 (by decide)) (n 334 (by decide))⟩, fun k _ k2 => ⟨n k (fun e => by rw [e] at k2; exact absurd k2 (by decide)), rfl, rfl, rfl⟩, ⟨Nat.le_refl _, Nat.le_refl _, Nat.le_refl _, Nat.le_refl _⟩, fun t _ => ⟨by rw [n 326 (by decide)], by rw [n 327 (by decide)]⟩, fun t _ => ⟨by rw [n 337 (by decide)], by rw [n 339 (by decide)]⟩, fun gd => ⟨Nat.le_refl _, fun k k1 k2 i _ hi => by rw [n k (by omega)], fun j _ => ⟨?_, by rw [n 342 (by decide)]⟩, fun k _ => ⟨by rw [n 369 (by decide)], by rw [n 370 (by decide)]⟩, fun k _ => ⟨by rw [n 361 (by decide)], by rw [n 362 (by decide)]⟩⟩⟩
    by_cases c : j = f
    · rw [c, a_seta_s]; exact hx
    · rw [a_seta_i c]
  refine k _ (st.same (fr.mono st.tl.1) (fun _ => tle.rfl') (fun gd => st.tl.2 gd) (fun q => ?_) (fun q => ⟨hI, q.2⟩)) fr rfl
  obtain ⟨h1, h2, h3, h4, h5, h6, h7, h8, ⟨u1, u2, u3⟩, h10, h11, h12, hc⟩ := q
  exact ⟨hI, h2, h3, h4, h5.of (fun _ _ _ => rfl) (by rw [n 337 (by decide)]) (n 361 (by decide)) (n 362 (by decide)), h6, h7.of rfl rfl rfl (fun k k1 _ => ⟨n k (by omega), rfl⟩), h8, ⟨u1, u2, by rw [n 363 (by decide)]; exact u3⟩, (cntF_of (fun k _ => by rw [n 337 (by decide)])).trans h10, h11, h12, hc⟩
/-- an element of a pattern -/
def shEl (D : Nat) (σ : mmS) (b : Bool × Bool × List Int32) (_ : Nat) (n : Int32) (u : mmS) : Prop := ∃ k j, n = nI k ∧ 1 ≤ fN σ 315 ∧ fN σ 315 ≤ k ∧ k < fN u 315 ∧ mm_a u 316 k = 52 ∧ mm_a u 317 k = nI j ∧ fN σ 315 ≤ j ∧ j < fN u 315 ∧ (mm_a u 316 j = 4 ↔ b.1 = true) ∧ (mm_a u 318 k = 0 ↔ b.2.1 = false) ∧ mm_a u 322 k = 0 ∧ ∃ f, tlR u (fN σ 315) k D f false j = some b.2.2
/-- an element's node, in any mode -/
def nidE (n : Int32) (u : mmS) : Prop := ∃ k, n = nI k ∧ k < fN u 315 ∧ nid (mm_a u 317 k) u
/-- the contracts of restElement() and element() -/
def cRst (T : sT) (ν : Nat) : Prop := ∀ (a : Nat) (w : cW) (ro : Int32) (as : Nat), w_nu w = ν → cls ro = as → CI T (shBd (2 * ν)) nid (50 * ν + 10) 0 0 true 1 w ((s_lv T ν).2.2.2.2.1 (w_x w).1 as) 3049 [.inr (.inr (3, a)), .inl ro]
def cEl (T : sT) (ν : Nat) : Prop := ∀ (a : Nat) (w : cW) (ro key : Int32) (as : Nat), w_nu w = ν → cls ro = as → CI T (shEl (2 * ν)) nidE (50 * ν + 12) 1 1 true 1 w ((s_lv T ν).2.2.2.2.2.1 (w_x w).1 as) 3052 [.inr (.inr (3, a)), .inl ro, .inl key]
theorem bd_binding {v : Int32} {K : Int32 → mmS → Prop} {X : Nat → mmS → Prop} (ng : ¬ GD σ) (hd : 1 ≤ d) (k : K 0 σ) : mm_ci (MC d) 3050 [.inr (.inr (3, a)), .inl v] σ K X := by
  obtain ⟨d, rfl, hd⟩ := mc_pos hd
  exact mc_ci (P := mt3050) (L := 9) rfl rfl ⟨by decide, Nat.le_of_ble_eq_true rfl⟩ fun Q hK hX => b3050_0 _ _ _ _ _ _ _ _ _ _ _ _ (br_n ng (hK _ _ k))
theorem bd_rest {v : Int32} {K : Int32 → mmS → Prop} {X : Nat → mmS → Prop} (hb : cB T g σ) (hd : 4 ≤ d) (k : ∀ u, cB T g u → Fr (th σ) σ u → K 0 u) : mm_ci (MC d) 3049 [.inr (.inr (3, a)), .inl v] σ K X := by
  obtain ⟨d, rfl, hd⟩ := mc_pos hd
  refine mc_ci (P := mt3049) (L := 3) rfl rfl ⟨by decide, Nat.le_of_ble_eq_true rfl⟩ fun Q hK hX => b3049_0 _ _ _ _ _ _ ?_
  exact bd_enter hb (by omega) (fun u c f _ => bd_binding c.no (by omega) (hK _ _ (k _ (c.setf rfl (by decide) (by decide) (by decide)) (f.t Fr_312 fun z => absurd z c.no))))
theorem rst_no : cRst T 0 := by
  intro a w ro as hw hc d g A m e i σ K X hd hq hm en k
  rcases en with hG | ⟨-, hB⟩
  · obtain ⟨d, rfl, hd⟩ := mc_pos (c := 9) (by omega)
    refine mc_ci (P := mt3049) (L := 3) rfl rfl ⟨by decide, Nat.le_of_ble_eq_true rfl⟩ fun Q hK hX => b3049_0 _ _ _ _ _ _ ?_
    have st : St T (shBd (2 * 0) σ) nid g w m e (th σ) (i + 1) (fun n u => Q (.inl (some (.inl n))) u) false 0 w A m e (none : sR (Bool × List Int32)) σ i := Or.inl ⟨hG, tle.rfl', by have := GQ_le (w_nu w); omega, fun n u rs => hK _ _ (k n u rs)⟩
    refine st.enter (by omega) (fun _ => rfl) (fun u st hf hp he => ?_)
    have ng : ¬ GD u := fun z => by have := hp z; omega
    refine bd_binding ng (by omega) ?_
    have st2 := st.same (u := mm_setf u 312 (mm_f u 312 - 1)) (h' := 0) (m' := m) (e' := e) (i' := i) Fr_312' (fun z => absurd z ng) (fun z => absurd z ng) (fun q => absurd q.2.1 ng) (fun c => c.setf rfl (by decide) (by decide) (by decide))
    exact st2.bad ng (nid_0 st2.ci)
  · exact bd_rest hB (by omega) (fun u c f => k 0 u ⟨f, Or.inr ⟨Or.inr hB.no, c, nid_0 c.1⟩⟩)
end ELEM
/-- a row of nodes that hang together by 322, the first one's number, what they are and where they begin: (node, names) -/
def rwN (u : mmS) : List (Nat × List Int32) → Int32 → Prop
  | [], x => x = 0
  | y :: t, x => x = nI y.1 ∧ rwN u t (mm_a u 322 y.1)
/-- one of them: its names do not depend on its own link -/
def elN (D : Nat) (u : mmS) (lo : Nat) (y : Nat × List Int32) : Prop := lo ≤ y.1 ∧ y.1 < fN u 315 ∧ ((mm_a u 316 y.1 = 31 ∧ y.2 = []) ∨ ((mm_a u 316 y.1 = 52 ∨ mm_a u 316 y.1 = 53) ∧ ∃ j f, mm_a u 317 y.1 = nI j ∧ tlR u lo y.1 D f false j = some y.2))
theorem rwN_same {u v : mmS} : ∀ {l : List (Nat × List Int32)} {x : Int32}, (∀ y ∈ l, mm_a v 322 y.1 = mm_a u 322 y.1) → rwN u l x → rwN v l x
  | [], _, _, h => h
  | y :: t, x, hs, h => ⟨h.1, by rw [hs y List.mem_cons_self]; exact rwN_same (fun z hz => hs z (List.mem_cons_of_mem _ hz)) h.2⟩
