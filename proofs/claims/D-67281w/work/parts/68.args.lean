/-! PHASE 3. arguments(), template(), mark(), superAt() -/
def shU {β : Type} (_ : mmS) (_ : β) (_ : Nat) (_ : Int32) (_ : mmS) : Prop := True
section ARGS
variable {β : Type} {T : sT} {Sh : β → Nat → Int32 → mmS → Prop} {N : Int32 → mmS → Prop} {g : Nat} {w0 : cW} {m0 e0 : Nat} {θ : cTh} {l0 : Nat} {Z : Int32 → mmS → Prop} {b : Bool} {h : Nat} {w : cW} {A : cA} {m e : Nat} {r : sR β} {σ : mmS} {i : Nat}
theorem St.lift (st : St T Sh N g w0 m0 e0 θ l0 Z b h w A m e r σ i) (c : Nat) (hg : g + c ≤ 69500) : ∃ h', (GD σ → c ≤ h') ∧ St T Sh N g w0 m0 e0 θ l0 Z b h' w A m e r σ i := by
  by_cases gd : GD σ
  · exact ⟨c, fun _ => Nat.le_refl _, st.rise gd hg⟩
  · exact ⟨h, fun z => absurd z gd, st⟩
theorem nid_0 {T : sT} {σ : mmS} (t : cI T σ) : nid 0 σ := ⟨0, nI_0.symm, t.2.1.2.1⟩
theorem nid.mono {n : Int32} {σ u : mmS} (h : nid n σ) (f : Fr θ σ u) : nid n u := by
  obtain ⟨k, k1, k2⟩ := h
  exact ⟨k, k1, Nat.lt_of_lt_of_le k2 f.nn⟩
/-- a node that is one's own -/
def own (θ : cTh) (n : Int32) (σ : mmS) : Prop := ∃ k, n = nI k ∧ k < fN σ 315 ∧ (GD σ → θ.1 ≤ k)
theorem own.mono {θ' : cTh} {n : Int32} {σ u : mmS} (h : own θ n σ) (f : Fr θ' σ u) : own θ n u := by
  obtain ⟨k, k1, k2, k3⟩ := h
  exact ⟨k, k1, Nat.lt_of_lt_of_le k2 f.nn, fun gd => k3 (f.1 gd)⟩
theorem own.nid {n : Int32} (h : own θ n σ) : nid n σ := by
  obtain ⟨k, k1, k2, -⟩ := h
  exact ⟨k, k1, k2⟩
theorem own_new {x y z v k n : Int32} {u : mmS} (nw : NwN σ k x y z v n u) (f : Fr (th σ) σ u) (st : St T Sh N g w0 m0 e0 θ l0 Z b h w A m e r σ i) : own θ n u :=
  ⟨_, nw.1, by rw [nw.2.1]; omega, fun gd => (st.tl.1 (f.1 gd)).1⟩
theorem own_sh {ν q : Nat} {v : sN} {n : Int32} {u : mmS} (st : St T Sh N g w0 m0 e0 θ l0 Z b h w A m e r σ i) (f : Fr (th σ) σ u) (hs : GD u → shN T ν σ v q n u) (hn : ¬ GD u → nid n u) : own θ n u := by
  by_cases gd : GD u
  · obtain ⟨k, k1, k2⟩ := hs gd
    exact ⟨k, k1, k2.2.2.1, fun _ => Nat.le_trans (st.tl.1 (f.1 gd)).1 k2.2.1⟩
  · obtain ⟨k, k1, k2⟩ := hn gd
    exact ⟨k, k1, k2, fun z => absurd z gd⟩
theorem St.setown {s : Nat} {n x : Int32} {K : mmS → Prop} (st : St T Sh N g w0 m0 e0 θ l0 Z b h w A m e r σ i) (hs : 318 ≤ s ∧ s ≤ 322) (ho : own θ n σ) (kk : ∀ k, n = nI k → k < fN σ 315 → St T Sh N g w0 m0 e0 θ l0 Z b h w A m e r (mm_seta σ s k x) i → Fr θ σ (mm_seta σ s k x) → K (mm_seta σ s k x)) : mm_S σ s n x K := by
  obtain ⟨k, k1, k2, k3⟩ := ho
  exact st.setn ⟨by omega, by omega⟩ (Or.inl (by omega)) k1 k2 k3 (Or.inl ⟨by omega, by omega⟩) (fun s1 => kk k k1 k2 s1 (Fr.seta ⟨by omega, by omega⟩ k3))
variable {ν a d : Nat} {Q : mmQ}
theorem args_loop {Sh : Unit → Nat → Int32 → mmS → Prop} (ih : cAsg T ν) (hw : w_nu w = ν) (hd : 50 * ν + 10 ≤ d) (hq : g + 4 ≤ GQ ν) (hS : ∀ n u, Sh () 0 n u) (f : Nat) : ∀ (b : Bool) (h : Nat) (A : cA) (m i : Nat) (σ : mmS) (v1 v2 : Int32) (wv : Option mmV), (GD σ → 1 ≤ h) → (GD σ → l0 ≤ i + 1) → (GD σ → t_e T < f + i) → 24 ≤ m → m0 ≤ m → nid v1 σ → (¬ v1 = 0 → own θ v2 σ) →
    St T Sh nid g w m0 e θ l0 (fun n u => Q (.inl (some (.inl n))) u) b h w A m e (s_argL T (s_lv T ν) (w_x w).1 f i) σ i → mm_W mt3073 (MC d) Q (14, [some (.inr (.inr (3, a))), some (.inl v1), some (.inl v2), wv], []) σ := by
  have hGQ := GQ_le ν
  induction f with
  | zero =>
    intro b h A m i σ v1 v2 wv hh hl hf hm hm2 hv ho st
    refine b3073_14 _ _ _ _ _ _ _ (st.wrong (fun gd st => ?_) (fun ng => ?_))
    · have := hf gd
      have := (st.gd gd).2.2.1.2
      omega
    · refine St.need (s := 3) (f := fun _ _ => none) (st.bd (β' := Unit) ng Fr.rfl' (fun z => z) (h' := h) (w' := w) (A' := A) (m' := m) (e' := e) (i' := i)) (by omega) (fun u st hf _ => st.bad (fun z => ng (hf.1 z)) (hv.mono hf))
  | succ f IH =>
    intro b h A m i σ v1 v2 wv hh hl hf hm hm2 hv ho st
    refine b3073_14 _ _ _ _ _ _ _ (st.wrong (fun gd st => ?_) (fun ng => ?_))
    · have st := st.mono (hh gd)
      have hi := hf gd
      refine st.sign (by omega) (fun z => ?_) (fun z _ => ?_)
      · -- one more
        have st := St.f st z
        have tl0 := st.tl.1
        have nx : ∀ (u : mmS) (x : Int32) (B : cA) (m' j h' : Nat), St T Sh nid g w m0 e θ l0 (fun n u => Q (.inl (some (.inl n))) u) true h' w B m' e (bif t_sg T j 3 then s_argL T (s_lv T ν) (w_x w).1 f j else s_b (s_nd T 9 j) (fun _ m => s_argL T (s_lv T ν) (w_x w).1 f m)) u j → 24 ≤ m' → m0 ≤ m' → own θ x u → (GD u → i + 1 ≤ j) → Fr θ σ u →
            mm_W mt3073 (MC d) Q (59, [some (.inr (.inr (3, a))), some (.inl v1), some (.inl v2), wv], [.inl x]) u := fun u x B m' j h' st hm' hm3 hx hj fr => by
          have fin : ∀ (u' : mmS) (v1' : Int32), nid v1' u' → own θ x u' → Fr θ u u' → St T Sh nid g w m0 e θ l0 (fun n u => Q (.inl (some (.inl n))) u) true h' w B m' e (bif t_sg T j 3 then s_argL T (s_lv T ν) (w_x w).1 f j else s_b (s_nd T 9 j) (fun _ m => s_argL T (s_lv T ν) (w_x w).1 f m)) u' j →
              mm_W mt3073 (MC d) Q (76, [some (.inr (.inr (3, a))), some (.inl v1'), some (.inl v2), some (.inl x)], []) u' := fun u' v1' hv' hx' fr' st => by
            refine b3073_76 _ _ _ _ _ _ _ (st.sign (by omega) (fun z => ?_) (fun z _ => ?_))
            · refine St.need (St.f st z) (by omega) (fun u2 st2 hf2 _ => ?_)
              obtain ⟨h2, hh2, st2⟩ := st2.lift 1 (by omega)
              refine IH true h2 B _ (j + 1) u2 v1' x _ hh2 (fun gd2 => ?_) (fun gd2 => ?_) (by omega) (by omega) (hv'.mono hf2) (fun _ => hx'.mono hf2) st2
              · have := hl (fr.1 (fr'.1 (hf2.1 gd2))); have := hj (fr'.1 (hf2.1 gd2)); omega
              · have := hj (fr'.1 (hf2.1 gd2)); omega
            · obtain ⟨h2, hh2, st2⟩ := (St.t st z).lift 1 (by omega)
              refine IH true h2 B _ j u' v1' x _ hh2 (fun gd2 => ?_) (fun gd2 => ?_) hm' hm3 hv' (fun _ => hx') st2
              · have := hl (fr.1 (fr'.1 gd2)); have := hj (fr'.1 gd2); omega
              · have := hj (fr'.1 gd2); omega
          refine b3073_59 _ _ _ _ _ _ _ _ (br_p (fun z => fin u x hx.nid hx Fr.rfl' st) (fun z => ?_))
          exact st.setown (by decide) ((ho z).mono fr) (fun k k1 k2 st fk => fin _ v1 ((hv.mono fr).mono fk) (hx.mono fk) fk st)
        refine st.eat (by omega) (fun z7 => ?_) (fun u z7 st hf1 => ?_)
        · have st := st.rw (r' := s_b ((s_lv T ν).1 (w_x w).1 true i) _) (fun gd => by rw [z7 gd]; rfl)
          refine St.call (ih a w true hw) (n_k 0) st (fun _ => rfl) hd (by rw [hw]; omega) hm rfl (fun v j B q n u st2 hf hj hs hn => ?_)
          exact nx u n B _ j _ st2 (by omega) (by omega) (own_sh st hf (fun gd => (hs gd).sh) hn) (fun gd => hj gd) (hf.mono st.tl.1)
        · have st0 := st
          have st := st.rw (r' := s_b ((s_lv T ν).1 (w_x w).1 true (i + 1)) _) (fun gd => by rw [z7 (hf1.1 gd)]; rfl)
          refine St.call (ih a w true hw) (n_k 0) st (fun _ => rfl) hd (by rw [hw]; omega) (by omega) rfl (fun v j B q n u2 st2 hf hj hs hn => ?_)
          refine st2.node (h := 0) (by omega) (by omega) (fun n3 u3 st3 hf3 nw => ?_)
          exact nx u3 n3 B _ j _ st3 (by omega) (by omega) (own_new nw hf3 st2) (fun gd => by have := hj (hf3.1 gd); omega) (((hf1.mono tl0).trans (hf.mono st.tl.1)).trans (hf3.mono st2.tl.1))
      · have st := St.t st z
        refine St.need (s := 3) (f := fun _ k => s_r () k) (st.rw fun gd => by rw [s_nd, z gd]; rfl) (by omega) (fun u st hf _ => ?_)
        exact st.ret (fun _ => rfl) (fun _ => rfl) (fun gd => hl (hf.1 gd)) 0 (fun _ => by omega) (fun _ => Nat.le_refl _) (fun _ => hS _ _) (fun _ => hv.mono hf)
    · refine St.need (s := 3) (f := fun _ _ => none) (st.bd (β' := Unit) ng Fr.rfl' (fun z => z) (h' := h) (w' := w) (A' := A) (m' := m) (e' := e) (i' := i)) (by omega) (fun u st hf _ => st.bad (fun z => ng (hf.1 z)) (hv.mono hf))
theorem c_arguments {K : Int32 → mmS → Prop} {X : Nat → mmS → Prop} {bb : Bool} (ih : cAsg T ν) (hw : w_nu w = ν) (hd : 50 * ν + 11 ≤ d) (hq : g + 5 ≤ GQ (w_nu w)) (hm : 24 ≤ m) (nz : NZ T σ) (en : cG T w A m e σ i ∨ (bb = true ∧ cB T (g + 1) σ)) (k : ∀ n u, Rs T (shU σ) nid g w (m + 4) e (th σ) (i + 2) A (s_args T (s_lv T ν) (w_x w).1 i) σ n u → K n u) :
    mm_ci (MC d) 3073 [.inr (.inr (3, a))] σ K X := by
  obtain ⟨d, rfl, hd⟩ := mc_pos (c := 50 * ν + 10) (by omega)
  refine mc_ci (P := mt3073) (L := 4) rfl rfl ⟨by decide, Nat.le_of_ble_eq_true rfl⟩ fun Q hK hX => b3073_0 _ _ _ _ _ _ _ ?_
  have st := St.startM (q := 5) (K := fun n u => Q (.inl (some (.inl n))) u) hq (by decide) en (fun n u rs => hK _ _ (k n u rs))
  have st := st.adv nz
  rw [hw] at hq
  exact args_loop ih hw (by omega) (by omega) (fun _ _ => trivial) (t_e T + 1) bb 1 A (m + 12) (i + 1) _ 0 0 none (fun _ => Nat.le_refl _) (fun _ => by omega) (fun _ => by omega) (by omega) (by omega) (nid_0 st.ci) (fun z => absurd rfl z) st
/-- mark() -/
theorem b_or4 {x v : Int32} (h : v &&& 4 = 0) : (x ||| v) &&& 4 = x &&& 4 := by
  apply Int32.toBitVec_inj.mp
  have hv : ∀ i, (v.toBitVec.getLsbD i && (4 : Int32).toBitVec.getLsbD i) = false := fun i => by
    rw [← BitVec.getLsbD_and, ← Int32.toBitVec_and, h]
    simp
  refine BitVec.eq_of_getLsbD_eq fun i _ => ?_
  rw [Int32.toBitVec_and, Int32.toBitVec_or, Int32.toBitVec_and, BitVec.getLsbD_and, BitVec.getLsbD_or, BitVec.getLsbD_and, Bool.and_or_distrib_right, hv i, Bool.or_false]
theorem mark_loop {v1 : Int32} {V : mmS → Prop} (hI : cI T σ) (hV : ∀ f x, f < fN σ 336 → x &&& 4 = mm_a σ 338 f &&& 4 → V (mm_seta σ 338 f x)) (h4 : v1 &&& 4 = 0) (n : Nat) : ∀ f, f < n → f < fN σ 336 → ∀ Q : mmQ, (∀ u, V u → Q (.inl none) u) → mm_W mt3071 (MC d) Q (5, [some (.inr (.inr (3, a))), some (.inl v1), some (.inl (nI f))], []) σ := by
  have hk := hI.2.2.2.2.1
  obtain ⟨⟨c1, c2, c3, c4, c5⟩, c6, c7⟩ := hk
  induction n with
  | zero => intro f hf; omega
  | succ n IH =>
    intro f hf hf2 Q hQ
    refine b3071_5 _ _ _ _ _ _ (rd (c5 337 (by decide) (by decide)) (by omega) (by omega) (br_p (fun z => ?_) (fun z => ?_)))
    · obtain ⟨k, k1, k2⟩ := c7 f hf2 z
      refine rd (c5 339 (by decide) (by decide)) (by omega) (by omega) ?_
      rw [k1]
      exact IH k (by omega) (by omega) Q hQ
    · refine rd (c5 338 (by decide) (by decide)) (by omega) (by omega) (wr (c5 338 (by decide) (by decide)) (by omega) (by omega) (hQ _ (hV f _ hf2 (b_or4 h4))))
theorem St.mark {v1 : Int32} {C : mmS → Prop} (st : St T Sh N g w0 m0 e0 θ l0 Z b h w A m e r σ i) (hd : 1 ≤ d) (h4 : v1 &&& 4 = 0) (k : ∀ u, St T Sh N g w0 m0 e0 θ l0 Z b h w A m e r u i → Fr (th σ) σ u → mm_f u = mm_f σ → C u) : mm_V (MC d) Q 3071 [.inr (.inr (3, a)), .inl v1] σ C := by
  obtain ⟨d, rfl, hd⟩ := mc_pos hd
  refine mc_cv (P := mt3071) (L := 3) rfl rfl ⟨by decide, Nat.le_of_ble_eq_true rfl⟩ fun Q hK hX => b3071_0 _ _ _ _ _ _ ?_
  obtain ⟨f, f1, f2⟩ := st.ci.2.2.2.2.2.1.2
  rw [f1]
  refine mark_loop st.ci (fun j x hj hx => ?_) h4 (f + 1) f (by omega) f2 Q hK
  have n (k : Nat) (hk : k ≠ 338) : mm_a (mm_seta σ 338 j x) k = mm_a σ k := a_seta_n hk
  have hI : cI T (mm_seta σ 338 j x) := st.ci.seta rfl
  have fr : Fr (th σ) σ (mm_seta σ 338 j x) := by
    refine ⟨id, fun _ _ => rfl, ⟨rfl, gro.of (n 328 (by decide)) (n 332 (by decide)) (n 334 (by decide))⟩, fun k _ k2 => ⟨n k (fun e => by rw [e] at k2; exact absurd k2 (by decide)), rfl, rfl, rfl⟩, ⟨Nat.le_refl _, Nat.le_refl _, Nat.le_refl _, Nat.le_refl _⟩, fun t _ => ⟨by rw [n 326 (by decide)], by rw [n 327 (by decide)]⟩, fun t _ => ⟨by rw [n 337 (by decide)], by rw [n 339 (by decide)]⟩, fun gd => ⟨Nat.le_refl _, fun k k1 k2 i _ hi => by rw [n k (by omega)], fun f _ => ⟨?_, by rw [n 342 (by decide)]⟩, fun k _ => ⟨by rw [n 369 (by decide)], by rw [n 370 (by decide)]⟩, fun k _ => ⟨by rw [n 361 (by decide)], by rw [n 362 (by decide)]⟩⟩⟩
    by_cases c : f = j
    · rw [c, a_seta_s]; exact hx
    · rw [a_seta_i c]
  refine k _ (st.same (fr.mono st.tl.1) (fun _ => tle.rfl') (fun gd => st.tl.2 gd) (fun q => ?_) (fun q => ?_)) fr rfl
  · obtain ⟨h1, h2, h3, h4, h5, h6, h7, h8, ⟨u1, u2, u3⟩, h10, h11, h12, hc⟩ := q
    exact ⟨hI, h2, h3, h4, h5.of (fun _ _ _ => rfl) (by rw [n 337 (by decide)]) (n 361 (by decide)) (n 362 (by decide)), h6, h7.of rfl rfl rfl (fun k k1 _ => ⟨n k (by omega), rfl⟩), h8, ⟨u1, u2, by rw [n 363 (by decide)]; exact u3⟩, (cntF_of (fun k _ => by rw [n 337 (by decide)])).trans h10, h11, h12, hc⟩
  · exact ⟨hI, q.2⟩
/-- needWord -/
theorem St.needWord {s : Int32} {f : Unit → Nat → sR β} {V : mmS → Prop} (st : St T Sh N g w0 m0 e0 θ l0 Z b h w A m e (s_b (s_nw T s i) f) σ i) (hd : 3 ≤ d) (k : ∀ u, St T Sh N g w0 m0 e0 θ l0 Z true h w A (m + 12) e (f () (i + 1)) u (i + 1) → Fr (th σ) σ u → (GD u → t_wd T i s = true) → V u) : mm_V (MC d) Q 3034 [.inr (.inr (3, a)), .inl s] σ V := by
  obtain ⟨q, q1, q2, q3⟩ := st.p
  refine c_needWord hd st.ci.1 q1 (by omega) (fun z => k _ (st.fl (fun gd => ?_) _ _ _ _ _ _) Fr_fl (fun q => absurd q GD_fl)) (fun z => ?_)
  · rw [s_nw, ← q3 gd, z]; rfl
  · have := st.adv (NZ_wd st.ci q1 z)
    rw [q1, ← nI_succ] at this
    have e := this.rw (r' := f () (i + 1)) (fun gd => ?_)
    · refine k _ ?_ Fr_adv (fun gd => by rw [← q3 gd]; exact z)
      rcases e with e | ⟨e1, e2⟩
      · exact Or.inl e
      · exact Or.inr ⟨rfl, e2⟩
    · have gd2 : GD σ := gd
      rw [s_nw, ← q3 gd2, z]
      show s_b (s_r () (q + 1)) f = _
      unfold s_b s_r
      simp only
      cases f () (q + 1) with
      | none => rfl
      | some x => obtain ⟨x1, x2, x3⟩ := x; obtain ⟨a1, a2, a3, a4, a5, a6⟩ := x3; simp [sA_m, sA0]
end ARGS
