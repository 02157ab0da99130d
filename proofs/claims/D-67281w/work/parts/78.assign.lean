/-! PHASE 3. yielding(), assignIn(), assign() -/
section ASG
variable {β : Type} {T : sT} {Sh : β → Nat → Int32 → mmS → Prop} {N : Int32 → mmS → Prop} {g : Nat} {w0 : cW} {m0 e0 : Nat} {θ : cTh} {l0 : Nat} {Z : Int32 → mmS → Prop} {b : Bool} {h : Nat} {w : cW} {A : cA} {m e : Nat} {r : sR β} {σ σ0 : mmS} {i : Nat}
variable {ν a d : Nat} {Q : mmQ}
/-- yield stands alone here -/
def t_yn (T : sT) (j : Nat) : Bool := t_ln T j || t_kd T j 0 || t_sg T j 3 || t_sg T j 5 || t_sg T j 1 || t_sg T j 9 || t_sg T j 8 || t_sg T j 39 || t_wd T j 21 || (t_kd T j 7 && !t_hd T j)
theorem c_yielding {inn : Bool} {K : Int32 → mmS → Prop} {X : Nat → mmS → Prop} (ih : cAsg T ν) (hw : w_nu w = ν) (hd : 50 * ν + 12 ≤ d) (hq : g + 20 ≤ GQ (w_nu w)) (hm : 24 ≤ m) (hk : T.1 i ≠ 0) (en : cG T w A m e σ i ∨ (false = true ∧ cB T (g + 0) σ)) (k : ∀ n u, Rs T (shN T ν σ) nid g w m e (th σ) (i + 1) A (s_yield T (s_lv T ν) (w_x w).1 inn i) σ n u → K n u) :
    mm_ci (MC d) 3055 [.inr (.inr (3, a)), .inl (bI inn)] σ K X := by
  obtain ⟨d, rfl, hd⟩ := mc_pos (c := 50 * ν + 11) (by omega)
  refine mc_ci (P := mt3055) (L := 4) rfl rfl ⟨by decide, Nat.le_of_ble_eq_true rfl⟩ fun Q hK hX => b3055_0 _ _ _ _ _ _ _ ⟨by decide, ?_⟩
  have st := St.start (q := 20) (K := fun n u => Q (.inl (some (.inl n))) u) hq (by decide) en (fun n u rs => hK _ _ (k n u rs))
  have n1 := st.ci.2.1.2.1
  have hGQ := GQ_le ν
  rw [hw] at hq
  have gd := st.good.2.1
  have st := (st.adv (NZ_g st.good hk)).rise (h' := 4) gd (by omega)
  have gd : GD (mm_setf σ 311 (mm_f σ 311 + 1)) := gd
  have n2 : fN (mm_setf σ 311 (mm_f σ 311 + 1)) 315 = fN σ 315 := fN_eq (f_other (by decide))
  have fin : ∀ (w2 : Int32) (u : mmS) (B : cA) (m' j h' : Nat) (x v5 : Int32), (w2 == 4 || w2 == 26 || w2 == 28 || w2 == 35 || w2 == 9 || w2 == 10) = false → (w2 == 30 || w2 == 31) = false → St T (shN T ν σ) nid g w m e (th σ) (i + 1) (fun n u => Q (.inl (some (.inl n))) u) true (h' + 1) w B m' e (s_r (n_k w2) j) u j → m + 2 ≤ m' → fN σ 315 ≤ fN u 315 → (GD u → i + 1 ≤ j) →
      mm_I (MC d) Q 3056 [.inr (.inr (3, a)), .inl w2, .inl x, .inl 0, .inl 0, .inl v5] u (fun x8 σ7 => Q (.inl (some (.inl x8))) σ7) := fun w2 u B m' j h' x v5 h2 e8 st hm' hn hj => by
    have e5 := h2
    simp only [Bool.or_eq_false_iff, beq_eq_false_iff_ne] at e5
    obtain ⟨⟨⟨⟨⟨e1, e2⟩, e3⟩, e4⟩, e5⟩, e6⟩ := e5
    refine St.node5 (h := h') st (by omega) (by omega) (fun n5 u5 st hf5 nw => ?_) (Or.inl (beq_eq_false_iff_ne.mpr e4))
    exact st.ret (fun _ => rfl) (fun _ => rfl) (fun gd => hj (hf5.1 gd)) 1 (fun _ => by omega) (fun _ => Nat.le_refl _) (fun gd => ⟨_, nw.1, sh_new nw n1 hn rfl (fun q => absurd q e1) (fun q => absurd q (fun q => by rcases q with q | q; exact e2 q; exact e3 q)) rfl e4 (fun q => by rcases q with q | q; exact e5 q; exact e6 q) rfl e8⟩) (fun _ => nw.nid)
  have w166 : ∀ (s0 v2 : Int32) (wv3 : Option mmV), (s0 = 0 ↔ t_yn T (i + 1) = false) → (!t_ln T (i + 1) && t_sg T (i + 1) 20) = false → mm_W mt3055 (MC d) Q (166, [some (.inr (.inr (3, a))), some (.inl (bI inn)), some (.inl v2), wv3], [.inl s0]) (mm_setf σ 311 (mm_f σ 311 + 1)) := fun s0 v2 wv3 hs hstar => by
    refine b3055_166 _ _ _ _ _ _ _ _ (br_p (fun c => ?_) (fun c => ?_))
    · have st := st.rw (r' := s_b ((s_lv T ν).1 (w_x w).1 inn (i + 1)) (fun _ k => s_r (n_k 32) k)) (fun _ => by rw [s_yield, hstar, cond_false]; exact (congrArg (fun c => bif c then _ else _) (hs.mp c)))
      refine St.call (h := 4) (ih a w inn hw) (n_k 0) st (fun _ => rfl) (by omega) (by rw [hw]; omega) (by omega) rfl (fun v j B q x u st hf hj hs hn => ?_)
      exact fin 32 u B _ j 3 x v2 rfl rfl st (by omega) (by have := hf.nn; omega) (fun gd => by have := hj gd; omega)
    · have hy : t_yn T (i + 1) = true := by
        cases hx : t_yn T (i + 1) with
        | true => rfl
        | false => exact absurd (hs.mpr hx) c
      have st := st.rw (r' := s_r (n_k 32) (i + 1)) (fun _ => by rw [s_yield, hstar, cond_false]; exact (congrArg (fun c => bif c then _ else _) hy))
      exact fin 32 _ A _ (i + 1) 3 0 v2 rfl rfl st.tt (by omega) (by omega) (fun _ => Nat.le_refl _)
  have w54 : ∀ (v2 : Int32) (wv3 : Option mmV), (!t_ln T (i + 1) && t_sg T (i + 1) 20) = false → mm_W mt3055 (MC d) Q (54, [some (.inr (.inr (3, a))), some (.inl (bI inn)), some (.inl v2), wv3], []) (mm_setf σ 311 (mm_f σ 311 + 1)) := fun v2 wv3 hstar => by
    have y : t_yn T (i + 1) = true → mm_W mt3055 (MC d) Q (166, [some (.inr (.inr (3, a))), some (.inl (bI inn)), some (.inl v2), wv3], [.inl 1]) (mm_setf σ 311 (mm_f σ 311 + 1)) := fun z => w166 1 v2 wv3 ⟨fun q => absurd q (by decide), fun q => by rw [z] at q; exact absurd q (by decide)⟩ hstar
    refine b3055_54 _ _ _ _ _ _ _ (st.line (by omega) (fun z0 => st.rdk (fun x3 hx3 _ => br_p (fun c => y ?_) (fun c => st.sign (by omega) (fun z1 => st.sign (by omega) (fun z2 => st.sign (by omega) (fun z3 => st.sign (by omega) (fun z4 => st.sign (by omega) (fun z5 => st.sign (by omega) (fun z6 => st.word (by omega) (fun z7 => ?_) (fun z _ => y ?_)) (fun z _ => y ?_)) (fun z _ => y ?_)) (fun z _ => y ?_)) (fun z _ => y ?_)) (fun z _ => y ?_)) (fun z _ => y ?_)))) (fun z => y ?_))
    · unfold t_yn t_kd; rw [hx3 gd, c]; simp
    · refine b3055_133 _ _ _ _ _ _ _ (st.rdk (fun x hx _ => br_p (fun c7 => st.rdg (fun x2 hx2 => br_p (fun c4 => y ?_) (fun c4 => w166 0 v2 wv3 ⟨fun _ => ?_, fun _ => rfl⟩ hstar))) (fun c7 => w166 0 v2 wv3 ⟨fun _ => ?_, fun _ => rfl⟩ hstar)))
      · unfold t_yn t_hd t_kd; rw [hx gd, c7, hx2 gd, c4]; simp
      · unfold t_yn
        rw [z0 gd, show t_kd T (i + 1) 0 = false by unfold t_kd; rw [hx3 gd]; exact beq_eq_false_iff_ne.mpr c, z1 gd, z2 gd, z3 gd, z4 gd, z5 gd, z6 gd, z7 gd, show t_hd T (i + 1) = true by unfold t_hd; rw [hx2 gd]; simp [c4]]
        simp
      · unfold t_yn
        rw [z0 gd, show t_kd T (i + 1) 0 = false by unfold t_kd; rw [hx3 gd]; exact beq_eq_false_iff_ne.mpr c, z1 gd, z2 gd, z3 gd, z4 gd, z5 gd, z6 gd, z7 gd, show t_kd T (i + 1) 7 = false by unfold t_kd; rw [hx gd]; exact beq_eq_false_iff_ne.mpr c7]
        rfl
    · unfold t_yn; rw [z gd]; simp
    · unfold t_yn; rw [z gd]; simp
    · unfold t_yn; rw [z gd]; simp
    · unfold t_yn; rw [z gd]; simp
    · unfold t_yn; rw [z gd]; simp
    · unfold t_yn; rw [z gd]; simp
    · unfold t_yn; rw [z gd]; simp
    · unfold t_yn; rw [z gd]; simp
  refine st.line (by omega) (fun zl => st.eat (by omega) (fun z => w54 _ _ ?_) (fun u z st hf => ?_)) (fun zl => w54 _ _ ?_)
  · rw [z gd, Bool.and_false]
  · have st := st.rw (r' := s_b ((s_lv T ν).1 (w_x w).1 inn (i + 1 + 1)) (fun _ k => s_r (n_k 33) k)) (fun _ => by rw [s_yield, zl gd, z gd]; rfl)
    refine St.call (h := 4) (ih a w inn hw) (n_k 0) st (fun _ => rfl) (by omega) (by rw [hw]; omega) (by omega) rfl (fun v j B q x u2 st hf2 hj hs hn => ?_)
    exact fin 33 u2 B _ j 3 x _ rfl rfl st (by omega) (by have := hf.nn; have := hf2.nn; omega) (fun gd => by have := hj gd; omega)
  · rw [zl gd]; rfl
end ASG
