/-! PHASE 3. binary() -/
section BIN
variable {β : Type} {T : sT} {Sh : β → Nat → Int32 → mmS → Prop} {N : Int32 → mmS → Prop} {g : Nat} {w0 : cW} {m0 e0 : Nat} {θ : cTh} {l0 : Nat} {Z : Int32 → mmS → Prop} {b : Bool} {h : Nat} {w : cW} {A : cA} {m e : Nat} {r : sR β} {σ σ0 : mmS} {i : Nat}
variable {ν a d : Nat} {Q : mmQ}
/-- a place on behind fail() -/
theorem cB.over {T : sT} {g : Nat} {σ : mmS} (h : cB T (g + 1262) σ) (hp : mm_f σ 311 = nI (t_e T)) : cB T g (mm_setf σ 311 (mm_f σ 311 + 1)) := by
  obtain ⟨h1, h2, ⟨q, q1, q2, q3, q4, h4, h5, h6⟩, n, u1, u2⟩ := h
  have he : t_e T < 1262 := h1.1.2.2.2.2.2.2.2.1
  have f (j : Nat) (hj : j ≠ 311) : mm_f (mm_setf σ 311 (mm_f σ 311 + 1)) j = mm_f σ j := f_other hj
  have fe (j : Nat) (hj : j ≠ 311) := fN_eq (f j hj)
  have hl := pot_le (T := T) (q := t_e T + 1)
  refine ⟨h1.setf rfl, (f 303 (by decide)).trans h2, ⟨t_e T + 1, by rw [f_same, hp]; exact (nI_succ _).symm, by omega, Or.inl he, ?_, ?_, ?_, ?_⟩, n, (f 360 (by decide)).trans u1, u2⟩
  · rw [fe 315 (by decide)]; omega
  · rw [fe 324 (by decide)]; omega
  · rw [fe 336 (by decide)]; omega
  · rw [fe 325 (by decide)]; omega
theorem St.over (st : St T Sh N g w0 m0 e0 θ l0 Z b (h + 1262) w A m e r σ i) (ng : ¬ GD σ) (hp : mm_f σ 311 = nI (t_e T)) {w' : cW} {A' : cA} {m' e' i' : Nat} {r' : sR β} : St T Sh N g w0 m0 e0 θ l0 Z b h w' A' m' e' r' (mm_setf σ 311 (mm_f σ 311 + 1)) i' :=
  st.bd (β' := Unit) ng Fr_adv (fun c => by
    have c : cB T (g + h + 1262) σ := by rw [Nat.add_assoc]; exact c
    exact c.over hp)
theorem St.level {C : Int32 → mmS → Prop} {inn : Bool} (st : St T Sh N g w0 m0 e0 θ l0 Z false h w A m e r σ i) (hd : 1 ≤ d) (k : C (nI (t_lv T inn i)) σ) : mm_I (MC d) Q 3111 [.inr (.inr (3, a)), .inl (bI inn)] σ C := by
  have q := st.good
  have he := q.1.1.2.2.2.2.2.2.2.1
  exact c_level hd q.1.1 q.2.2.1.1 (by have := q.2.2.1.2; omega) k
theorem bif_le {c : Bool} {x y n : Nat} (hx : x ≤ n) (hy : y ≤ n) : (bif c then x else y) ≤ n := by cases c; exact hy; exact hx
theorem t_lv_le {inn : Bool} : t_lv T inn i ≤ 11 := by
  unfold t_lv
  exact bif_le (bif_le (by decide) (by decide)) (bif_le (by decide) (bif_le (by decide) (bif_le (by decide) (bif_le (by decide) (bif_le (by decide) (bif_le (by decide) (bif_le (by decide) (bif_le (by decide) (bif_le (by decide) (bif_le (by decide) (bif_le (by decide) (bif_le (by decide) (by decide)))))))))))))
theorem lv_ne {inn : Bool} (h : ¬ t_lv T inn i = 0) : T.1 i = 1 ∨ T.1 i = 3 := by
  unfold t_lv at h
  cases h1 : t_kd T i 1 with
  | true => exact Or.inl (by unfold t_kd at h1; exact eq_of_beq h1)
  | false =>
    rw [h1, cond_false] at h
    cases h3 : t_kd T i 3 with
    | true => exact Or.inr (by unfold t_kd at h3; exact eq_of_beq h3)
    | false =>
      rw [h3] at h
      exact absurd rfl h
theorem ndK_d {lo : Nat} {u : mmS} {w x y z op n : Int32} (h : NwN σ w x y z op n u) (h0 : 1 ≤ lo) (hl : lo ≤ fN σ 315) (e5 : (w == 4 || w == 35 || w == 9 || w == 10) = false) (e8 : (w == 30 || w == 31) = false := by exact rfl) : ndK T ν lo (n_d w op) 1 n u := by
  simp only [Bool.or_eq_false_iff, beq_eq_false_iff_ne] at e5
  obtain ⟨⟨⟨e1, e2⟩, e3⟩, e4⟩ := e5
  exact ⟨_, h.1, by rw [h.2.1]; omega, fun _ => sh_new h h0 hl rfl (fun q => absurd q e1) (fun _ => rfl) rfl e2 (fun q => by rcases q with q | q; exact e3 q; exact e4 q) rfl e8⟩
theorem St.mix2 {n op : Int32} {lo q : Nat} {v : sN} {Ak Bk : mmS → Prop} (st : St T Sh N g w0 m0 e0 θ l0 Z b h w A m e r σ i) (hd : 1 ≤ d) (hn : ndK T ν lo v q n σ) (k0 : (GD σ → n_mx v op = false) → Ak σ) (k1 : (GD σ → n_mx v op = true) → Bk σ) : mm_I (MC d) Q 3112 [.inr (.inr (3, a)), .inl n, .inl op] σ (fun x u => mm_br (x = 0) (Ak u) (Bk u)) := by
  obtain ⟨k, k1', k2, k3⟩ := id hn
  exact st.mixes hd k1' k2 (fun gd => (k3 gd).2.2.2.1) k0 k1
/-- what the recursion on the levels gives -/
def cBin (T : sT) (ν gg : Nat) : Prop := ∀ (least d a g : Nat) (inn : Bool) (w : cW) (A : cA) (m e i : Nat) (σ : mmS) (K : Int32 → mmS → Prop) (X : Nat → mmS → Prop), w_nu w = ν → wSl w → 50 * ν + 36 + gg ≤ d → g + (530 + 8 * gg) ≤ GQ (w_nu w) → 24 ≤ m → 14 ≤ least + gg → 1 ≤ least → least ≤ 12 → (cG T w A m e σ i ∨ (decide (8 < least) = true ∧ cB T (g + 4) σ)) → (∀ n u, Rs T (shN T ν σ) nid g w m e (th σ) (i + 1) A (s_bin T (s_lv T ν) (w_x w).1 inn gg least i) σ n u → K n u) → mm_ci (MC d) 3108 [.inr (.inr (3, a)), .inl (nI least), .inl (bI inn)] σ K X
theorem nI_lt_iff {a b : Nat} (ha : a < 2 ^ 31) (hb : b < 2 ^ 31) : nI a < nI b ↔ a < b := nI_ltI ha hb
theorem bin_loop {gg least : Nat} {inn : Bool} (ihb : cBin T ν gg) (hw : w_nu w = ν) (hsl : wSl w) (hd : 50 * ν + 36 + gg ≤ d) (hq : g + (536 + 8 * gg) ≤ GQ ν) (hg : 14 ≤ least + gg + 1) (hl1 : 1 ≤ least) (hl12 : least ≤ 12) (h0 : 1 ≤ fN σ0 315) (f : Nat) : ∀ (b : Bool) (h : Nat) (A : cA) (m i q : Nat) (v : sN) (σ : mmS) (v3 : Int32) (wv4 wv5 wv6 : Option mmV), (GD σ → 5 ≤ h) → (GD σ → l0 ≤ i) → (GD σ → t_e T < f + i) → 24 ≤ m → m0 + q ≤ m → fN σ0 315 ≤ fN σ 315 → ndK T ν (fN σ0 315) v q v3 σ →
    St T (shN T ν σ0) nid g w m0 e θ l0 (fun n u => Q (.inl (some (.inl n))) u) b h w A m e (s_binL T inn (s_bin T (s_lv T ν) (w_x w).1 inn gg) least f v i) σ i → mm_W mt3108 (MC d) Q (96, [some (.inr (.inr (3, a))), some (.inl (nI least)), some (.inl (bI inn)), some (.inl v3), wv4, wv5, wv6], []) σ := by
  have hGQ := GQ_le ν
  induction f with
  | zero =>
    intro b h A m i q v σ v3 wv4 wv5 wv6 hh hl hf hm hm2 hlo hn st
    refine b3108_96 _ _ _ _ _ _ _ _ _ _ (st.wrong (fun gd st => ?_) (fun ng => st.bad ng hn.nid))
    have := hf gd
    have := (st.gd gd).2.2.1.2
    omega
  | succ f IH =>
    intro b h A m i q v σ v3 wv4 wv5 wv6 hh hl hf hm hm2 hlo hn st
    refine b3108_96 _ _ _ _ _ _ _ _ _ _ (st.wrong (fun gd st => ?_) (fun ng => st.bad ng hn.nid))
    have st := st.mono (hh gd)
    have hi := hf gd
    have li := hl gd
    have hl11 : t_lv T inn i ≤ 11 := t_lv_le
    have tl0 := st.tl.1
    refine st.level (by omega) (br_p (fun c => ?_) (fun c => br_p (fun c2 => ?_) (fun c2 => ?_)))
    · have e0 : t_lv T inn i = 0 := nI_inj (by omega) (by decide) (c.trans nI_0.symm)
      have st := st.rw (r' := s_r v i) (fun _ => by rw [s_binL, e0]; rfl)
      exact st.ret (fun _ => rfl) (fun _ => rfl) (fun _ => li) q (fun _ => hm2) (fun _ => Nat.le_refl _) (fun gd => hn.sh gd) (fun _ => hn.nid)
    · have e0 : t_lv T inn i < least := (nI_lt_iff (by omega) (by omega)).mp c2
      have st := st.rw (r' := s_r v i) (fun _ => by rw [s_binL, show Nat.blt (t_lv T inn i) least = true from Nat.ble_eq_true_of_le e0, Bool.or_true]; rfl)
      exact st.ret (fun _ => rfl) (fun _ => rfl) (fun _ => li) q (fun _ => hm2) (fun _ => Nat.le_refl _) (fun gd => hn.sh gd) (fun _ => hn.nid)
    · have n0 : ¬ t_lv T inn i = 0 := fun z => c (by rw [z]; exact nI_0)
      have nl : least ≤ t_lv T inn i := by
        rcases Nat.lt_or_ge (t_lv T inn i) least with z | z
        · exact absurd ((nI_lt_iff (by omega) (by omega)).mpr z) c2
        · exact z
      have e1 : (t_lv T inn i == 0 || Nat.blt (t_lv T inn i) least) = false := by
        rw [beq_eq_false_iff_ne.mpr n0, Bool.false_or]
        cases hx : Nat.blt (t_lv T inn i) least with
        | false => rfl
        | true => exact absurd (Nat.le_of_ble_eq_true hx) (by omega)
      have hk := lv_ne n0
      have st := st.rw (r' := s_b (s_bin T (s_lv T ν) (w_x w).1 inn gg (t_lv T inn i + 1) (i + 1)) (fun y k => bif Nat.blt 3 (t_lv T inn i) then s_binL T inn (s_bin T (s_lv T ν) (w_x w).1 inn gg) least f (n_d 25 (t_opc T i)) k else bif n_mx v (t_opc T i) || n_mx y (t_opc T i) then none else s_binL T inn (s_bin T (s_lv T ν) (w_x w).1 inn gg) least f (n_d 26 (t_opc T i)) k)) (fun _ => by rw [s_binL, e1]; rfl)
      -- on with a new node
      have nxt : ∀ (u : mmS) (n : Int32) (v' : sN) (B : cA) (m' j h' : Nat) (wv4 wv5 wv6 : Option mmV), St T (shN T ν σ0) nid g w m0 e θ l0 (fun n u => Q (.inl (some (.inl n))) u) true h' w B m' e (s_binL T inn (s_bin T (s_lv T ν) (w_x w).1 inn gg) least f v' j) u j → 24 ≤ m' → m0 + 1 ≤ m' → (GD u → i + 1 ≤ j) → fN σ0 315 ≤ fN u 315 → ndK T ν (fN σ0 315) v' 1 n u →
          mm_W mt3108 (MC d) Q (96, [some (.inr (.inr (3, a))), some (.inl (nI least)), some (.inl (bI inn)), some (.inl n), wv4, wv5, wv6], []) u := fun u n v' B m' j h' wv4 wv5 wv6 st hm' hm3 hj hlo' hn' => by
        obtain ⟨h2, hh2, st2⟩ := st.lift 5 (by omega)
        exact IH true h2 B m' j 1 v' u n wv4 wv5 wv6 hh2 (fun gd => by have := hj gd; omega) (fun gd => by have := hj gd; omega) hm' hm3 hlo' hn' st2
      have w161 : ∀ (s0 : Int32), s0 = t_opc T i → mm_W mt3108 (MC d) Q (161, [some (.inr (.inr (3, a))), some (.inl (nI least)), some (.inl (bI inn)), some (.inl v3), some (.inl (nI (t_lv T inn i))), wv5, wv6], [.inl s0]) σ := fun s0 hs => by
        refine b3108_161 _ _ _ _ _ _ _ _ _ _ _ ?_
        rw [nI_1]
        have st := st.adv (NZ_g st.good (by rcases hk with hk | hk <;> rw [hk] <;> decide))
        have e315 : fN (mm_setf σ 311 (mm_f σ 311 + 1)) 315 = fN σ 315 := fN_eq (f_other (by decide))
        refine St.callP (h := 1) (c := 4) (m' := m + 12) (s := 1) (bb := decide (8 < t_lv T inn i + 1)) (Sh' := shN T ν) (N' := nid) (r1 := s_bin T (s_lv T ν) (w_x w).1 inn gg (t_lv T inn i + 1)) (fun en kk => ihb (t_lv T inn i + 1) d a (g + 1) inn w A (m + 12) e (i + 1) _ _ _ hw hsl hd (by rw [hw]; omega) (by omega) (by omega) (by omega) (by omega) en kk) (n_k 0) st (fun z => absurd z (by decide)) rfl (fun v' j B q' x u4 st hf4 hj4 hs4 hn4 => ?_)
        have hx := nd_of hs4 hn4
        have hx : ndK T ν (fN (mm_setf σ 311 (mm_f σ 311 + 1)) 315) v' q' x u4 := hx
        have hn4' : ndK T ν (fN σ0 315) v q v3 u4 := (hn.mono (Fr_adv (x := mm_f σ 311 + 1))).mono hf4
        have l4 := hf4.nn
        have mk : ∀ w2, (w2 == 4 || w2 == 35 || w2 == 9 || w2 == 10) = false → (w2 == 30 || w2 == 31) = false → (GD u4 → (bif Nat.blt 3 (t_lv T inn i) then s_binL T inn (s_bin T (s_lv T ν) (w_x w).1 inn gg) least f (n_d 25 (t_opc T i)) j else bif n_mx v (t_opc T i) || n_mx v' (t_opc T i) then none else s_binL T inn (s_bin T (s_lv T ν) (w_x w).1 inn gg) least f (n_d 26 (t_opc T i)) j) = s_binL T inn (s_bin T (s_lv T ν) (w_x w).1 inn gg) least f (n_d w2 s0) j) →
            mm_I (MC d) Q 3056 [.inr (.inr (3, a)), .inl w2, .inl v3, .inl x, .inl 0, .inl s0] u4 (fun x4 σ3 => mm_W mt3108 (MC d) Q (96, [some (.inr (.inr (3, a))), some (.inl (nI least)), some (.inl (bI inn)), some (.inl x4), some (.inl (nI (t_lv T inn i))), some (.inl s0), some (.inl x)], []) σ3) := fun w2 hw2 e8 hr => by
          have st := st.rw hr
          have h35 : (w2 == 35) = false := by
            simp only [Bool.or_eq_false_iff] at hw2
            exact hw2.1.1.2
          exact St.node5 (h := 0) st (by omega) (by omega) (fun n5 u5 st hf5 nw => nxt u5 n5 _ B _ j 0 _ _ _ st (by omega) (by omega) (fun gd => by have := hj4 (hf5.1 gd); omega) (by have := hf5.nn; omega) (ndK_d nw h0 (by omega) hw2 e8)) (Or.inl h35)
        refine br_p (fun c3 => ?_) (fun c3 => ?_)
        · have h3 : 3 < t_lv T inn i := (nI_lt_iff (a := 3) (by decide) (by omega)).mp c3
          exact mk 25 rfl rfl (fun _ => by rw [show Nat.blt 3 (t_lv T inn i) = true from Nat.ble_eq_true_of_le h3, cond_true, hs])
        · have h3 : Nat.blt 3 (t_lv T inn i) = false := by
            cases hx : Nat.blt 3 (t_lv T inn i) with
            | false => rfl
            | true => exact absurd ((nI_lt_iff (a := 3) (by decide) (by omega)).mpr (Nat.le_of_ble_eq_true hx)) c3
          refine st.mix2 (by omega) hn4' (fun z1 => st.mix2 (by omega) hx (fun z2 => ?_) (fun z2 => ?_)) (fun z1 => ?_)
          · exact mk 26 rfl rfl (fun gd => by rw [h3, cond_false, ← hs, z1 gd, z2 gd]; rfl)
          · refine St.fail (st.rw fun gd => ?_) (by omega) (fun _ => rfl) (fun u ng st hf => st.bad ng (nid_0 st.ci))
            rw [h3, cond_false, ← hs, z2 gd, Bool.or_true]; rfl
          · refine St.fail (st.rw fun gd => ?_) (by omega) (fun _ => rfl) (fun u ng st hf => st.bad ng (nid_0 st.ci))
            rw [h3, cond_false, ← hs, z1 gd]; rfl
      refine st.rdk (fun y hy _ => br_p (fun z => st.rdv (fun y2 hy2 => w161 _ ?_)) (fun z => st.rdv (fun y2 hy2 => w161 _ ?_)))
      · unfold t_opc t_kd
        rw [hy gd, z, ← hy2 gd]; rfl
      · unfold t_opc t_kd
        rw [hy gd, beq_eq_false_iff_ne.mpr z, ← hy2 gd]; rfl
theorem bin_0 : cBin T ν 0 := by
  intro least d a g inn w A m e i σ K X hw hsl hd hq hm h14 h1 h12
  omega
theorem bin_up {gg : Nat} (ih : cAsg T ν) (ihn : cNew T ν) (ihp : cPrm T ν) (ihu : cUna T ν) (ihb : cBin T ν gg) : cBin T ν (gg + 1) := by
  intro least d a g inn w A m e i σ K X hw hsl hd hq hm h14 h1 h12 en k
  obtain ⟨d, rfl, hd⟩ := mc_pos (c := 50 * ν + 36 + gg) (by omega)
  refine mc_ci (P := mt3108) (L := 7) rfl rfl ⟨by decide, Nat.le_of_ble_eq_true rfl⟩ fun Q hK hX => b3108_0 _ _ _ _ _ _ _ _ _ _ ?_
  have st := St.start (c := 4) (K := fun n u => Q (.inl (some (.inl n))) u) hq (by omega) en (fun n u rs => hK _ _ (k n u rs))
  have n1 := st.ci.2.1.2.1
  have hGQ := GQ_le ν
  have tl0 := st.tl.1
  rw [hw] at hq
  have hb8 : decide (8 < least) = true → 8 < least := fun z => of_decide_eq_true z
  have st : St T (shN T ν σ) nid g w m e (th σ) (i + 1) (fun n u => Q (.inl (some (.inl n))) u) (decide (8 < least)) 4 w A m e (s_b (bif t_kd T i 2 && Nat.ble least 8 && inn && t_wd T (i + 1) 21 then s_b (s_w (sA_pu (t_v T i)) () (i + 2)) (fun _ j => s_b (s_bin T (s_lv T ν) (w_x w).1 inn gg 9 j) (fun _ k => s_r (n_k 36) k)) else s_una T (s_lv T ν) (w_x w).1 true i) (fun n j => s_binL T inn (s_bin T (s_lv T ν) (w_x w).1 inn gg) least (t_e T + 1) n j)) σ i := st
  -- behind the first operand
  have loop : ∀ (u : mmS) (x : Int32) (v : sN) (q j h' m' : Nat) (B : cA) (wv4 wv5 wv6 : Option mmV), St T (shN T ν σ) nid g w m e (th σ) (i + 1) (fun n u => Q (.inl (some (.inl n))) u) true h' w B m' e (s_binL T inn (s_bin T (s_lv T ν) (w_x w).1 inn gg) least (t_e T + 1) v j) u j → 24 ≤ m' → m + q ≤ m' → Fr (th σ) σ u → (GD u → i + 1 ≤ j) → ndK T ν (fN σ 315) v q x u →
      mm_W mt3108 (MC d) Q (96, [some (.inr (.inr (3, a))), some (.inl (nI least)), some (.inl (bI inn)), some (.inl x), wv4, wv5, wv6], []) u := fun u x v q j h' m' B wv4 wv5 wv6 st hm1 hm2 fr hj hx => by
    obtain ⟨h2, hh2, st2⟩ := st.lift 5 (by omega)
    exact bin_loop (σ0 := σ) ihb hw hsl (by omega) (by omega) (by omega) (by omega) h12 n1 (t_e T + 1) true h2 B m' j q v u x wv4 wv5 wv6 hh2 hj (fun gd => by omega) hm1 hm2 fr.nn hx st2
  have una : (GD σ → (t_kd T i 2 && Nat.ble least 8 && inn && t_wd T (i + 1) 21) = false) → mm_I (MC d) Q 3109 [.inr (.inr (3, a)), .inl 1] σ (fun x3 σ2 => mm_W mt3108 (MC d) Q (96, [some (.inr (.inr (3, a))), some (.inl (nI least)), some (.inl (bI inn)), some (.inl x3), none, none, none], []) σ2) := fun hz => by
    have st := st.rw (r' := s_b (s_una T (s_lv T ν) (w_x w).1 true i) (fun n j => s_binL T inn (s_bin T (s_lv T ν) (w_x w).1 inn gg) least (t_e T + 1) n j)) (fun gd => by rw [hz gd]; rfl)
    refine St.callP (h := 4) (c := 0) (m' := m) (s := 1) (bb := true) (Sh' := shN T ν) (N' := nid) (r1 := s_una T (s_lv T ν) (w_x w).1 true) (fun en kk => c_unary (a := a) (pw := true) ih ihn ihp ihu hw hsl (by omega) (by rw [hw]; omega) hm en kk) (n_k 0) st (fun _ => rfl) rfl (fun v j B q x u st hf hj hs hn => ?_)
    exact loop u x v q j 4 (m + q) B _ _ _ st (by omega) (Nat.le_refl _) (hf.mono tl0) (fun gd => hj gd) (nd_of hs hn)
  have bl : least ≤ 8 → Nat.ble least 8 = true := Nat.ble_eq_true_of_le
  refine st.rdk (fun x1 hx1 _ => br_p (fun c1 => br_p (fun c2 => una fun gd => ?_) (fun c2 => br_p (fun c3 => una fun gd => ?_) (fun c3 => st.rdk1 (fun x2 hx2 hnz => br_p (fun c4 => st.rdv1 (fun x3 hx3 => br_p (fun c5 => ?_) (fun c5 => una fun gd => ?_))) (fun c4 => una fun gd => ?_))))) (fun c1 => una fun gd => ?_))
  · have h8 : 8 < least := (nI_lt_iff (a := 8) (by decide) (by omega)).mp c2
    have : Nat.ble least 8 = false := by
      cases hx : Nat.ble least 8 with
      | false => rfl
      | true => exact absurd (Nat.le_of_ble_eq_true hx) (by omega)
    rw [this, Bool.and_false]; rfl
  · rw [bI_0.mp c3, Bool.and_false]; rfl
  · -- a private name, and in
    have l8 : least ≤ 8 := by
      rcases Nat.lt_or_ge 8 least with z | z
      · exact absurd ((nI_lt_iff (a := 8) (by decide) (by omega)).mpr z) c2
      · exact z
    have bf : decide (8 < least) = false := decide_eq_false (by omega)
    rw [bf] at st
    have gd := st.good.2.1
    have ei : inn = true := by
      cases inn with
      | true => rfl
      | false => exact absurd rfl c3
    have k2 := (hx1 gd).trans c1
    have cnd : (t_kd T i 2 && Nat.ble least 8 && inn && t_wd T (i + 1) 21) = true := by
      rw [show t_kd T i 2 = true by unfold t_kd; rw [k2]; rfl, bl l8, ei, show t_wd T (i + 1) 21 = true by unfold t_wd; rw [hx2 gd, c4]; unfold t_v at hx3; rw [hx3 gd, c5]; rfl]; rfl
    have st := st.rw (r' := s_b (s_w (sA_pu (t_v T i)) () (i + 1)) (fun _ _ => s_b (s_bin T (s_lv T ν) (w_x w).1 inn gg 9 (i + 2)) (fun _ k => s_binL T inn (s_bin T (s_lv T ν) (w_x w).1 inn gg) least (t_e T + 1) (n_k 36) k))) (fun gd => by rw [cnd, cond_true, s_b_b]; simp only [s_b_b, s_b_r]; rfl)
    have st := st.rise (h' := 8 + 1262) gd (by omega)
    refine st.priv (by omega) rfl (by rw [k2]; decide) (fun u x B st hf hE => b3108_60 _ _ _ _ _ _ _ _ _ _ ?_)
    have st2 : St T (shN T ν σ) nid g w m e (th σ) (i + 1) (fun n u => Q (.inl (some (.inl n))) u) true 8 w B (m + 12 + 12) e (s_b (s_bin T (s_lv T ν) (w_x w).1 inn gg 9 (i + 2)) (fun _ k => s_binL T inn (s_bin T (s_lv T ν) (w_x w).1 inn gg) least (t_e T + 1) (n_k 36) k)) (mm_setf u 311 (mm_f u 311 + 1)) (i + 2) := by
      by_cases gdu : GD u
      · exact (st.adv (NZ_g (st.gd gdu) (by rw [hx2 gd, c4]; decide))).mono (by decide)
      · exact st.over gdu (hE gdu)
    refine St.callP (h := 4) (c := 4) (m' := m + 12 + 12) (s := 1) (bb := decide (8 < 9)) (Sh' := shN T ν) (N' := nid) (r1 := s_bin T (s_lv T ν) (w_x w).1 inn gg 9) (fun en kk => ihb 9 d a (g + 4) inn w B (m + 12 + 12) e (i + 2) _ _ _ hw hsl (by omega) (by rw [hw]; omega) (by omega) (by omega) (by decide) (by decide) en kk) (n_k 0) st2 (fun _ => rfl) rfl (fun v' j B' q' x' u4 st hf4 hj4 hs4 hn4 => ?_)
    have fr4 : Fr (th σ) σ (mm_setf u 311 (mm_f u 311 + 1)) := hf.trans (Fr.setf rfl (by decide) (by decide) (by decide) (by decide) (by decide) (by decide))
    have tl4 := st2.tl.1
    have tl5 := st.tl.1
    refine St.node (h := 3) st (by omega) (by omega) (fun n5 u5 st hf5 nw => ?_)
    exact loop u5 n5 (n_k 36) 1 j 3 _ B' _ _ _ st (by omega) (by omega) ((fr4.trans (hf4.mono tl4)).trans (hf5.mono tl5)) (fun gd => by have := hj4 (hf5.1 gd); omega) (ndK_new nw n1 (fr4.trans (hf4.mono tl4)).nn rfl)
  · rw [show t_wd T (i + 1) 21 = false by unfold t_wd; unfold t_v at hx3; rw [hx3 gd, beq_eq_false_iff_ne.mpr c5, Bool.and_false], Bool.and_false]
  · rw [show t_wd T (i + 1) 21 = false by unfold t_wd; rw [hx2 gd, beq_eq_false_iff_ne.mpr c4]; rfl, Bool.and_false]
  · rw [show t_kd T i 2 = false by unfold t_kd; rw [hx1 gd]; exact beq_eq_false_iff_ne.mpr c1]; rfl
theorem bin_all (ih : cAsg T ν) (ihn : cNew T ν) (ihp : cPrm T ν) (ihu : cUna T ν) : ∀ gg, cBin T ν gg
  | 0 => bin_0
  | gg + 1 => bin_up ih ihn ihp ihu (bin_all ih ihn ihp ihu gg)
end BIN
