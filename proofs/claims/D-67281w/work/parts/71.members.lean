/-! PHASE 3. members() -/
def shB (T : sT) (ν lo : Nat) (v : sN) (q : Nat) (n : Int32) (u : mmS) : Prop := ∃ k, n = nI k ∧ shK T ν lo v q k u
/-- a node in any mode -/
def ndK (T : sT) (ν lo : Nat) (v : sN) (q : Nat) (n : Int32) (u : mmS) : Prop := ∃ k, n = nI k ∧ k < fN u 315 ∧ (GD u → shK T ν lo v q k u)
theorem ndK.mono {T : sT} {ν lo : Nat} {v : sN} {q : Nat} {n : Int32} {σ u : mmS} (h : ndK T ν lo v q n σ) (f : Fr (th σ) σ u) : ndK T ν lo v q n u := by
  obtain ⟨k, k1, k2, k3⟩ := h
  exact ⟨k, k1, Nat.lt_of_lt_of_le k2 f.nn, fun gd => (k3 (f.1 gd)).mono f gd⟩
theorem ndK.nid {T : sT} {ν lo : Nat} {v : sN} {q : Nat} {n : Int32} {u : mmS} (h : ndK T ν lo v q n u) : nid n u := by
  obtain ⟨k, k1, k2, -⟩ := h
  exact ⟨k, k1, k2⟩
theorem ndK.sh {T : sT} {ν lo : Nat} {v : sN} {q : Nat} {n : Int32} {u : mmS} (h : ndK T ν lo v q n u) (gd : GD u) : shB T ν lo v q n u := by
  obtain ⟨k, k1, k2, k3⟩ := h
  exact ⟨k, k1, k3 gd⟩
theorem ndK_new {T : sT} {ν lo : Nat} {σ u : mmS} {w x y z d n : Int32} (h : NwN σ w x y z d n u) (h0 : 1 ≤ lo) (hl : lo ≤ fN σ 315) (e5 : (w == 4 || w == 26 || w == 28 || w == 35 || w == 9 || w == 10) = false) (e8 : (w == 30 || w == 31) = false := by exact rfl) : ndK T ν lo (n_k w) 1 n u := by
  simp only [Bool.or_eq_false_iff, beq_eq_false_iff_ne] at e5
  obtain ⟨⟨⟨⟨⟨e1, e2⟩, e3⟩, e4⟩, e5⟩, e6⟩ := e5
  exact ⟨_, h.1, by rw [h.2.1]; omega, fun _ => sh_new h h0 hl rfl (fun q => absurd q e1) (fun q => absurd q (fun q => by rcases q with q | q; exact e2 q; exact e3 q)) rfl e4 (fun q => by rcases q with q | q; exact e5 q; exact e6 q) rfl e8⟩
theorem shK.lo {T : sT} {ν lo lo' : Nat} {v : sN} {q k : Nat} {u : mmS} (h : shK T ν lo v q k u) (h1 : 1 ≤ lo') (hl : lo' ≤ lo) : shK T ν lo' v q k u := by
  obtain ⟨s1, s2, s3, s4, s5⟩ := h
  exact ⟨⟨h1, s1.2⟩, by omega, s3, s4, fun z1 z2 => cvR.mono (s5 z1 z2) (Nat.le_refl _) hl (Nat.le_refl _) s3 (fun _ _ _ _ _ _ _ => rfl)⟩
section MEM
variable {β : Type} {T : sT} {Sh : β → Nat → Int32 → mmS → Prop} {N : Int32 → mmS → Prop} {g : Nat} {w0 : cW} {m0 e0 : Nat} {θ : cTh} {l0 : Nat} {Z : Int32 → mmS → Prop} {b : Bool} {h : Nat} {w : cW} {A : cA} {m e : Nat} {r : sR β} {σ σ0 : mmS} {i : Nat}
variable {ν a d : Nat} {Q : mmQ}
theorem St.signX {s : Int32} {Ak Bk : Int32 → mmS → Prop} (st : St T Sh N g w0 m0 e0 θ l0 Z b h w A m e r σ i) (hd : 1 ≤ d) (k0 : (GD σ → t_sg T i s = false) → Ak 0 σ) (k1 : (GD σ → t_sg T i s = true) → NZ T σ → Bk 1 σ) : mm_I (MC d) Q 3023 [.inr (.inr (3, a)), .inl s] σ (fun x u => mm_br (x = 0) (Ak x u) (Bk x u)) := by
  obtain ⟨q, q1, q2, q3⟩ := st.p
  refine c_isSign hd st.ci.1 q1 (by omega) ?_
  cases hz : t_sg T q s with
  | false => exact br_y rfl (k0 fun gd => by rw [← q3 gd]; exact hz)
  | true => exact br_n (by decide) (k1 (fun gd => by rw [← q3 gd]; exact hz) (NZ_sg st.ci q1 hz))
theorem mem_end {lo q : Nat} {v : sN} {v1 v2 v3 v4 : Int32} {wv5 : Option mmV} {ch : Bool} (hd : 4 ≤ d) (hm : 24 ≤ m) (hm2 : m0 + q ≤ m) (hm3 : ch = true → m0 + q + 1 ≤ m) (hc : ch = false ↔ v4 = 0) (hl : GD σ → l0 ≤ i) (h0 : 1 ≤ lo) (hlo : lo ≤ fN σ 315) (hn : ndK T ν lo v q v3 σ) (st : St T (shB T ν lo) nid g w m0 e θ l0 (fun n u => Q (.inl (some (.inl n))) u) b 1 w A m e (s_r (bif ch then n_ch v else v) i) σ i) :
    mm_W mt3084 (MC d) Q (343, [some (.inr (.inr (3, a))), some (.inl v1), some (.inl v2), some (.inl v3), some (.inl v4), wv5], []) σ := by
  refine b3084_343 _ _ _ _ _ _ _ _ _ (br_p (fun z => ?_) (fun z => ?_))
  · have e : ch = false := hc.mpr z
    subst e
    exact st.ret (fun _ => rfl) (fun _ => rfl) hl q (fun _ => hm2) (fun _ => Nat.le_refl _) (fun gd => hn.sh gd) (fun _ => hn.nid)
  · have e : ch = true := by
      cases ch with
      | true => rfl
      | false => exact absurd (hc.mp rfl) z
    subst e
    have hm3 := hm3 rfl
    obtain ⟨k, k1, k2, k3⟩ := id hn
    refine St.node (h := 0) st (by omega) (by omega) (fun n5 u5 st hf5 nw => ?_) (Or.inr hn.nid)
    refine st.ret (fun _ => rfl) (fun _ => rfl) (fun gd => hl (hf5.1 gd)) 1 (fun gd => by have := (k3 (hf5.1 gd)).1.2; omega) (fun _ => Nat.le_refl _) (fun gd => ?_) (fun _ => nw.nid)
    have gs := hf5.1 gd
    obtain ⟨s1, s2, s3, s4, -⟩ := k3 gs
    have s5 := s4.mono (by omega) k2 hf5 gd
    obtain ⟨n1, n2, n3, n4, n5', n6, n7, n8, n9, -⟩ := nw
    exact ⟨_, n1, ⟨h0, Nat.le_refl _⟩, hlo, by omega, ⟨n3, fun q => absurd (show (35 : Int32) = 4 from q) (by decide), fun q => absurd (show (35 : Int32) = 26 ∨ (35 : Int32) = 28 from q) (by decide), n9, fun _ => ⟨k, by rw [n4, k1], by omega, k2, s5.1⟩, n8, fun _ => rfl, show ¬ (35 : Int32) = 30 by decide, show ¬ (35 : Int32) = 31 by decide⟩, fun q => absurd (show (35 : Int32) = 9 ∨ (35 : Int32) = 10 from q) (by decide)⟩
theorem mem_loop {lo : Nat} {calls : Bool} (ih : cAsg T ν) (hw : w_nu w = ν) (hd : 50 * ν + 13 ≤ d) (hq : g + 14 ≤ GQ ν) (h0 : 1 ≤ lo) (f : Nat) : ∀ (b : Bool) (h : Nat) (A : cA) (m i q : Nat) (v : sN) (σ : mmS) (v1 v3 v4 : Int32) (ch : Bool) (wv5 : Option mmV), 1 ≤ h → (GD σ → 4 ≤ h) → (GD σ → l0 ≤ i) → (GD σ → t_e T < f + i) → 24 ≤ m → m0 + q ≤ m → (ch = true → m0 + q + 1 ≤ m) → (ch = false ↔ v4 = 0) → lo ≤ fN σ 315 → ndK T ν lo v q v3 σ →
    St T (shB T ν lo) nid g w m0 e θ l0 (fun n u => Q (.inl (some (.inl n))) u) b h w A m e (s_memL T (s_lv T ν) (w_x w).1 calls f v ch i) σ i → mm_W mt3084 (MC d) Q (5, [some (.inr (.inr (3, a))), some (.inl v1), some (.inl (bI calls)), some (.inl v3), some (.inl v4), wv5], []) σ := by
  have hGQ := GQ_le ν
  have bad : ∀ (b : Bool) (h : Nat) (A : cA) (m i q : Nat) (v : sN) (r : sR sN) (σ : mmS) (v1 v3 v4 : Int32) (wv5 : Option mmV), 1 ≤ h → 24 ≤ m → lo ≤ fN σ 315 → nid v3 σ → ¬ GD σ → St T (shB T ν lo) nid g w m0 e θ l0 (fun n u => Q (.inl (some (.inl n))) u) b h w A m e r σ i →
      mm_W mt3084 (MC d) Q (343, [some (.inr (.inr (3, a))), some (.inl v1), some (.inl (bI calls)), some (.inl v3), some (.inl v4), wv5], []) σ := by
    intro b h A m i q v r σ v1 v3 v4 wv5 h1 hm hlo hn ng st
    refine b3084_343 _ _ _ _ _ _ _ _ _ (br_p (fun z => st.bad ng hn) (fun z => ?_))
    exact (st.mono h1).node (h := 0) (by omega) (by omega) (fun n u st hf nw => st.bad (fun z => ng (hf.1 z)) nw.nid) (Or.inr hn)
  induction f with
  | zero =>
    intro b h A m i q v σ v1 v3 v4 ch wv5 h1 hh hl hf hm hm2 hm3 hc hlo hn st
    refine b3084_5 _ _ _ _ _ _ _ _ _ (st.wrong (fun gd st => ?_) (fun ng => bad b h A m i q v _ σ v1 v3 v4 wv5 h1 hm hlo hn.nid ng st))
    have := hf gd
    have := (st.gd gd).2.2.1.2
    omega
  | succ f IH =>
    intro b h A m i q v σ v1 v3 v4 ch wv5 h1 hh hl hf hm hm2 hm3 hc hlo hn st
    refine b3084_5 _ _ _ _ _ _ _ _ _ (st.wrong (fun gd st => ?_) (fun ng => bad b h A m i q v _ σ v1 v3 v4 wv5 h1 hm hlo hn.nid ng st))
    have st := st.mono (hh gd)
    have hi := hf gd
    have li := hl gd
    -- on with a new node
    have nxt : ∀ (u : mmS) (n : Int32) (w2 : Int32) (B : cA) (m' j h' : Nat) (ch' : Bool) (v4' : Int32) (wv : Option mmV), St T (shB T ν lo) nid g w m0 e θ l0 (fun n u => Q (.inl (some (.inl n))) u) true h' w B m' e (s_memL T (s_lv T ν) (w_x w).1 calls f (n_k w2) ch' j) u j → 1 ≤ h' → 24 ≤ m' → (GD u → m0 + 1 ≤ m') → (GD u → ch' = true → m0 + 2 ≤ m') → (GD u → i + 1 ≤ j) → (ch' = false ↔ v4' = 0) → lo ≤ fN u 315 → ndK T ν lo (n_k w2) 1 n u →
        mm_W mt3084 (MC d) Q (5, [some (.inr (.inr (3, a))), some (.inl v1), some (.inl (bI calls)), some (.inl n), some (.inl v4'), wv], []) u := fun u n w2 B m' j h' ch' v4' wv st h1' hm' hm3 hm4 hj hc' hlo' hn' => by
      by_cases gd2 : GD u
      · exact IH true 4 B m' j 1 (n_k w2) u v1 n v4' ch' wv (by decide) (fun _ => Nat.le_refl _) (fun gd => by have := hj gd; omega) (fun gd => by have := hj gd; omega) hm' (hm3 gd2) (hm4 gd2) hc' hlo' hn' (st.rise gd2 (by omega))
      · exact b3084_5 _ _ _ _ _ _ _ _ _ (br_n gd2 (bad true h' B m' j 1 (n_k w2) _ u v1 n v4' wv h1' hm' hlo' hn'.nid gd2 st))
    -- behind a dot or ?.
    have dot : ∀ (u : mmS) (v5 v4' : Int32) (m' j : Nat) (ch' : Bool) (R : sR sN), St T (shB T ν lo) nid g w m0 e θ l0 (fun n u => Q (.inl (some (.inl n))) u) false 4 w A m' e (bif t_kd T j 2 then s_b (s_w (sA_pu (t_v T j)) () (j + 1)) (fun _ k => s_memL T (s_lv T ν) (w_x w).1 calls f (n_k 16) ch' k) else bif t_kd T j 1 then s_memL T (s_lv T ν) (w_x w).1 calls f (n_k 14) ch' (j + 1) else R) u j → (R = none ∨ T.1 j = 1 ∨ T.1 j = 2) → 24 ≤ m' → m0 ≤ m' → (ch' = true → m0 + 1 ≤ m') → i + 1 ≤ j → (ch' = false ↔ v4' = 0) → lo ≤ fN u 315 →
        mm_W mt3084 (MC d) Q (111, [some (.inr (.inr (3, a))), some (.inl v1), some (.inl (bI calls)), some (.inl v3), some (.inl v4'), some (.inl v5)], []) u := fun u v5 v4' m' j ch' R st hR hm' hm3 hm4 hj hc' hlo' => by
      have gdu := st.good.2.1
      refine b3084_111 _ _ _ _ _ _ _ _ _ (st.rdk (fun x hx hnz => br_p (fun c => ?_) (fun c => ?_)))
      · have st := st.t (fun _ => by unfold t_kd; rw [hx gdu, c]; rfl)
        refine st.priv (by omega) rfl (by rw [hx gdu, c]; decide) (fun u2 y B st2 hf2 _ => ?_)
        have k : ∀ z5, mm_I (MC d) Q 3051 [.inr (.inr (3, a)), .inl 16, .inl v3, .inl y, .inl z5] u2 (fun x σ4 => mm_W mt3084 (MC d) Q (5, [some (.inr (.inr (3, a))), some (.inl v1), some (.inl (bI calls)), some (.inl x), some (.inl v4'), some (.inl v5)], []) σ4) := fun z5 =>
          St.node (h := 3) st2 (by omega) (by omega) (fun n3 u3 st3 hf3 nw => nxt u3 n3 16 B _ (j + 1) 3 ch' v4' _ st3 (by decide) (by omega) (fun _ => by omega) (fun _ z => by first | (have := hm4 z; omega) | omega) (fun _ => by omega) hc' (by have := hf2.nn; have := hf3.nn; omega) (ndK_new nw h0 (by have := hf2.nn; omega) rfl))
        exact br_p (fun _ => k 0) (fun _ => k 1)
      · have st := st.f (fun _ => by unfold t_kd; rw [hx gdu]; exact beq_eq_false_iff_ne.mpr c)
        refine st.rdk (fun x1 hx1 hnz => br_p (fun c1 => ?_) (fun c1 => ?_))
        · have st := st.t (fun _ => by unfold t_kd; rw [hx1 gdu, c1]; rfl)
          have nz := hnz (by rw [c1]; decide)
          refine st.rdv (fun y _ => ?_)
          have k : ∀ z5, mm_W mt3084 (MC d) Q (185, [some (.inr (.inr (3, a))), some (.inl v1), some (.inl (bI calls)), some (.inl v3), some (.inl v4'), some (.inl v5)], [.inl z5, .inl y, .inl v3, .inl 14, .inr (.inr (3, a))]) u := fun z5 => by
            refine b3084_185 _ _ _ _ _ _ _ _ _ _ _ _ _ _ (St.node (h := 3) st (by omega) (by omega) (fun n3 u3 st3 hf3 nw => ?_))
            have g3 := st3.good
            have st4 := st3.adv (NZ_g g3 (by rw [hx1 gdu, c1]; decide))
            exact nxt _ n3 14 A _ (j + 1) 3 ch' v4' _ st4.weak (by decide) (by omega) (fun _ => by omega) (fun _ z => by first | (have := hm4 z; omega) | omega) (fun _ => by omega) hc' (by rw [fN_eq (f_other (by decide) : mm_f (mm_setf u3 311 (mm_f u3 311 + 1)) 315 = mm_f u3 315)]; have := hf3.nn; omega) ((ndK_new nw h0 hlo' rfl).mono Fr_adv)
          exact br_p (fun _ => k 0) (fun _ => k 1)
        · have e : R = none := by
            rcases hR with hR | hR | hR
            · exact hR
            · exact absurd ((hx1 gdu).symm.trans hR) c1
            · exact absurd ((hx gdu).symm.trans hR) c
          refine (st.f (fun _ => by unfold t_kd; rw [hx1 gdu]; exact beq_eq_false_iff_ne.mpr c1)).fail (by omega) (fun _ => e) (fun u ng st hf => st.bad ng (nid_0 st.ci))
    -- brackets, calls, templates
    have br : ∀ (u : mmS) (v5 v4' : Int32) (m' j : Nat) (ch' asks : Bool), St T (shB T ν lo) nid g w m0 e θ l0 (fun n u => Q (.inl (some (.inl n))) u) false 4 w A m' e (bif t_sg T j 4 then s_b (s_expr T (s_lv T ν) (w_x w).1 true (j + 1)) (fun _ k => s_b (s_nd T 5 k) (fun _ q => s_memL T (s_lv T ν) (w_x w).1 calls f (n_k 15) ch' q)) else bif calls && t_sg T j 2 then s_b (s_args T (s_lv T ν) (w_x w).1 j) (fun _ q => s_memL T (s_lv T ν) (w_x w).1 calls f (n_k 17) ch' q) else bif asks then none else bif t_kd T j 7 && t_hd T j then (bif ch' then none else s_b (s_tpl T (s_lv T ν) (w_x w).1 true j) (fun _ k => s_memL T (s_lv T ν) (w_x w).1 calls f (n_k 13) ch' k)) else s_r (bif ch' then n_ch v else v) j) u j → (asks = false ↔ v5 = 0) → (asks = true → ¬ T.1 j = 7) → 24 ≤ m' → m0 + q ≤ m' → (ch' = true → m0 + q + 1 ≤ m') → i ≤ j → (ch' = false ↔ v4' = 0) → lo ≤ fN u 315 → ndK T ν lo v q v3 u →
        mm_W mt3084 (MC d) Q (207, [some (.inr (.inr (3, a))), some (.inl v1), some (.inl (bI calls)), some (.inl v3), some (.inl v4'), some (.inl v5)], []) u := fun u v5 v4' m' j ch' asks st has h7 hm' hm3 hm4 hj hc' hlo' hn' => by
      have gdu := st.good.2.1
      have bi {X1 X2 : Prop} (x1 : X1) (x2 : X2) : mm_br (v5 = 0) X1 X2 := br_p (fun _ => x1) (fun _ => x2)
      have end2 : (asks = false → t_kd T j 7 = false ∨ t_hd T j = false) → ((t_sg T j 4 = false) → (calls && t_sg T j 2) = false → mm_br (v5 = 0) (mm_W mt3084 (MC d) Q (343, [some (.inr (.inr (3, a))), some (.inl v1), some (.inl (bI calls)), some (.inl v3), some (.inl v4'), some (.inl v5)], []) u) (mm_I (MC d) Q 3025 [.inr (.inr (3, a))] u (fun x10 σ9 => Q (.inl (some (.inl x10))) σ9))) := fun h78 z4 z2 => by
        have st := (st.f fun _ => z4).f fun _ => z2
        refine br_p (fun z => ?_) (fun z => ?_)
        · have ea := has.mpr z
          have st := st.f (fun _ => ea)
          refine mem_end (by omega) hm' hm3 hm4 hc' (fun _ => by omega) h0 hlo' hn' ((st.f (fun _ => ?_)).mono (by decide))
          rcases h78 ea with e | e
          · rw [e]; rfl
          · rw [e, Bool.and_false]
        · have ea : asks = true := by
            cases asks with
            | true => rfl
            | false => exact absurd (has.mp rfl) z
          exact (st.t fun _ => ea).fail (by omega) (fun _ => rfl) (fun u ng st hf => st.bad ng (nid_0 st.ci))
      have tp : (t_sg T j 4 = false) → (calls && t_sg T j 2) = false → mm_W mt3084 (MC d) Q (283, [some (.inr (.inr (3, a))), some (.inl v1), some (.inl (bI calls)), some (.inl v3), some (.inl v4'), some (.inl v5)], []) u := fun z4 z2 => by
        refine b3084_283 _ _ _ _ _ _ _ _ _ (st.rdk (fun x hx hnz => br_p (fun c => st.rdg (fun y hy => br_p (fun c4 => ?_) (fun c4 => ?_))) (fun c => ?_)))
        · exact end2 (fun _ => Or.inr (by unfold t_hd; rw [hy gdu, c4]; rfl)) z4 z2
        · have ea : asks = false := by
            cases asks with
            | false => rfl
            | true => exact absurd ((hx gdu).trans c) (h7 rfl)
          have st := (((st.f fun _ => z4).f fun _ => z2).f fun _ => ea).t (fun _ => by rw [show t_kd T j 7 = true by unfold t_kd; rw [hx gdu, c]; rfl, show t_hd T j = true by unfold t_hd; rw [hy gdu]; simp [c4]]; rfl)
          refine br_p (fun c0 => ?_) (fun c0 => ?_)
          · have ec : ch' = false := hc'.mpr c0
            have st := st.f (fun _ => ec)
            have hv3 : (true = false ↔ v3 = 0) := by
              obtain ⟨k, k1, k2, k3⟩ := hn'
              have s1 := (k3 gdu).1
              have s2 := (k3 gdu).2.1
              have := st.cap.1
              refine ⟨fun z => absurd z (by decide), fun z => ?_⟩
              rw [k1] at z
              exact absurd z (nI_ne0 (by omega) (by omega))
            have st := st.rw (r' := s_b (s_tplL T (s_lv T ν) (w_x w).1 true (t_e T + 1) j) (fun _ k => s_memL T (s_lv T ν) (w_x w).1 calls f (n_k 13) ch' k)) (fun _ => by rw [s_tpl, s_b_b]; simp only [s_b_r])
            refine st.callP (h := 4) (c := 0) (fun en kk => c_template (a := a) ih hw (by omega) (by rw [hw]; omega) hm' hv3 ((hx gdu).trans c) en kk) () (fun z => z) rfl (fun v2 j2 B q2 x4 u4 st hf4 hj4 hs4 hn4 => ?_)
            obtain ⟨k, k1, k2, k3⟩ := nd_of hs4 hn4
            refine nxt u4 x4 13 B _ j2 4 ch' v4' _ st (by decide) (by omega) (fun gd => by have := (k3 gd).1.2; omega) (fun gd z => by have := (k3 gd).1.2; have := hm4 z; omega) (fun gd => by have := hj4 gd; omega) hc' (by have := hf4.nn; omega) ⟨k, k1, k2, fun gd => by
              obtain ⟨s1, s2, s3, s4, s5⟩ := k3 gd
              exact ⟨⟨h0, Nat.le_refl _⟩, by omega, s3, s4, fun z => absurd (show (13 : Int32) = 9 ∨ (13 : Int32) = 10 from z) (by decide)⟩⟩
          · have ec : ch' = true := by
              cases ch' with
              | true => rfl
              | false => exact absurd (hc'.mp rfl) c0
            exact (st.t fun _ => ec).fail (by omega) (fun _ => rfl) (fun u ng st hf => st.bad ng (nid_0 st.ci))
        · exact end2 (fun _ => Or.inl (by unfold t_kd; rw [hx gdu]; exact beq_eq_false_iff_ne.mpr c)) z4 z2
      refine b3084_207 _ _ _ _ _ _ _ _ _ (st.eat (by omega) (fun z4 => br_p (fun c => ?_) (fun c => ?_)) (fun u2 z4 st hf2 => ?_))
      · exact tp (z4 gdu) (by rw [bI_0.mp c]; rfl)
      · have ec : calls = true := by
          cases calls with
          | true => rfl
          | false => exact absurd rfl c
        refine st.sign (by omega) (fun z2 => tp (z4 gdu) (by rw [z2 gdu, Bool.and_false])) (fun z2 nz => ?_)
        have st := (st.f z4).t (fun gd => by rw [ec, z2 gd]; rfl)
        refine st.callP (h := 3) (fun en kk => c_arguments ih hw (by omega) (by rw [hw]; omega) (by omega) nz en kk) () (fun z => z) rfl (fun v2 j2 B q2 x4 u4 st hf4 hj4 hs4 hn4 => ?_)
        have k : ∀ z5, mm_I (MC d) Q 3051 [.inr (.inr (3, a)), .inl 17, .inl v3, .inl x4, .inl z5] u4 (fun x σ4 => mm_W mt3084 (MC d) Q (5, [some (.inr (.inr (3, a))), some (.inl v1), some (.inl (bI calls)), some (.inl x), some (.inl v4'), some (.inl v5)], []) σ4) := fun z5 =>
          St.node (h := 2) st (by omega) (by omega) (fun n3 u3 st3 hf3 nw => nxt u3 n3 17 B _ j2 2 ch' v4' _ st3 (by decide) (by omega) (fun _ => by omega) (fun _ z => by have := hm4 z; omega) (fun gd => by have := hj4 (hf3.1 gd); omega) hc' (by have := hf4.nn; have := hf3.nn; omega) (ndK_new nw h0 (by have := hf4.nn; omega) rfl))
        exact bi (k 0) (k 1)
      · have st := st.t (fun gd => z4 (hf2.1 gd))
        refine St.call (c_expression (a := a) (inn := true) ih hw) (n_k 0) st (fun z => rfl) (by omega) (by rw [hw]; omega) (by omega) rfl (fun v2 j2 B q2 x4 u4 st hf4 hj4 hs4 hn4 => ?_)
        have k : ∀ z5, mm_I (MC d) Q 3051 [.inr (.inr (3, a)), .inl 15, .inl v3, .inl x4, .inl z5] u4 (fun x σ4 => mm_V (MC d) Q 3036 [.inr (.inr (3, a)), .inl 5] σ4 (fun σ15 => mm_W mt3084 (MC d) Q (5, [some (.inr (.inr (3, a))), some (.inl v1), some (.inl (bI calls)), some (.inl x), some (.inl v4'), some (.inl v5)], []) σ15)) := fun z5 =>
          St.node (h := 2) st (by omega) (by omega) (fun n3 u3 st3 hf3 nw => st3.need (by omega) (fun u5 st5 hf5 _ => nxt u5 n3 15 B _ (j2 + 1) 2 ch' v4' _ st5 (by decide) (by omega) (fun _ => by omega) (fun _ z => by have := hm4 z; omega) (fun gd => by have := hj4 (hf3.1 (hf5.1 gd)); omega) hc' (by have := hf2.nn; have := hf4.nn; have := hf3.nn; have := hf5.nn; omega) ((ndK_new nw h0 (by have := hf2.nn; have := hf4.nn; omega) rfl).mono hf5)))
        exact bi (k 0) (k 1)
    refine st.signX (by omega) (fun z38 => br_y rfl ?_) (fun z38 nz => br_p (fun c => ?_) (fun c => ?_))
    · have z38 := z38 gd
      refine st.eat (by omega) (fun z6 => ?_) (fun u2 z6 st hf2 => ?_)
      · refine b3084_80 _ _ _ _ _ _ _ _ _ (br_y rfl ?_)
        refine br σ 0 v4 m i ch false (st.rw fun gd => ?_) (by simp) (fun z => absurd z (by decide)) hm hm2 hm3 (Nat.le_refl _) hc hlo hn
        rw [s_memL, z38, z6 gd]; rfl
      · have z6' := z6 gd
        refine dot u2 0 v4 (m + 12) (i + 1) ch none (st.rw fun gd => ?_) (Or.inl rfl) (by omega) (by omega) (fun z => by have := hm3 z; omega) (by omega) hc (by have := hf2.nn; omega)
        rw [s_memL, z38, z6']; rfl
    · refine st.fail (by omega) (fun gd => ?_) (fun u ng st hf => st.bad ng (nid_0 st.ci))
      rw [s_memL, z38 gd, bI_0.mp c]; rfl
    · have ec : calls = true := by
        cases calls with
        | true => rfl
        | false => exact absurd rfl c
      have z38 := z38 gd
      have st0 := st
      have st := st.adv nz
      have e5 : fN (mm_setf σ 311 (mm_f σ 311 + 1)) 315 = fN σ 315 := fN_eq (f_other (by decide))
      refine st.rdk (fun x hx hnz => br_p (fun c7 => ?_) (fun c7 => br_n (by decide) ?_))
      · refine st.fail (by omega) (fun gd => ?_) (fun u ng st hf => st.bad ng (nid_0 st.ci))
        rw [s_memL, z38, ec, show t_kd T (i + 1) 7 = true by unfold t_kd; rw [hx gd, c7]; rfl]; rfl
      · have h7 : t_kd T (i + 1) 7 = false := by unfold t_kd; rw [hx gd]; exact beq_eq_false_iff_ne.mpr c7
        have dt : (T.1 (i + 1) = 1 ∨ T.1 (i + 1) = 2) → mm_W mt3084 (MC d) Q (111, [some (.inr (.inr (3, a))), some (.inl v1), some (.inl (bI calls)), some (.inl v3), some (.inl 1), some (.inl 1)], []) (mm_setf σ 311 (mm_f σ 311 + 1)) := fun z =>
          dot _ 1 1 (m + 12) (i + 1) true (bif t_sg T (i + 1) 4 then s_b (s_expr T (s_lv T ν) (w_x w).1 true (i + 2)) (fun _ m => s_b (s_nd T 5 m) (fun _ q => s_memL T (s_lv T ν) (w_x w).1 calls f (n_k 15) true q)) else bif t_sg T (i + 1) 2 then s_b (s_args T (s_lv T ν) (w_x w).1 (i + 1)) (fun _ q => s_memL T (s_lv T ν) (w_x w).1 calls f (n_k 17) true q) else none) (st.rw fun gd => by rw [s_memL, z38, ec, h7]; rfl) (Or.inr z) (by omega) (by omega) (fun _ => by omega) (by omega) (by decide) (by omega)
        refine b3084_80 _ _ _ _ _ _ _ _ _ (br_n (by decide) (st.rdk (fun x1 hx1 _ => br_p (fun c1 => dt (Or.inl ((hx1 gd).trans c1))) (fun c1 => st.rdk (fun x2 hx2 _ => br_p (fun c2 => dt (Or.inr ((hx2 gd).trans c2))) (fun c2 => ?_))))))
        refine br _ 1 1 (m + 12) (i + 1) true true (st.rw fun gd => ?_) (by decide) (fun _ z => c7 ((hx gd).symm.trans z)) (by omega) (by omega) (fun _ => by omega) (by omega) (by decide) (by omega) (hn.mono Fr_adv)
        rw [s_memL, z38, ec, h7, show t_kd T (i + 1) 2 = false by unfold t_kd; rw [hx2 gd]; exact beq_eq_false_iff_ne.mpr c2, show t_kd T (i + 1) 1 = false by unfold t_kd; rw [hx1 gd]; exact beq_eq_false_iff_ne.mpr c1]; rfl
theorem c_members {K : Int32 → mmS → Prop} {X : Nat → mmS → Prop} {lo q : Nat} {v : sN} {n : Int32} {calls bb : Bool} (ih : cAsg T ν) (hw : w_nu w = ν) (hd : 50 * ν + 14 ≤ d) (hq : g + 14 ≤ GQ (w_nu w)) (hm : 24 ≤ m) (h0 : 1 ≤ lo) (hlo : lo ≤ fN σ 315) (hn : ndK T ν lo v q n σ) (en : cG T w A (m + q) e σ i ∨ (bb = true ∧ cB T (g + 4) σ)) (k : ∀ n u, Rs T (shB T ν lo) nid g w m e (th σ) i A (s_mem T (s_lv T ν) (w_x w).1 calls v i) σ n u → K n u) :
    mm_ci (MC d) 3084 [.inr (.inr (3, a)), .inl n, .inl (bI calls)] σ K X := by
  obtain ⟨d, rfl, hd⟩ := mc_pos (c := 50 * ν + 13) (by omega)
  refine mc_ci (P := mt3084) (L := 6) rfl rfl ⟨by decide, Nat.le_of_ble_eq_true rfl⟩ fun Q hK hX => b3084_0 _ _ _ _ _ _ _ _ _ ?_
  have st := St.startM (q := 14) (K := fun n u => Q (.inl (some (.inl n))) u) hq (by decide) en (fun n u rs => hK _ _ (k n u rs))
  rw [hw] at hq
  exact mem_loop ih hw (by omega) hq h0 (t_e T + 1) bb 4 A (m + q) i q v σ n n 0 false none (by decide) (fun _ => Nat.le_refl _) (fun _ => Nat.le_refl _) (fun _ => by omega) (by omega) (Nat.le_refl _) (fun z => absurd z (by decide)) (by decide) hlo hn st
end MEM
