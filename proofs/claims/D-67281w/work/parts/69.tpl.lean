/-! PHASE 3. template(), superAt(), privateName() -/
theorem NZ_g {T : sT} {w : cW} {A : cA} {m e : Nat} {σ : mmS} {i : Nat} (q : cG T w A m e σ i) (h : T.1 i ≠ 0) : NZ T σ := ⟨i, q.2.2.1.1, kz_lt q.1 h, h⟩
def shT (T : sT) (ν : Nat) (σ : mmS) (_ : Unit) (q : Nat) (n : Int32) (u : mmS) : Prop := shN T ν σ (n_k 13) q n u
section TPL
variable {β : Type} {T : sT} {N : Int32 → mmS → Prop} {g : Nat} {w0 : cW} {m0 e0 : Nat} {θ : cTh} {l0 : Nat} {Z : Int32 → mmS → Prop} {b : Bool} {h : Nat} {w : cW} {A : cA} {m e : Nat} {σ σ0 : mmS} {i : Nat}
variable {ν a d : Nat} {Q : mmQ}
theorem St.rdr {Sh : β → Nat → Int32 → mmS → Prop} {r : sR β} {K : Int32 → Prop} (st : St T Sh N g w0 m0 e0 θ l0 Z b h w A m e r σ i) (k : ∀ x, K x) : mm_L σ 306 (mm_f σ 311) K := by
  obtain ⟨q, q1, q2, q3⟩ := st.p
  exact rd' q1 st.ci.2.2.2.2.2.2.1.2.2.2.2.2.1 (by omega) (by decide) (k _)
theorem tpl_loop (ih : cAsg T ν) (hw : w_nu w = ν) (hd : 50 * ν + 11 ≤ d) (hq : g + 8 ≤ GQ ν) (h0 : 1 ≤ fN σ0 315) {tag : Bool} {v1 : Int32} (htag : tag = false ↔ v1 = 0) (f : Nat) : ∀ (b : Bool) (h : Nat) (A : cA) (m i : Nat) (σ : mmS) (v2 v3 : Int32) (wv4 wv5 : Option mmV), 1 ≤ h → (GD σ → 3 ≤ h) → (GD σ → l0 ≤ i + 1) → (GD σ → t_e T < f + i) → 24 ≤ m → m0 ≤ m → (GD σ → T.1 i = 7) → fN σ0 315 ≤ fN σ 315 → (¬ v2 = 0 → own θ v3 σ) →
    St T (shT T ν σ0) nid g w m0 e θ l0 (fun n u => Q (.inl (some (.inl n))) u) b h w A m e (s_tplL T (s_lv T ν) (w_x w).1 tag f i) σ i → mm_W mt3076 (MC d) Q (4, [some (.inr (.inr (3, a))), some (.inl v1), some (.inl v2), some (.inl v3), wv4, wv5], []) σ := by
  have hGQ := GQ_le ν
  induction f with
  | zero =>
    intro b h A m i σ v2 v3 wv4 wv5 hh1 hh hl hf hm hm2 hk hn0 ho st
    refine b3076_4 _ _ _ _ _ _ _ _ _ (st.wrong (fun gd st => ?_) (fun ng => ?_))
    · have := hf gd
      have := (st.gd gd).2.2.1.2
      omega
    · refine (st.mono hh1).node (h := 0) (by omega) (by omega) (fun n u st hf nw => st.bad (fun z => ng (hf.1 z)) nw.nid)
  | succ f IH =>
    intro b h A m i σ v2 v3 wv4 wv5 hh1 hh hl hf hm hm2 hk hn0 ho st
    refine b3076_4 _ _ _ _ _ _ _ _ _ (st.wrong (fun gd st => ?_) (fun ng => ?_))
    · have st := st.mono (hh gd)
      have hi := hf gd
      have k7 := hk gd
      have tl0 := st.tl.1
      have nz := NZ_g st.good (by rw [k7]; decide)
      have st := st.rw (r' := bif decide (t_v T i < 0) && !tag then none else bif t_tl T i then s_r () (i + 1) else s_b (s_expr T (s_lv T ν) (w_x w).1 true (i + 1)) (fun _ k => bif t_kd T k 7 && !t_hd T k then s_tplL T (s_lv T ν) (w_x w).1 tag f k else none)) (fun _ => by rw [s_tplL])
      have go : (decide (t_v T i < 0) && !tag) = false → mm_W mt3076 (MC d) Q (32, [some (.inr (.inr (3, a))), some (.inl v1), some (.inl v2), some (.inl v3), wv4, wv5], []) σ := fun hc => by
        have st := st.f fun _ => hc
        refine b3076_32 _ _ _ _ _ _ _ _ _ (st.rdv (fun x1 _ => st.rdr (fun x2 => ?_)))
        refine st.node (h := 2) (by omega) (by omega) (fun n u st1 hf1 nw => ?_)
        have on := own_new nw hf1 st
        have nxt : ∀ (u2 : mmS) (y : Int32), St T (shT T ν σ0) nid g w m0 e θ l0 (fun n u => Q (.inl (some (.inl n))) u) false 2 w A (m - 1) e (bif t_tl T i then s_r () (i + 1) else s_b (s_expr T (s_lv T ν) (w_x w).1 true (i + 1)) (fun _ k => bif t_kd T k 7 && !t_hd T k then s_tplL T (s_lv T ν) (w_x w).1 tag f k else none)) u2 i → own θ n u2 → fN σ0 315 ≤ fN u2 315 → Fr θ σ u2 →
            mm_W mt3076 (MC d) Q (77, [some (.inr (.inr (3, a))), some (.inl v1), some (.inl y), some (.inl v3), some (.inl n), wv5], []) u2 := fun u2 y st on hn2 fr => by
          have nz := NZ_g st.good (by rw [k7]; decide)
          refine b3076_77 _ _ _ _ _ _ _ _ _ (st.rdg (fun x hx => br_p (fun c => ?_) (fun c => ?_)))
          · refine b3076_100 _ _ _ _ _ _ _ _ _ _ (br_y rfl ?_)
            have st := st.rw (r' := s_b (s_expr T (s_lv T ν) (w_x w).1 true (i + 1)) (fun _ k => bif t_kd T k 7 && !t_hd T k then s_tplL T (s_lv T ν) (w_x w).1 tag f k else none)) (fun gd => by
              rw [show t_tl T i = false by unfold t_tl; rw [hx gd, c]; rfl, cond_false])
            have st := st.adv nz
            refine St.call (c_expression (a := a) (inn := true) ih hw) (n_k 0) st (fun z => rfl) hd (by rw [hw]; omega) (by omega) rfl (fun v j B q x3 u3 st3 hf3 hj hs hn => ?_)
            have fr3 : Fr θ u2 u3 := by
              have := hf3.mono st.tl.1
              exact Fr.trans (Fr.setf rfl (by decide) (by decide) (by decide) (by decide) (by decide) (by decide)) this
            refine st3.setown (by decide) (on.mono fr3) (fun k k1 k2 st4 fk => ?_)
            have tst := own_sh st hf3 hs hn
            have stay : ∀ r', (GD (mm_seta u3 322 k x3) → (bif t_kd T j 7 && !t_hd T j then s_tplL T (s_lv T ν) (w_x w).1 tag f j else none) = r') → r' = none → mm_I (MC d) Q 3025 [.inr (.inr (3, a))] (mm_seta u3 322 k x3) (fun x9 σ8 => Q (.inl (some (.inl x9))) σ8) := fun r' hr e => by
              refine (st4.rw hr).fail (by omega) (fun _ => e) (fun u5 ng st5 hf5 => st5.bad ng (nid_0 st5.ci))
            refine st4.rdk (fun x4 hx4 _ => br_p (fun c7 => st4.rdg (fun x5 hx5 => br_p (fun c4 => ?_) (fun c4 => ?_))) (fun c7 => ?_))
            · obtain ⟨h2, hh2, st5⟩ := st4.lift 3 (by omega)
              by_cases gd5 : GD (mm_seta u3 322 k x3)
              · refine IH true h2 B (m - 1 + 12 + q) j _ y x3 _ _ (by have := hh2 gd5; omega) hh2 (fun gd2 => ?_) (fun gd2 => ?_) (by omega) (by omega) (fun gd2 => by rw [hx4 gd2, c7]) (by have := fr3.nn; show _ ≤ fN u3 315; omega) (fun _ => tst.mono fk) (st5.rw fun gd2 => ?_)
                · have := hl gd; have := hj gd2; omega
                · have := hj gd2; omega
                · rw [show t_kd T j 7 = true by unfold t_kd; rw [hx4 gd2, c7]; rfl, show t_hd T j = false by unfold t_hd; rw [hx5 gd2, c4]; rfl]; rfl
              · refine b3076_4 _ _ _ _ _ _ _ _ _ (br_n gd5 ?_)
                exact (st4.mono (Nat.le_refl 1)).node (h := 0) (by omega) (by omega) (fun n u st hf nw => st.bad (fun z => gd5 (hf.1 z)) nw.nid)
            · exact stay _ (fun gd2 => by rw [show t_hd T j = true by unfold t_hd; rw [hx5 gd2]; simp [c4], Bool.not_true, Bool.and_false]; rfl) rfl
            · exact stay _ (fun gd2 => by rw [show t_kd T j 7 = false by unfold t_kd; rw [hx4 gd2]; exact beq_eq_false_iff_ne.mpr c7]; rfl) rfl
          · refine b3076_100 _ _ _ _ _ _ _ _ _ _ (br_n (by decide) ?_)
            have st := st.rw (r' := s_r () (i + 1)) (fun gd => by rw [show t_tl T i = true by unfold t_tl; rw [hx gd]; simp [c], cond_true])
            have st := st.adv nz
            refine st.node (h := 1) (by omega) (by omega) (fun n6 u6 st6 hf6 nw6 => ?_)
            exact st6.ret (fun _ => rfl) (fun _ => rfl) (fun _ => hl gd) 1 (fun _ => by omega) (fun _ => Nat.le_refl _) (fun _ => sh_k nw6 h0 (by rw [fN_eq (f_other (by decide) : mm_f (mm_setf u2 311 (mm_f u2 311 + 1)) 315 = mm_f u2 315)]; exact hn2) rfl) (fun _ => nw6.nid)
        refine br_p (fun c => ?_) (fun c => ?_)
        · exact nxt u n st1 on (by have := hf1.nn; omega) (hf1.mono tl0)
        · refine st1.setown (by decide) ((ho c).mono hf1) (fun k k1 k2 st2 fk => ?_)
          exact nxt _ v2 st2 (on.mono fk) (by have := hf1.nn; show _ ≤ fN u 315; omega) ((hf1.mono tl0).trans fk)
      refine st.rdv (fun x hx => br_p (fun c => br_p (fun c1 => ?_) (fun c1 => go ?_)) (fun c => go ?_))
      · refine (st.t fun gd => by rw [hx gd, htag.mpr c1]; simp [c]).fail (by omega) (fun _ => rfl) (fun u ng st hf => st.bad ng (nid_0 st.ci))
      · cases tag with
        | true => exact Bool.and_false _
        | false => exact absurd (htag.mp rfl) c1
      · rw [hx gd]; simp [c]
    · refine (st.mono hh1).node (h := 0) (by omega) (by omega) (fun n u st hf nw => st.bad (fun z => ng (hf.1 z)) nw.nid)
theorem c_template {tag : Bool} {v1 : Int32} {K : Int32 → mmS → Prop} {X : Nat → mmS → Prop} (ih : cAsg T ν) (hw : w_nu w = ν) (hd : 50 * ν + 12 ≤ d) (hq : g + 8 ≤ GQ (w_nu w)) (hm : 24 ≤ m) (htag : tag = false ↔ v1 = 0) (k7 : T.1 i = 7) (en : cG T w A m e σ i ∨ (false = true ∧ cB T (g + 0) σ)) (k : ∀ n u, Rs T (shT T ν σ) nid g w m e (th σ) (i + 1) A (s_tplL T (s_lv T ν) (w_x w).1 tag (t_e T + 1) i) σ n u → K n u) :
    mm_ci (MC d) 3076 [.inr (.inr (3, a)), .inl v1] σ K X := by
  obtain ⟨d, rfl, hd⟩ := mc_pos (c := 50 * ν + 11) (by omega)
  refine mc_ci (P := mt3076) (L := 6) rfl rfl ⟨by decide, Nat.le_of_ble_eq_true rfl⟩ fun Q hK hX => b3076_0 _ _ _ _ _ _ _ _ _ ?_
  have st := St.start (q := 8) (K := fun n u => Q (.inl (some (.inl n))) u) hq (by decide) en (fun n u rs => hK _ _ (k n u rs))
  rw [hw] at hq
  obtain ⟨h2, hh2, st⟩ := st.lift 3 (by have := GQ_le ν; omega)
  have gd : GD σ := by
    rcases en with en | ⟨z, -⟩
    · exact en.2.1
    · exact absurd z (by decide)
  exact tpl_loop (σ0 := σ) ih hw (by omega) hq st.ci.2.1.2.1 htag (t_e T + 1) false h2 A m i σ 0 0 none none (by have := hh2 gd; omega) hh2 (fun _ => Nat.le_refl _) (fun _ => by omega) hm (Nat.le_refl _) (fun _ => k7) (Nat.le_refl _) (fun z => absurd rfl z) st
end TPL
