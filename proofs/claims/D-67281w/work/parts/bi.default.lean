/-! PHASE 4. The module's own calls of item(), assign(), of what is behind default -/
theorem wOK_T : wOK wT := by unfold wOK wT; decide
section DEF0
variable {β : Type} {T : sT} {Sh : β → Nat → Int32 → mmS → Prop} {N : Int32 → mmS → Prop} {g : Nat} {m0 e0 : Nat} {θ : cTh} {l0 : Nat} {Z : Int32 → mmS → Prop} {b : Bool} {h : Nat} {A : cA} {m e : Nat} {r : sR β} {σ u : mmS} {i : Nat}
variable {d a : Nat} {Q : mmQ}
theorem it48 (a d g : Nat) (A : cA) (m e i : Nat) (σ : mmS) (K : Int32 → mmS → Prop) (X : Nat → mmS → Prop) (hd : 2410 ≤ d) (hq : g ≤ 1370) (hm : 24 ≤ m) (en : cG T wT A m e σ i ∨ (false = true ∧ cB T (g + 0) σ)) (k : ∀ n u, Rs T (shIt T σ) (nIt T i) g wT m e (th σ) (i + 1) A ((s_lv T 48).2.2.2.2.2.2.1 x_top i) σ n u → K n u) :
    mm_ci (MC d) 3065 [.inr (.inr (3, a))] σ K X := by
  obtain ⟨ih, ihn, ihu, ihl, hE, hR, hI, hS⟩ := all_nu (T := T) 47
  have hF : cFor T 47 := for_up ih hE hR hS
  have hsi : cSti T 47 := sti_up hI ih hE hR hS hF
  exact it_up2 hI ih hE hR ihl hsi a wT rfl d g A m e i σ K X hd hq hm en k
theorem St.nodeN {w : cW} {k x y z : Int32} {C : Int32 → mmS → Prop} (st : St T Sh N g wT m0 e0 θ l0 Z b (h + 1) w A m e r σ i) (hd : 3 ≤ d) (hm : 1 ≤ m) (kk : ∀ n u, St T Sh N g wT m0 e0 θ l0 Z b h w A (m - 1) e r u i → Fr (th σ) σ u → NwN σ k x y z 0 n u → (∀ s, 316 ≤ s → s ≤ 323 → ∀ i, i < fN σ 315 → mm_a u s i = mm_a σ s i) → C n u) (h35 : (k == 35) = false ∨ nid x σ := by exact Or.inl rfl) :
    mm_I (MC d) Q 3051 [.inr (.inr (3, a)), .inl k, .inl x, .inl y, .inl z] σ C := by
  obtain ⟨m, rfl⟩ : ∃ m', m = m' + 1 := ⟨m - 1, by omega⟩
  have u := lnB.use st.ci
  refine c_node hd st.ci.2.1 st.cap.1 (by omega) u.2.1 (fun v n => kk _ v (st.NS n h35) (Fr.NS n) ?_ ?_)
  · obtain ⟨n1, n2, n3, n4, n5, ⟨n6, n7, n8, n9, n10, n11, n12, n13⟩, -⟩ := n
    exact ⟨rfl, n2, n6, n7, n8, n9, n10, n12, n13, n3⟩
  · exact n.2.2.2.2.1
theorem def_enter {C : mmS → Prop} (st : St T Sh N g wT m0 e0 θ l0 Z false h wT A m e r σ i) (hd : 2 ≤ d) (k : ∀ u, St T Sh N g wT m0 e0 θ l0 Z false h (dn wT 47) A m e r u i → Fr (th σ) σ u → mm_f u 311 = mm_f σ 311 → C u) : mm_V (MC d) Q 3043 [.inr (.inr (3, a))] σ C := by
  have q := st.good
  refine c_enter hd st.ci.1 q.2.2.2.1.1 (by omega) (fun z => absurd z (by show ¬ 48 ≤ 48 - 48; decide)) (fun _ => ?_)
  have g2 := q.enter (ν := 47) rfl
  rw [q.2.2.2.1.1, nI_1] at g2
  exact k _ (st.sameW Fr_312' (fun _ => by rw [th_setf (by decide) (by decide) (by decide) (by decide)]; exact tle.rfl') (fun _ => g2) (fun c => c.setf rfl (by decide) (by decide) (by decide))) Fr_312 (f_other (by decide))
/-- function behind default -/
theorem def_fn {asy : Bool} {v1 : Int32} {wv2 wv3 wv4 : Option mmV} {C : Int32 → mmS → Prop} (hd : 2390 ≤ d) (hq : g + 420 ≤ 2700) (hm : 24 ≤ m) (en : cG T wT A m (e + 1) σ i ∨ (false = true ∧ cB T (g + 0) σ)) (hv : v1 = bI asy)
    (kk : ∀ n u, Rs T (fun (l : List Int32) _ n _ => l = [n]) any2 g wT (m - 1) e (th σ) i A (s_hoist T (s_lv T 47) asy true i) σ n u → C n u)
    (hC : ∀ x5 x6 u, C x6 u → nid x5 u → mm_V (MC d) Q 3040 [.inr (.inr (3, a)), .inl 8, .inl x6, .inl (-1)] u (fun σ7 => Q (.inl (some (.inl x5))) σ7)) :
    mm_V (MC d) Q 3043 [.inr (.inr (3, a))] σ (fun σ1 => mm_br (v1 = 0) (mm_W mt3041 (MC d) Q (104, [some (.inr (.inr (3, a))), some (.inl v1), wv2, wv3, wv4], [.inl 0, .inr (.inr (3, a))]) σ1) (mm_W mt3041 (MC d) Q (104, [some (.inr (.inr (3, a))), some (.inl v1), wv2, wv3, wv4], [.inl 2, .inr (.inr (3, a))]) σ1)) := by
  obtain ⟨ih, ihn, ihu, ihl, hE, hR, hI, hS⟩ := all_nu (T := T) 47
  have hG : cG T wT A m (e + 1) σ i := en.elim id fun z => absurd z.1 Bool.false_ne_true
  have st : St T (fun (l : List Int32) _ n _ => l = [n]) any2 g wT (m - 1) e (th σ) i C false 10 wT A m (e + 1) (s_hoist T (s_lv T 47) asy true i) σ i := Or.inl ⟨hG, tle.rfl', by omega, kk⟩
  refine def_enter st (by omega) (fun u st2 f2 _ => ?_)
  have w104 : mm_W mt3041 (MC d) Q (104, [some (.inr (.inr (3, a))), some (.inl v1), wv2, wv3, wv4], [.inl (flF asy false), .inr (.inr (3, a))]) u := by
    refine b3041_104 _ _ _ _ _ _ _ _ _ _ ?_
    have st2 := st2.rw (r' := s_b (s_hoist T (s_lv T 47) asy true i) (fun l k => s_r l k)) (fun _ => s_b_ret.symm)
    have hq2 : g + 10 + 400 ≤ GQ (w_nu (dn wT 47)) := by show _ ≤ GQ 47; unfold GQ; omega
    refine St.callR (h := 10) (c := 0) (m' := m) (e' := e) (θ1 := th u) (s := 0) (bb := false) (Sh' := shHo) (N' := any2) (r1 := s_hoist T (s_lv T 47) asy true) (C := fun _ σ1 => mm_L (mm_setf σ1 312 ((mm_f σ1 312) - 1)) 317 0 (fun x2 => mm_L (mm_setf σ1 312 ((mm_f σ1 312) - 1)) 318 0 (fun x3 => mm_I (MC d) Q 3051 [.inr (.inr (3, a)), .inl 77, .inl x2, .inl x3, .inl (mm_f (mm_setf σ1 312 ((mm_f σ1 312) - 1)) 346)] (mm_setf σ1 312 ((mm_f σ1 312) - 1)) (fun x5 σ4 => mm_L σ4 317 0 (fun x6 => mm_V (MC d) Q 3040 [.inr (.inr (3, a)), .inl 8, .inl x6, .inl (-1)] σ4 (fun σ7 => Q (.inl (some (.inl x5))) σ7)))))) (fun en kk => c_hoisted (w := dn wT 47) (unn := true) (m := m) hI hE hR rfl (by omega) hq2 hm en (fun u rs => kk 0 u rs)) [] st2 (fun z => z) rfl st2.tl.1 (fun v j4 B q n u4 st4 f4 hj4 hr4 hs4 hn4 => ?_)
    have ok : wOK wT := wOK_T
    have st5 : St T (fun (l : List Int32) _ n _ => l = [n]) any2 g wT (m - 1) e (th σ) i C true 10 wT B (m + q) e (s_r v j4) (mm_setf u4 312 (mm_f u4 312 - 1)) j4 := St.leave (w := wT) st4 (fun _ => by decide) ok
    have p5 : 0 < fN (mm_setf u4 312 (mm_f u4 312 - 1)) 315 := st5.ci.2.1.2.1
    refine st5.rdn (kk := 0) (by decide) nI_0.symm p5 (st5.rdn (kk := 0) (by decide) nI_0.symm p5 ?_)
    refine St.nodeN (h := 9) st5 (by omega) (by omega) (fun n5 u5 st6 f6 nw ns => ?_)
    have p6 : 0 < fN u5 315 := st6.ci.2.1.2.1
    refine st6.rdn (kk := 0) (by decide) nI_0.symm p6 (hC _ _ _ ?_ nw.nid)
    refine st6.ret (fun _ => rfl) (fun _ => rfl) (fun gd => hj4 (f6.1 gd)) (1 + q - 1) (fun _ => by omega) (fun _ => Nat.le_refl _) (fun gd => ?_) (fun _ => trivial)
    have h4 := hs4 (f6.1 gd)
    have e0 : mm_a u5 317 0 = mm_a u4 317 0 := ns 317 (by decide) (by decide) 0 p5
    rw [e0]
    exact h4
  refine br_p (fun z => ?_) (fun z => ?_)
  · have : asy = false := bI_0.mp (hv.symm.trans z)
    subst this
    exact w104
  · have : asy = true := by
      cases hx : asy with
      | true => rfl
      | false => exact absurd (by rw [hv, hx]; rfl) z
    subst this
    exact w104
end DEF0
