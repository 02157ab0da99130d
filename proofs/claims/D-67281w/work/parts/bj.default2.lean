/-! PHASE 4. A class behind default; an expression behind it; defaultAt() -/
/-- a class behind default, with a name or without -/
def s_dcls (T : sT) (i : Nat) : sR (List Int32) := bif t_id T i then s_b (s_named T 1 i) (fun b k => s_b (s_class T (s_lv T 47) x_top.1 k) (fun _ q => s_r b.2 q)) else
     s_b (s_w (sA_ev 9 59) () i) (fun _ k => s_b (s_class T (s_lv T 47) x_top.1 k) (fun _ q => s_r [59] q))
section DEF2
variable {β : Type} {T : sT} {Sh : β → Nat → Int32 → mmS → Prop} {N : Int32 → mmS → Prop} {g : Nat} {m0 e0 : Nat} {θ : cTh} {l0 : Nat} {Z : Int32 → mmS → Prop} {b : Bool} {h : Nat} {A : cA} {m e : Nat} {r : sR β} {σ u : mmS} {i : Nat}
variable {d a : Nat} {Q : mmQ}
theorem def_cls {v1 : Int32} {wv2 wv3 wv4 : Option mmV} {C : Int32 → mmS → Prop} (hd : 2390 ≤ d) (hq : g + 700 ≤ 2700) (hm : 24 ≤ m) (en : cG T wT A (m + 12) (e + 2) σ i ∨ (false = true ∧ cB T (g + 0) σ))
    (kk : ∀ n u, Rs T (fun (l : List Int32) _ n _ => l = [n]) any2 g wT m e (th σ) i A (s_dcls T i) σ n u → C n u)
    (hC : ∀ x4 v3 u, C v3 u → nid x4 u → mm_V (MC d) Q 3040 [.inr (.inr (3, a)), .inl 8, .inl v3, .inl (-1)] u (fun σ5 => Q (.inl (some (.inl x4))) σ5)) :
    mm_V (MC d) Q 3043 [.inr (.inr (3, a))] σ (fun σ13 => mm_I (MC d) Q 3027 [.inr (.inr (3, a))] σ13
            (fun x15 σ14 => mm_br (x15 = 0) 
                (mm_br (((-1) : Int32) < 0) 
                  (mm_W mt3041 (MC d) Q (194, [some (.inr (.inr (3, a))), some (.inl v1), some (.inl (-1)), wv3, wv4], [.inl 59]) σ14) 
                  (mm_W mt3041 (MC d) Q (194, [some (.inr (.inr (3, a))), some (.inl v1), some (.inl (-1)), wv3, wv4], [.inl (-1)]) σ14))
                (mm_I (MC d) Q 3026 [.inr (.inr (3, a))] σ14
                  (fun x17 σ16 => mm_br (x17 < 0) 
                    (mm_W mt3041 (MC d) Q (194, [some (.inr (.inr (3, a))), some (.inl v1), some (.inl x17), wv3, wv4], [.inl 59]) σ16) 
                    (mm_W mt3041 (MC d) Q (194, [some (.inr (.inr (3, a))), some (.inl v1), some (.inl x17), wv3, wv4], [.inl x17]) σ16))))) := by
  obtain ⟨ih, ihn, ihu, ihl, hE, hR, hI, hS⟩ := all_nu (T := T) 47
  have hG : cG T wT A (m + 12) (e + 2) σ i := en.elim id fun z => absurd z.1 Bool.false_ne_true
  have tok : tokOK T := hG.1.1.2.2.2.2.2.2.2.2.2.1.1
  have st : St T (fun (l : List Int32) _ n _ => l = [n]) any2 g wT m e (th σ) i C false 500 wT A (m + 12) (e + 2) (s_dcls T i) σ i := Or.inl ⟨hG, tle.rfl', by omega, kk⟩
  refine def_enter st (by omega) (fun u st2 f2 e2 => ?_)
  have gd2 : GD u := st2.good.2.1
  -- the class and its node
  have cls' : ∀ (v2 v3 : Int32) (τ : mmS) (b : Bool) (B : cA) (j m2 : Nat), m + 12 ≤ m2 → (v2 = -1 ∨ ∃ k, v2 = nI k ∧ k < 2 ^ 31) → (GD τ → i ≤ j) → (¬ GD τ → mm_f τ 311 = nI (t_e T)) → St T (fun (l : List Int32) _ n _ => l = [n]) any2 g wT m e (th σ) i C b 300 (dn wT 47) B m2 (e + 1) (s_b (bif n_bad v2 then none else s_class T (s_lv T 47) x_top.1 j) (fun _ m => s_r [v3] m)) τ j →
      mm_W mt3041 (MC d) Q (226, [some (.inr (.inr (3, a))), some (.inl v1), some (.inl v2), some (.inl v3), wv4], []) τ := fun v2 v3 τ b B j m2 hm2 hcal hj h11 st2 => by
    refine b3041_226 _ _ _ _ _ _ _ _ ?_
    refine St.callR (h := 10) (c := 100) (m' := m + 2) (e' := e) (s := 0) (bb := true) (θ1 := th τ) (Sh' := shN T 47) (N' := nid) (r1 := fun k => bif n_bad v2 then none else s_class T (s_lv T 47) x_top.1 k) (fun en kk => c_classAt (a := a) (w := dn wT 47) hI hE hR ih ihl rfl (wSl_dn wOK_T rfl) (by omega) (by unfold GQ; omega) (by omega) hcal (by
          rcases en with q | ⟨-, q⟩
          · exact Or.inl (q.mono (by omega) (Nat.le_refl _))
          · exact Or.inr ⟨q, h11 q.no⟩) kk) (n_k 0) (st2.tt.mono (by omega)) (fun _ => rfl) rfl st2.tl.1 (fun v j2 B q x6 u4 st4 f4 hj4 hr hs4 hn4 => ?_)
    refine St.node (h := 9) st4 (by omega) (by omega) (fun n5 u5 st5 f5 nw => ?_)
    have st6 : St T (fun (l : List Int32) _ n _ => l = [n]) any2 g wT m e (th σ) i C true 9 wT B (m + 2 + q - 1) e (s_r [v3] j2) (mm_setf u5 312 (mm_f u5 312 - 1)) j2 := St.leave (w := wT) st5 (fun _ => by decide) wOK_T
    refine hC _ _ _ ?_ (nid.mono (θ := (0, 0, 0, 0)) nw.nid Fr_312')
    exact st6.ret (fun _ => rfl) (fun _ => rfl) (fun gd => by have := hj4 (f5.1 gd); have := hj (f4.1 (f5.1 gd)); omega) (1 + q) (fun _ => by omega) (fun _ => Nat.le_refl _) (fun _ => rfl) (fun _ => trivial)
  refine st2.isName (by omega) (fun z => br_y (by decide) ?_) (fun z nz => ?_)
  · -- no name
    refine b3041_194 _ _ _ _ _ _ _ _ _ (br_y (by decide) ?_)
    obtain ⟨sc, y1, y2⟩ := st2.ci.2.2.2.2.2.1.1
    rw [y1]
    have hGu := st2.good
    obtain ⟨R0, b0, q1, q2, q3, q4, q5⟩ := hGu.2.2.2.2.2.2.1
    cases hA : A.1 with
    | nil => rw [hA] at q3; exact nomatch q3
    | cons xe L =>
      obtain ⟨x, es⟩ := xe
      have hA' : A = ((x, es) :: L, A.2) := Prod.ext hA rfl
      refine c_AS (g := 0) (w := dn wT 47) (m := m + 12) (e := e + 1) (i := i) (x := x) (es := es) (L := L) (A2 := A.2) (by omega) (Or.inl (by rw [← hA']; exact hGu)) y2 (fun _ => y1) (fun u5 f5 e24 e46 en5 => ⟨rfl, ?_⟩)
      have g5 : cG T (dn wT 47) ((x, es ++ [(cls 4, 59)]) :: L, A.2) (m + 12) (e + 1) u5 i := by
        rcases en5 with ⟨-, z⟩ | ⟨z, -⟩
        · exact z
        · exact absurd gd2 z.no
      have st3 := st2.rw (r' := s_b (s_w (sA_ev 9 59) () i) (fun _ k => s_b (s_class T (s_lv T 47) x_top.1 k) (fun _ q => s_r [59] q))) (fun _ => by unfold s_dcls; rw [z gd2]; rfl)
      have st5 := st3.acc (v := ()) (i' := i) (B := ((x, es ++ [(cls 4, 59)]) :: L, A.2)) (h' := 300) (m' := m + 12) (e' := e + 1) (u := u5) (by rw [run_ev, hA]; rfl) (f5.mono st3.tl.1) (th_le2 hGu g5 f5 (Nat.le_refl _)) (by omega) g5
      exact cls' (-1) 59 u5 false _ i (m + 12) (Nat.le_refl _) (Or.inl rfl) (fun _ => Nat.le_refl _) (fun ng => absurd g5.2.1 ng) st5
  · have st3 := st2.rw (r' := s_b (s_ident T i) (fun x k => s_b (bif n_bad x then none else s_w (sA_ev 1 x) (true, [x]) k) (fun b k => s_b (s_class T (s_lv T 47) x_top.1 k) (fun _ m => s_r b.2 m)))) (fun _ => by unfold s_dcls s_named; rw [z gd2, cond_true, s_b_b])
    refine st3.ident (by omega) (fun x u3 st3 f3 hx hb => ?_)
    have hcal : x = -1 ∨ ∃ k, x = nI k ∧ k < 2 ^ 31 := by
      refine Or.inr ?_
      by_cases gd3 : GD u3
      · obtain ⟨h1, h2⟩ := hx gd3
        have k2 : T.1 i = 1 := by
          unfold t_id at h2
          rw [Bool.and_eq_true] at h2
          exact eq_of_beq h2.1
        obtain ⟨k, q1, q2⟩ := (tok i).2 k2
        exact ⟨k, h1.trans q1, by omega⟩
      · exact ⟨0, by rw [(hb rfl gd3).2, nI_0], by decide⟩
    have hx0 : ¬ x < 0 := by
      rcases hcal with hc | ⟨k, hc, hk⟩
      · exfalso
        by_cases gd3 : GD u3
        · obtain ⟨h1, h2⟩ := hx gd3
          unfold t_id at h2
          rw [Bool.and_eq_true] at h2
          have h45 := of_decide_eq_true h2.2
          rw [show T.2.1 i = x from h1.symm, hc] at h45
          exact absurd h45 (by decide)
        · rw [(hb rfl gd3).2] at hc
          exact absurd hc (by decide)
      · rw [hc]; exact nI_pos (by omega)
    refine br_n hx0 (b3041_194 _ _ _ _ _ _ _ _ _ (br_n hx0 (st3.wrong (fun gd3 st3 => ?_) (fun ng => ?_))))
    · have st4 := st3.rwR (r' := s_b (s_w (sA_ev 1 x) () (i + 1)) (fun _ k => s_b (bif n_bad x then none else s_class T (s_lv T 47) x_top.1 k) (fun _ m => s_r [x] m))) (fun _ => by
        cases hbx : n_bad x with
        | true =>
          show none = _
          rw [run_b, run_ev, show (1 : Nat) = cls 4 from rfl, h_ev_cls, h_dec_bad hbx]
        | false => rfl)
      refine St.declare (w0 := wT) (w := dn wT 47) (ro := 4) rfl st4 (by omega) rfl (fun u5 B st5 f5 h11 => ?_)
      exact cls' x x u5 true B (i + 1) _ (by omega) hcal (fun _ => by omega) h11 ((st5.mono (by omega)).weakM (Nat.le_refl _) (by omega))
    · exact cls' x x u3 true A (i + 1) (m + 12 + 12) (by omega) hcal (fun _ => by omega) (fun _ => (hb rfl ng).1) ((st3.rw fun z => absurd z ng).same (h' := 300) (m' := m + 12 + 12) (e' := e + 1) (i' := i + 1) Fr.rfl' (fun z => absurd z ng) (fun z => absurd z ng) (fun q => absurd q.2.1 ng) (fun c => c.mono (by omega)))
end DEF2
