/-! PHASE 3. Parts of a class: a field's value, a static block; calls whose reading is told -/
section FRAMES
variable {β γ : Type} {T : sT} {Sh : β → Nat → Int32 → mmS → Prop} {N : Int32 → mmS → Prop} {g : Nat} {w0 : cW} {m0 e0 : Nat} {θ : cTh} {l0 : Nat} {Z : Int32 → mmS → Prop} {b : Bool} {h : Nat} {w : cW} {A : cA} {m e : Nat} {r : sR β} {σ : mmS} {i : Nat}
variable {ν a d : Nat} {Q : mmQ}
/-- what is read by a part with a contract of its own; its run is told -/
theorem St.callR {θ1 : cTh} {Sh' : mmS → γ → Nat → Int32 → mmS → Prop} {N' : Int32 → mmS → Prop} {c s m' e' : Nat} {bb : Bool} {r1 : Nat → sR γ} {f : γ → Nat → sR β} {C : Int32 → mmS → Prop} {Goal : Prop}
    (hC : (cG T w A m e σ i ∨ (bb = true ∧ cB T (g + h + c) σ)) → (∀ n u, Rs T (Sh' σ) N' (g + h) w m' e' θ1 (i + s) A (r1 i) σ n u → C n u) → Goal) (v0 : γ) (st : St T Sh N g w0 m0 e0 θ l0 Z b (h + c) w A m e (s_b (r1 i) f) σ i) (hb : b = true → bb = true) (hw : w_in w = w_in w0) (ht : GD σ → tle θ θ1)
    (k : ∀ v j B q n u, St T Sh N g w0 m0 e0 θ l0 Z true h w B (m' + q) e' (f v j) u j → Fr θ1 σ u → (GD u → i + s ≤ j) → (GD u → run (w_in w) A (r1 i) = some (v, j, B)) → (GD u → Sh' σ v q n u) → (¬ GD u → N' n u) → C n u) : Goal := by
  refine hC ?_ (fun n u rs => ?_)
  · rcases st with ⟨q1, -⟩ | ⟨q1, q2, -⟩
    · exact Or.inl q1
    · exact Or.inr ⟨hb q1, by rw [Nat.add_assoc]; exact q2⟩
  · obtain ⟨hf, rs⟩ := rs
    rcases rs with ⟨v, j, B, q, x1, x2, x3, x4⟩ | ⟨x1, x2, x3⟩
    · have gd := x2.2.1
      refine k v j B q n u ?_ hf (fun _ => x4) (fun _ => x1) (fun _ => x3) (fun z => absurd gd z)
      rcases st with ⟨q1, q2, q3, q4⟩ | ⟨q1, q2, q3⟩
      · have l : tle θ (th u) := by
          have hg := (hf.2.2.2.2.2.2.2 gd).1
          obtain ⟨f1, f2, f3, f4⟩ := hf.2.2.2.2.1
          have e1 : fN σ 356 = fN u 356 := by
            have a1 := q1.2.2.2.2.1.2.2.2.2.2.1
            have a2 := x2.2.2.2.2.1.2.2.2.2.2.1
            exact (fN_eq (a1.trans a2.symm))
          exact ⟨Nat.le_trans q2.1 f1, Nat.le_trans q2.2.1 f4, Nat.le_trans q2.2.2.1 hg, Nat.le_trans q2.2.2.2 (by show fN σ 356 ≤ fN u 356; omega)⟩
        refine Or.inl ⟨x2, l, by omega, fun n' v' rs => q4 n' v' ⟨(hf.mono (fun gd => ht gd)).trans rs.1, ?_⟩⟩
        have e : run (w_in w0) A (s_b (r1 i) f) = run (w_in w0) B (f v j) := by
          rw [run_b, ← hw, x1]
        rw [e]
        rcases rs.2 with x | ⟨y1 | y1, y2⟩
        · exact Or.inl x
        · exact Or.inr ⟨Or.inl y1, y2⟩
        · exact absurd gd y1
      · exact absurd (hf.1 gd) q2.no
    · refine k v0 i A 0 n u (Or.inr ⟨rfl, x2, fun n' u' f' c' hn => ?_⟩) hf (fun z => absurd z x2.no) (fun z => absurd z x2.no) (fun z => absurd z x2.no) (fun _ => x3)
      rcases st with ⟨q1, q2, q3, q4⟩ | ⟨q1, q2, q3⟩
      · refine q4 n' u' ⟨(hf.mono (fun gd => ht gd)).trans f', Or.inr ⟨Or.inl ?_, c', hn⟩⟩
        rcases x1 with x1 | x1
        · rw [run_b, ← hw, x1]
        · exact absurd q1.2.1 x1
      · exact q3 n' u' ((hf.mono (fun z => absurd z q2.no)).trans f') c' hn
/-- method(), with what stays of the chain -/
theorem St.methodR {s fl : Int32} {f : Unit → Nat → sR β} {C : Int32 → mmS → Prop} (hp : plS s) (hI : cIt T ν) (hE : cEl T ν) (hR : cRst T ν) (hw : w_nu w = ν) (h4 : s = 4 → 2 ≤ t_e T) (st : St T Sh N g w0 m0 e0 θ l0 Z b (h + 121) w A (m + 1) e (s_b (s_plain T (s_lv T ν) (!(s == 0)) (s == 6) (plG s) (nz (fl &&& 1)) (nz (fl &&& 2)) i) f) σ i) (hw0 : w_in w = w_in w0) (hd : 50 * ν + 26 ≤ d) (hg : g + h + 201 ≤ GQ ν) (hm : 24 ≤ m)
    (k : ∀ j B q n u, St T Sh N g w0 m0 e0 θ l0 Z true h w B (m + q) e (f () j) u j → Fr (th σ) σ u → (GD u → i + 1 ≤ j) → (GD u → B.1 = A.1) → own (th σ) n u → C n u) : mm_I (MC d) Q 3083 [.inr (.inr (3, a)), .inl s, .inl fl] σ C := by
  obtain ⟨d, rfl, hd⟩ := mc_pos (c := 50 * ν + 25) (by omega)
  refine mc_ci (P := mt3083) (L := 3) rfl rfl ⟨by decide, Nat.le_of_ble_eq_true rfl⟩ fun Q2 hK hX => b3083_0 _ _ _ _ _ _ ?_
  refine St.callR (h := h + 1) (c := 120) (s := 1) (bb := true) (m' := m + 1) (e' := e) (θ1 := th σ) (Sh' := shFn) (N' := any2) (r1 := s_plain T (s_lv T ν) (!(s == 0)) (s == 6) (plG s) (nz (fl &&& 1)) (nz (fl &&& 2))) (fun en kk => c_plain (fl := fl) (called := -1) hp hI hE hR hw h4 a d (g + (h + 1)) A (m + 1) e i σ _ _ (by omega) (by rw [hw]; omega) (by omega) en kk) () (st.mono (by omega)) (fun _ => rfl) hw0 st.tl.1 (fun v j B q n u st2 hf hj hr hs hn => ?_)
  refine St.node (h := h) (m := m + 1 + q) st2 (by omega) (by omega) (fun n5 u5 st5 hf5 nw => hK _ _ (k j B q n5 u5 ?_ (hf.trans (hf5.mono fun gd => th_le (st.gd (hf.1 gd)) (st2.gd gd) hf)) (fun gd => hj (hf5.1 gd)) (fun gd => run_nev1 ev_plain (hr (hf5.1 gd))) ⟨fN u 315, nw.1, by rw [nw.2.1]; omega, fun gd => hf.nn⟩))
  rw [show m + 1 + q - 1 = m + q by omega] at st5
  exact st5
/-- a field's value -/
theorem c_fld {K : Int32 → Int32 → mmS → Prop} {C : Int64 → Int32 → Int32 → mmS → Prop} (ih : cAsg T ν) (hw : w_nu w = ν) (hd : 50 * ν + 12 ≤ d) (hq : g + 60 ≤ GQ ν) (hm : 24 ≤ m) (en : cG T w A m e σ i ∨ (true = true ∧ cB T (g + 40) σ)) (nz : NZ T σ)
    (hC : ∀ x14 x18 v, mm_S v 343 x14 x18 (fun v1 => mm_V (MC d) Q 3087 [.inr (.inr (3, a)), .inl x14, .inl (mm_f σ 346), .inl (mm_f σ 347), .inr (.inl (kpt σ))] v1 (K x14 x18)) → C (kpt σ) x14 x18 v)
    (k : ∀ n u, Rs T (shU (β := Unit) σ) any2 g w (m - 1) e (th σ) (i + 1) A (s_fn 0 (s_b ((s_lv T ν).1 s_inner true (i + 1)) (fun _ q => s_r () q))) σ n u → ∀ x18, K (nI (fN σ 336)) x18 u) :
    mm_J (MC d) Q 3046 [.inr (.inr (3, a))] σ (fun x12 σ11 => mm_I (MC d) Q 3047 [.inr (.inr (3, a)), .inl 7, .inl 0, .inl (-1)] σ11 (fun x14 σ13 => mm_I (MC d) Q 3053 [.inr (.inr (3, a)), .inl 1] (mm_setf σ13 311 (mm_f σ13 311 + 1)) (fun x16 σ15 => mm_I (MC d) Q 3051 [.inr (.inr (3, a)), .inl 71, .inl x16, .inl 0, .inl 0] σ15 (fun x18 σ17 => C x12 x14 x18 σ17)))) := by
  have hGQ := GQ_le ν
  have hEv := ev_lv (T := T) ν
  have hI0 : cI T σ := by
    rcases en with h | ⟨-, h⟩
    · exact h.1
    · exact h.1
  have hcap : fN σ 324 ≤ 8750 ∧ fN σ 336 ≤ 8750 := by
    rcases en with h | ⟨-, h⟩
    · have := h.caps; omega
    · obtain ⟨-, -, ⟨q, q1, q2, q3, q4, q5, q6, -⟩, -⟩ := h; omega
  refine c_kept (by omega) (c_begin (by omega) hI0 hcap (fun u1 I1 bg hg1 hb1 => ?_))
  have hn : bgN 7 = 0 := by decide
  have sm := run_fn (inn := w_in w) (A := A) (n := bgN 7) (r1 := (s_lv T ν).1 s_inner true (i + 1)) (r2 := fun _ q => s_r () q) (ev_n (hEv.1 s_inner true (i + 1))) (fun _ _ => ev_r)
  have e0 : s_fn (bgN 7) (s_b ((s_lv T ν).1 s_inner true (i + 1)) (fun _ q => s_r () q)) = s_fn 0 (s_b ((s_lv T ν).1 s_inner true (i + 1)) (fun _ q => s_r () q)) := by rw [hn]
  rw [e0] at sm
  have st0 : St T (shU (β := Unit) σ) any2 g w (m - 1) e (th σ) (i + 1) (fun _ u => ∀ x18, K (nI (fN σ 336)) x18 u) true 40 w A m e (s_fn 0 (s_b ((s_lv T ν).1 s_inner true (i + 1)) (fun _ q => s_r () q))) σ i := by
    rcases en with hG | ⟨-, hB⟩
    · exact Or.inl ⟨hG, tle.rfl', by omega, k⟩
    · exact Or.inr ⟨rfl, hB, fun n u f c hn => k n u ⟨f, Or.inr ⟨Or.inr hB.no, c, hn⟩⟩⟩
  obtain ⟨bf, b324, b336, b315, b326, b337, b338, b342, b347, ⟨b356, b371, b311, b312, b303⟩, b357⟩ := id bg
  have st1 := St.frame (u := u1) (h' := 8) (m' := m - 12) (s := 7) (r := s_b ((s_lv T ν).1 s_inner true (i + 1)) (fun _ q => s_r () q)) st0 (fun _ => rfl) bg (fun _ => sm) (fun hG => hg1 w A (m - 12) e i (by rw [show m - 12 + 12 = m by omega]; exact hG)) (fun c => hb1 _ (c.mono (by omega))) (fun _ => by omega)
  obtain ⟨q, q1, q2, q3⟩ := nz
  have st2 := st1.adv ⟨q, b311.trans q1, q2, q3⟩
  have hwi : w_nu (bgW w 7 (fN σ 324) (fN σ 336)) = ν := hw
  have e1 : (w_x (bgW w 7 (fN σ 324) (fN σ 336))).1 = s_inner := rfl
  refine St.call (h := 8) (ih a (bgW w 7 (fN σ 324) (fN σ 336)) true hwi) (n_k 0) (by rw [e1]; exact st2) (fun _ => rfl) (by omega) (by rw [hwi]; omega) (by omega) rfl (fun v j B qq x3 u3 st3 hf3 hj3 hs3 hn3 => ?_)
  refine St.node (h := 7) st3 (by omega) (by omega) (fun n4 u4 st4 hf4 nw => hC _ _ _ ?_)
  have l3 : fN σ 336 < fN u3 336 := by
    have := hf3.2.2.2.2.1.2.2.2
    have e5 : fN (mm_setf u1 311 (mm_f u1 311 + 1)) 336 = fN u1 336 := fN_eq (f_other (by decide))
    omega
  have l4 : fN σ 336 < fN u4 336 := by have := hf4.2.2.2.2.1.2.2.2; omega
  refine st4.free (Or.inr (Or.inr (Or.inl rfl))) l4 (fun st5 hf5 => ?_)
  refine c_finish (by omega) ?_
  exact st5.ret (n := 0) (fun _ => rfl) (fun _ => rfl) (fun gd => by have := hj3 (hf4.1 gd); omega) 0 (fun _ => by omega) (fun _ => Nat.le_refl _) (fun _ => trivial) (fun _ => trivial) _
/-- a static block -/
theorem c_blkI {C : Int64 → Int32 → mmS → Prop} (hI : cIt T ν) (hw : w_nu w = ν) (hd : 50 * ν + 15 ≤ d) (hq : g + 60 ≤ GQ ν) (hm : 28 ≤ m) (hG : cG T w A m e σ i)
    (k : ∀ n u, Rs T (shU (β := Unit) σ) any2 g w (m - 4) e (th σ) (i + 1) A (s_fn 0 (s_body T (s_lv T ν) (s_inner, false, false, false, []) true i)) σ n u → C (kpt σ) (nI (fN σ 336)) u) :
    mm_J (MC d) Q 3046 [.inr (.inr (3, a))] σ (fun x4 σ3 => mm_I (MC d) Q 3047 [.inr (.inr (3, a)), .inl 8, .inl 0, .inl (-1)] σ3 (fun x6 σ5 => mm_V (MC d) Q 3062 [.inr (.inr (3, a)), .inl x6, .inl 0, .inl 0] σ5 (fun σ7 => mm_V (MC d) Q 3087 [.inr (.inr (3, a)), .inl x6, .inl (mm_f σ 346), .inl (mm_f σ 347), .inr (.inl x4)] σ7 (fun σ8 => C x4 x6 σ8)))) := by
  have hGQ := GQ_le ν
  have hEv := ev_lv (T := T) ν
  have hI0 := hG.1
  have hcap : fN σ 324 ≤ 8750 ∧ fN σ 336 ≤ 8750 := by have := hG.caps; omega
  refine c_kept (by omega) (c_begin (by omega) hI0 hcap (fun u1 I1 bg hg1 hb1 => ?_))
  obtain ⟨bf, b324, b336, b315, b326, b337, b338, b342, b347, ⟨b356, b371, b311, b312, b303⟩, b357⟩ := id bg
  have hn : bgN 8 = 0 := by decide
  have sm := run_fn (inn := w_in w) (A := A) (n := bgN 8) (r1 := s_r () i) (r2 := fun _ q => s_body T (s_lv T ν) (s_inner, false, false, false, []) true q) ev_r (fun _ _ => ev_body hEv)
  have e0 : s_fn (bgN 8) (s_b (s_r () i) (fun _ q => s_body T (s_lv T ν) (s_inner, false, false, false, []) true q)) = s_fn 0 (s_body T (s_lv T ν) (s_inner, false, false, false, []) true i) := by rw [hn, s_b_r]
  rw [e0, s_b_r] at sm
  have gu : cG T (bgW w 8 (fN σ 324) (fN σ 336)) (bgA A 8) (m - 12) e u1 i := hg1 w A (m - 12) e i (by rw [show m - 12 + 12 = m by omega]; exact hG)
  refine c_body (w := bgW w 8 (fN σ 324) (fN σ 336)) (A := bgA A 8) (si := true) (gen := false) (asy := false) (m := m - 12) (e := e) (i := i) (g := g) hI hw (by omega) (by omega) (by omega) (by omega) (Or.inl ⟨gu, ⟨fun z => absurd z (by rw [b338]; exact or_44 0), fun z => nomatch z⟩, by show fN σ 324 < fN u1 324; omega, [], A.1, rfl, Pes.nil⟩) (fun u2 hbd => ?_)
  obtain ⟨f2, hbd⟩ := hbd
  have f02 : Fr (th σ) σ u2 := bf.trans (f2.mono fun _ => th_le2 hG gu bf (Nat.le_refl _))
  have e46 := hG.2.2.2.2.2.1.1
  have e47 := hG.2.2.2.2.2.1.2
  refine c_finish (by omega) (k 0 _ ⟨f02.trans Fr.fin, ?_⟩)
  rcases hbd with ⟨j2, B2, B', w', m', y1, y2, y3, y4, y5, ⟨y6, y7, y8⟩, y9⟩ | ⟨y1, y2⟩
  · obtain ⟨R, b, z1, z2⟩ := y9 [] A.1 rfl
    have z2 : path u2 R A.1 (mm_a u1 326 (fN σ 324)) b := z2
    rw [b326, e46] at z2
    have gf := hG.fin y2 ⟨y6, y7, y8⟩ f02 ⟨R, b, z1, z2⟩
    obtain ⟨B3, s1, s2, s3, s4⟩ := sm.some (v := ()) (j := j2) (B := B2) y1
    have e3 : B3 = (A.1, B'.2) := Prod.ext s4 (s2.symm.trans y5.symm)
    rw [e46, e47]
    refine Or.inl ⟨(), j2, B3, m' - (m - 4), s1, ?_, trivial, by omega⟩
    rw [e3, show m - 4 + (m' - (m - 4)) = m' by omega]
    exact gf
  · refine Or.inr ⟨Or.inl ?_, cB.fin y2 (cI.back hI0 y2.1 f02), trivial⟩
    rcases y1 with y1 | y1
    · exact sm.none y1
    · exact absurd gu.2.1 y1
end FRAMES
