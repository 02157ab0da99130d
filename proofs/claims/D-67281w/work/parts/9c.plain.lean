/-! PHASE 3. plain(): parameters and body of a function that is no arrow -/
section PLAIN
variable {T : sT} {g : Nat} {w : cW} {A : cA} {m e : Nat} {σ : mmS} {i : Nat}
variable {ν a d : Nat} {Q : mmQ}
/-- the kinds of functions that plain() opens -/
def plS (s : Int32) : Prop := s = 0 ∨ s = 2 ∨ s = 3 ∨ s = 4 ∨ s = 5 ∨ s = 6
def plG (s : Int32) : Nat := bif s == 3 then 1 else bif s == 4 then 2 else 0
theorem bgC_pl {c : sC} {s : Int32} (h : plS s) : bgC c s = (false, false, !(s == 0), s == 6, true, false) := by
  rcases h with rfl | rfl | rfl | rfl | rfl | rfl <;> rfl
theorem bgX_pl {w : cW} {s : Int32} (h : plS s) (gen asy : Bool) {sc hr : Nat} : w_x (yaW (bgW w s sc hr) gen asy) = ((gen, asy, !(s == 0), s == 6, true, false), true, false, false, []) := by
  show ((gen, asy, (bgC (w_x w).1 s).2.2), !(s == 9) && !(s == 8), false, false, []) = _
  rw [bgC_pl h]
  rcases h with rfl | rfl | rfl | rfl | rfl | rfl <;> rfl
theorem bgN_pl {s : Int32} (h : plS s) : bgN s = 1 := by
  rcases h with rfl | rfl | rfl | rfl | rfl | rfl <;> rfl
theorem or_44 (x : Int32) : ¬ (x ||| 4) &&& 4 = 0 := by
  rw [an_or]
  intro h
  have := (Int32.or_eq_zero_iff.mp h).2
  exact absurd this (by decide)
/-- the head of such a function: its parameters, and whether they suit -/
def s_plH (T : sT) (E : sE) (cx : sC) (gs i : Nat) : sR Bool := s_b (s_nd T 2 i) (fun _ j => s_b (s_parL T E cx (t_e T + 1) true 0 j) (fun b k =>
    bif (gs == 1 && !(b.2.1 == 0)) || (gs == 2 && (!(b.2.1 == 1) || b.2.2 || t_sg T (k - 2) 9)) then none else s_r b.1 k))
theorem s_plain_eq {E : sE} {hm mk gen asy : Bool} {gs : Nat} : s_plain T E hm mk gs gen asy i = s_fn 1 (s_b (s_plH T E (false, false, hm, mk, true, false) gs i) (fun si k => s_body T E ((gen, asy, hm, mk, true, false), true, false, false, []) si k)) := by
  unfold s_plain s_plH
  rw [s_b_b]
  congr 2
  funext v j
  rw [s_b_b]
  congr 1
  funext b k
  cases (gs == 1 && !(b.2.1 == 0)) || (gs == 2 && (!(b.2.1 == 1) || b.2.2 || t_sg T (k - 2) 9)) with
  | true => rfl
  | false => rw [cond_false, cond_false, s_b_r]
theorem ev_plH {E : sE} (hE : EvE E) {cx : sC} {gs : Nat} : ev (eK 3) (s_plH T E cx gs i) := ev_b ev_nd fun _ _ => ev_b (ev_parL hE _ _ _ _) fun _ _ => ev_i ev_none ev_r
theorem pa_nid {u : mmS} {fk : Nat} (h : cI T u) (hf : fk < fN u 336) : ∃ k, mm_a u 342 fk = nI k ∧ k < fN u 315 := h.2.2.2.2.1.2.1.2 fk hf
theorem rd_fn {K : Int32 → Prop} {f s : Nat} (h : cI T σ) (hs : 337 ≤ s ∧ s ≤ 345) (hf : f < fN σ 336) (k : K (mm_a σ s f)) : mm_L σ s (nI f) K := by
  obtain ⟨⟨c1, c2, c3, c4, c5⟩, c6, c7⟩ := h.2.2.2.2.1
  exact rd (c5 s hs.1 hs.2) (by omega) (by omega) k
variable {β : Type} {Sh : β → Nat → Int32 → mmS → Prop} {N : Int32 → mmS → Prop} {w0 : cW} {m0 e0 : Nat} {θ : cTh} {l0 : Nat} {Z : Int32 → mmS → Prop} {b : Bool} {h : Nat}
theorem St.params {F : Bool × Nat × Bool → Nat → sR β} {fk H : Nat} {C : mmS → Prop} (st : St T Sh N g w0 m0 e0 θ l0 Z b h w A m e (s_b (s_parL T (s_lv T ν) (w_x w).1 (t_e T + 1) true 0 i) F) σ i) (hE : cEl T ν) (hR : cRst T ν) (hw : w_nu w = ν) (hw0 : w_in w = w_in w0) (hd : 50 * ν + 13 ≤ d) (hq : g + H + 12 ≤ GQ ν) (hh : H ≤ h) (hm : 24 ≤ m) (hfk : fk < fN σ 336) (ho : GD σ → θ.2.1 ≤ fk) (hi : GD σ → ¬ mm_a σ 338 fk &&& 4 = 0 ∧ mm_a σ 342 fk = 0)
    (kk : ∀ (u : mmS) (v : Bool × Nat × Bool) (j : Nat) (B : cA) (m' : Nat), St T Sh N g w0 m0 e0 θ l0 Z true H w B m' e (F v j) u j → m + 12 ≤ m' → Fr θ σ u → (GD u → i + 1 ≤ j) → (GD u → parF fk v u) → C u) : mm_V (MC d) Q 3048 [.inr (.inr (3, a)), .inl (nI fk), .inl 3] σ C := by
  obtain ⟨d, rfl, hd⟩ := mc_pos (c := 50 * ν + 12) (by omega)
  have hGQ := GQ_le ν
  refine mc_cv (P := mt3048) (L := 7) rfl rfl ⟨by decide, Nat.le_of_ble_eq_true rfl⟩ fun Q2 hK hX => b3048_0 _ _ _ _ _ _ _ _ _ _ ?_
  obtain ⟨h2, hh2, hh3, st2⟩ := st.lift2 (H + 8) (by omega)
  exact par_loop (σ0 := σ) (H := H) (m1 := m) (l1 := i) hE hR hw hw0 (by omega) hq (fun u v j B m' st' hm' fr hj hp => hK _ (kk u v j B m' st' hm' fr hj hp)) (t_e T + 1) b h2 A m i σ 0 1 true 0 _ (by omega) hh3 (fun _ => Nat.le_refl _) (fun _ => by omega) hm (Nat.le_refl _) hfk ho (fun z => absurd rfl z) (fun gd => ⟨⟨fun z => absurd z (hi gd).1, fun z => nomatch z⟩, Or.inl ⟨rfl, rfl, (hi gd).2⟩⟩) Fr.rfl' st2
theorem St.pge {r : sR β} (st : St T Sh N g w0 m0 e0 θ l0 Z b h w A m e r σ i) : ∃ q, mm_f σ 311 = nI q ∧ q ≤ 1332 ∧ (GD σ → q = i) ∧ (¬ GD σ → t_e T ≤ q) := by
  rcases st with ⟨q, -⟩ | ⟨-, q, -⟩
  · have := q.1.1.2.2.2.2.2.2.2.1
    exact ⟨i, q.2.2.1.1, by have := q.2.2.1.2; omega, fun _ => rfl, fun z => absurd q.2.1 z⟩
  · obtain ⟨k, k1, k2, k3, k4⟩ := q.2.2.1
    exact ⟨k, k1, by omega, fun z => absurd z q.no, fun _ => k2⟩
theorem nI_m2 {q : Nat} (h : 2 ≤ q) : nI q - 2 = nI (q - 2) := by
  have : nI q = nI (q - 2) + 2 := by rw [show nI (q - 2) + 2 = nI (q - 2 + 2) from nI_add _ 2, show q - 2 + 2 = q by omega]
  rw [this, Int32.add_sub_cancel]
/-- the number of the function that was opened -/
def shFn (σ : mmS) (_ : Unit) (_ : Nat) (n : Int32) (_ : mmS) : Prop := n = nI (fN σ 336)
theorem c_plain {s fl called : Int32} (hp : plS s) (hI : cIt T ν) (hE : cEl T ν) (hR : cRst T ν) (hw : w_nu w = ν) (h4 : s = 4 → 2 ≤ t_e T) (a : Nat) : CI T shFn any2 (50 * ν + 25) 120 200 true 1 w (s_plain T (s_lv T ν) (!(s == 0)) (s == 6) (plG s) (nz (fl &&& 1)) (nz (fl &&& 2))) 3045 [.inr (.inr (3, a)), .inl s, .inl fl, .inl called] := by
  intro d g A m e i σ K X hd hq hm en k
  obtain ⟨d, rfl, hd⟩ := mc_pos (c := 50 * ν + 24) (by omega)
  rw [hw] at hq
  have hGQ := GQ_le ν
  have hEv := ev_lv (T := T) ν
  refine mc_ci (P := mt3045) (L := 10) rfl rfl ⟨by decide, Nat.le_of_ble_eq_true rfl⟩ fun Q hK hX => b3045_0 _ _ _ _ _ _ _ _ _ _ _ _ _ ?_
  have hI0 : cI T σ := by
    rcases en with h | ⟨-, h⟩
    · exact h.1
    · exact h.1
  have hcap : fN σ 324 ≤ 8750 ∧ fN σ 336 ≤ 8750 := by
    rcases en with h | ⟨-, h⟩
    · have := h.caps; omega
    · obtain ⟨-, -, ⟨q, q1, q2, q3, q4, q5, q6, -⟩, -⟩ := h; omega
  refine c_kept (by omega) (c_begin (by omega) hI0 hcap (fun u1 I1 bg hg1 hb1 => ?_))
  obtain ⟨bf, b324, b336, b315, b326, b337, b338, b342, b347, ⟨b356, b371, b311, b312, b303⟩, b357⟩ := bg
  have hn1 : bgN s = 1 := bgN_pl hp
  -- behind the head
  have t143 : ∀ (n : Int32) (u : mmS), Rs T (fun (si : Bool) _ _ u => (mm_a u 338 (fN σ 336) &&& 4 = 0 ↔ si = false)) any2 (g + 60) (bgW w s (fN σ 324) (fN σ 336)) (m + 12) e (th σ) (i + 1) (bgA A s) (s_plH T (s_lv T ν) (false, false, !(s == 0), s == 6, true, false) (plG s) i) u1 n u → ∀ v9 : Int32,
      mm_W mt3045 (MC d) Q (143, [some (.inr (.inr (3, a))), some (.inl s), some (.inl fl), some (.inl called), some (.inl (mm_f σ 346)), some (.inl (mm_f σ 347)), some (.inr (.inl (kpt σ))), none, some (.inl (nI (fN σ 336))), some (.inl v9)], []) u := by
    intro n u rs v9
    obtain ⟨f1, rs⟩ := rs
    have fσ : Fr (th σ) σ u := bf.trans f1
    have hfu : fN σ 336 < fN u 336 := by have := f1.2.2.2.2.1.2.2.2; omega
    have hsc : fN σ 324 < fN u 324 := by have := f1.2.2.2.2.1.2.1; omega
    have u326 : mm_a u 326 (fN σ 324) = mm_f σ 346 := (up_326 f1 (by omega)).trans b326
    have tail : mm_V (MC d) Q 3062 [.inr (.inr (3, a)), .inl (nI (fN σ 336)), .inl (bI (nz (fl &&& 1))), .inl (bI (nz (fl &&& 2)))] u (fun σ1 => mm_V (MC d) Q 3087 [.inr (.inr (3, a)), .inl (nI (fN σ 336)), .inl (mm_f σ 346), .inl (mm_f σ 347), .inr (.inl (kpt σ))] σ1 (fun σ2 => Q (.inl (some (.inl (nI (fN σ 336))))) σ2)) := by
      rcases rs with ⟨si, j, B, q, x1, x2, x3, x4⟩ | ⟨x1, x2, x3⟩
      · rcases en with hG | ⟨-, hB⟩
        · obtain ⟨es, hB1, hPes⟩ := run_par (A := bgA A s) (L := A.1) rfl (ev_plH hEv) x1
          refine c_body (w := bgW w s (fN σ 324) (fN σ 336)) (A := B) (si := si) (m := m + 12 + q) (e := e) (i := j) (g := g) hI hw (by omega) (by omega) (by omega) hfu (Or.inl ⟨x2, x3, hsc, es, A.1, hB1, hPes⟩) (fun u2 hbd => ?_)
          obtain ⟨f2, hbd⟩ := hbd
          have f02 : Fr (th σ) σ u2 := fσ.trans (f2.mono fun _ => th_le2 hG x2 fσ (Nat.le_refl _))
          have e46 := hG.2.2.2.2.2.1.1
          have e47 := hG.2.2.2.2.2.1.2
          have sm := run_fn (inn := w_in w) (A := A) (n := 1) (r1 := s_plH T (s_lv T ν) (false, false, !(s == 0), s == 6, true, false) (plG s) i) (r2 := fun si k => s_body T (s_lv T ν) ((nz (fl &&& 1), nz (fl &&& 2), !(s == 0), s == 6, true, false), true, false, false, []) si k) (ev_plH hEv) (fun _ _ => ev_body hEv)
          rw [← s_plain_eq, ← hn1] at sm
          refine c_finish (by omega) (hK _ _ (k _ _ ⟨f02.trans Fr.fin, ?_⟩))
          rw [bgX_pl hp] at hbd
          rcases hbd with ⟨j2, B2, B', w', m', y1, y2, y3, y4, y5, ⟨y6, y7, y8⟩, y9⟩ | ⟨y1, y2⟩
          · obtain ⟨R, b, z1, z2⟩ := y9 es A.1 hB1
            have z2 : path u2 R A.1 (mm_a u 326 (fN σ 324)) b := z2
            rw [u326, e46] at z2
            have gf := hG.fin y2 ⟨y6, y7, y8⟩ f02 ⟨R, b, z1, z2⟩
            have r1 : run (w_in w) (bgA A s) (s_b (s_plH T (s_lv T ν) (false, false, !(s == 0), s == 6, true, false) (plG s) i) (fun si k => s_body T (s_lv T ν) ((nz (fl &&& 1), nz (fl &&& 2), !(s == 0), s == 6, true, false), true, false, false, []) si k)) = some ((), j2, B2) := by
              rw [run_b, show run (w_in w) (bgA A s) _ = some (si, j, B) from x1]
              exact y1
            obtain ⟨B3, s1, s2, s3, s4⟩ := sm.some r1
            have e3 : B3 = (A.1, B'.2) := Prod.ext s4 (s2.symm.trans y5.symm)
            rw [e46, e47]
            refine Or.inl ⟨(), j2, B3, m' - m, s1, ?_, rfl, by omega⟩
            rw [e3, show m + (m' - m) = m' by omega]
            exact gf
          · refine Or.inr ⟨Or.inl ?_, cB.fin y2 (cI.back hI0 y2.1 f02), trivial⟩
            rcases y1 with y1 | y1
            · have r1 : run (w_in w) (bgA A s) (s_b (s_plH T (s_lv T ν) (false, false, !(s == 0), s == 6, true, false) (plG s) i) (fun si k => s_body T (s_lv T ν) ((nz (fl &&& 1), nz (fl &&& 2), !(s == 0), s == 6, true, false), true, false, false, []) si k)) = none := by
                rw [run_b, show run (w_in w) (bgA A s) _ = some (si, j, B) from x1]
                exact y1
              exact sm.none r1
            · exact absurd x2.2.1 y1
        · exact absurd (fσ.1 x2.2.1) hB.no
      · have ng : ¬ GD u := x2.no
        refine c_body (w := bgW w s (fN σ 324) (fN σ 336)) (A := bgA A s) (si := true) (m := m + 12) (e := e) (i := i) (g := g) hI hw (by omega) (by omega) (by omega) hfu (Or.inr (x2.mono (by omega))) (fun u2 hbd => ?_)
        obtain ⟨f2, hbd⟩ := hbd
        have f02 : Fr (th σ) σ u2 := fσ.trans (f2.mono fun z => absurd z ng)
        have c2 : cB T g u2 := by
          rcases hbd with ⟨j2, B2, B', w', m', y1, y2, -⟩ | ⟨y1, y2⟩
          · exact absurd (f2.1 y2.2.1) ng
          · exact y2
        refine c_finish (by omega) (hK _ _ (k _ _ ⟨f02.trans Fr.fin, Or.inr ⟨?_, cB.fin c2 (cI.back hI0 c2.1 f02), trivial⟩⟩))
        by_cases gσ : GD σ
        · rcases x1 with x1 | x1
          · refine Or.inl ?_
            have sm := run_fn (inn := w_in w) (A := A) (n := 1) (r1 := s_plH T (s_lv T ν) (false, false, !(s == 0), s == 6, true, false) (plG s) i) (r2 := fun si k => s_body T (s_lv T ν) ((nz (fl &&& 1), nz (fl &&& 2), !(s == 0), s == 6, true, false), true, false, false, []) si k) (ev_plH hEv) (fun _ _ => ev_body hEv)
            rw [← s_plain_eq, ← hn1] at sm
            refine sm.none ?_
            show run (w_in w) (bgA A s) _ = none
            rw [run_b, show run (w_in w) (bgA A s) _ = none from x1]
          · exact absurd (show GD u1 by unfold GD; rw [b303]; exact gσ) x1
        · exact Or.inr gσ
    have n1 : ∀ m : Int32, ((fl &&& m) = 0 → nz (fl &&& m) = false) ∧ (¬ (fl &&& m) = 0 → nz (fl &&& m) = true) := fun m => ⟨nz_f, nz_t⟩
    refine b3045_143 _ _ _ _ _ _ _ _ _ _ _ _ _ (br_p (fun c1 => ?_) (fun c1 => ?_))
    · rw [(n1 1).1 c1] at tail
      refine b3045_157 _ _ _ _ _ _ _ _ _ _ _ _ _ _ _ _ (br_p (fun c2 => ?_) (fun c2 => ?_))
      · rw [(n1 2).1 c2] at tail; exact tail
      · rw [(n1 2).2 c2] at tail; exact tail
    · rw [(n1 1).2 c1] at tail
      refine b3045_157 _ _ _ _ _ _ _ _ _ _ _ _ _ _ _ _ (br_p (fun c2 => ?_) (fun c2 => ?_))
      · rw [(n1 2).1 c2] at tail; exact tail
      · rw [(n1 2).2 c2] at tail; exact tail
  have hbg : bgC (w_x w).1 s = (false, false, !(s == 0), s == 6, true, false) := bgC_pl hp
  have st : St T (fun (si : Bool) _ _ u => (mm_a u 338 (fN σ 336) &&& 4 = 0 ↔ si = false)) any2 (g + 60) (bgW w s (fN σ 324) (fN σ 336)) (m + 12) e (th σ) (i + 1) (fun _ u => ∀ v9 : Int32, mm_W mt3045 (MC d) Q (143, [some (.inr (.inr (3, a))), some (.inl s), some (.inl fl), some (.inl called), some (.inl (mm_f σ 346)), some (.inl (mm_f σ 347)), some (.inr (.inl (kpt σ))), none, some (.inl (nI (fN σ 336))), some (.inl v9)], []) u) true 20 (bgW w s (fN σ 324) (fN σ 336)) (bgA A s) (m - 12) e (s_plH T (s_lv T ν) (false, false, !(s == 0), s == 6, true, false) (plG s) i) u1 i := by
    rcases en with hG | ⟨-, hB⟩
    · refine Or.inl ⟨hg1 w A (m - 12) e i (by rw [show m - 12 + 12 = m by omega]; exact hG), ⟨by show fN σ 315 ≤ fN u1 315; omega, by show fN σ 336 ≤ fN u1 336; omega, ?_, ?_⟩, by omega, t143⟩
      · show fN σ 371 ≤ fN u1 371
        rw [fN_eq b371]; exact Nat.le_refl _
      · show fN σ 356 ≤ fN u1 356
        rw [fN_eq b356]; exact Nat.le_refl _
    · exact Or.inr ⟨rfl, hb1 (g + 60 + 20) (hB.mono (by omega)), fun n u f c hn => t143 n u ⟨f, Or.inr ⟨Or.inr (fun z => hB.no (by unfold GD at z ⊢; rw [b303] at z; exact z)), c, hn⟩⟩⟩
  refine St.need st (by omega) (fun u2 st2 hf2 _ => ?_)
  have ht1 : th u1 = (fN σ 315, fN σ 336 + 1, fN σ 371, fN σ 356) := by
    unfold th
    rw [b315, b336, fN_eq b371, fN_eq b356]
  have hf2t : tle (th σ) (th u1) := by rw [ht1]; exact ⟨Nat.le_refl _, Nat.le_succ _, Nat.le_refl _, Nat.le_refl _⟩
  have hfu2 : fN σ 336 < fN u2 336 := by have := hf2.2.2.2.2.1.2.2.2; omega
  refine St.params (H := 12) (fk := fN σ 336) (w := bgW w s (fN σ 324) (fN σ 336)) (F := fun b k => bif (plG s == 1 && !(b.2.1 == 0)) || (plG s == 2 && (!(b.2.1 == 1) || b.2.2 || t_sg T (k - 2) 9)) then none else s_r b.1 k) (by rw [show (w_x (bgW w s (fN σ 324) (fN σ 336))).1 = (false, false, !(s == 0), s == 6, true, false) from hbg]; exact st2) hE hR hw rfl (by omega) (by omega) (by omega) (by omega) hfu2 (fun _ => Nat.le_refl _) (fun gd2 => ?_) (fun u6 v j B m' st6 hm6 fr6 hj6 hp6 => ?_)
  · have flx := (hf2.2.2.2.2.2.2.2 gd2).2.2.1 (fN σ 336) (by rw [ht1]; exact Nat.lt_succ_self _)
    rw [flx.1, flx.2, b338, b342]
    exact ⟨or_44 fl, rfl⟩
  · have hfu6 : fN σ 336 < fN u6 336 := by have := fr6.2.2.2.2.1.2.2.2; omega
    have hj2 : GD u6 → 2 ≤ j := fun gd6 => by have := hj6 gd6; omega
    -- the last checks
    have w118 : ∀ (b : Bool) (u : mmS) (v9 : Int32) (c : Bool), St T (fun (si : Bool) _ _ u => (mm_a u 338 (fN σ 336) &&& 4 = 0 ↔ si = false)) any2 (g + 60) (bgW w s (fN σ 324) (fN σ 336)) (m + 12) e (th σ) (i + 1) (fun _ u => ∀ v9 : Int32, mm_W mt3045 (MC d) Q (143, [some (.inr (.inr (3, a))), some (.inl s), some (.inl fl), some (.inl called), some (.inl (mm_f σ 346)), some (.inl (mm_f σ 347)), some (.inr (.inl (kpt σ))), none, some (.inl (nI (fN σ 336))), some (.inl v9)], []) u) b 12 (bgW w s (fN σ 324) (fN σ 336)) B m' e (bif s == 4 && t_sg T (j - 2) 9 then none else s_r v.1 j) u j → (GD u → GD u6) → (GD u → parF (fN σ 336) v u) →
        mm_W mt3045 (MC d) Q (118, [some (.inr (.inr (3, a))), some (.inl s), some (.inl fl), some (.inl called), some (.inl (mm_f σ 346)), some (.inl (mm_f σ 347)), some (.inr (.inl (kpt σ))), none, some (.inl (nI (fN σ 336))), some (.inl v9)], []) u := by
      intro b u v9 c st hg6 hpf
      have out : ∀ (b : Bool) (u' : mmS), St T (fun (si : Bool) _ _ u => (mm_a u 338 (fN σ 336) &&& 4 = 0 ↔ si = false)) any2 (g + 60) (bgW w s (fN σ 324) (fN σ 336)) (m + 12) e (th σ) (i + 1) (fun _ u => ∀ v9 : Int32, mm_W mt3045 (MC d) Q (143, [some (.inr (.inr (3, a))), some (.inl s), some (.inl fl), some (.inl called), some (.inl (mm_f σ 346)), some (.inl (mm_f σ 347)), some (.inr (.inl (kpt σ))), none, some (.inl (nI (fN σ 336))), some (.inl v9)], []) u) b 12 (bgW w s (fN σ 324) (fN σ 336)) B m' e (s_r v.1 j) u' j → (GD u' → GD u6) → (GD u' → parF (fN σ 336) v u') → ∀ v9 : Int32,
          mm_W mt3045 (MC d) Q (143, [some (.inr (.inr (3, a))), some (.inl s), some (.inl fl), some (.inl called), some (.inl (mm_f σ 346)), some (.inl (mm_f σ 347)), some (.inr (.inl (kpt σ))), none, some (.inl (nI (fN σ 336))), some (.inl v9)], []) u' := fun b u' st' hg' hp' =>
        st'.ret (n := 0) (fun _ => rfl) (fun _ => rfl) (fun gd => by have := hj6 (hg' gd); omega) 0 (fun _ => by omega) (fun _ => Nat.le_refl _) (fun gd => (hp' gd).1) (fun _ => trivial)
      refine b3045_118 _ _ _ _ _ _ _ _ _ _ _ _ _ (br_p (fun c4 => ?_) (fun c4 => out b u (st.f fun _ => by rw [beq_eq_false_iff_ne.mpr c4]; rfl) hg6 hpf v9))
      obtain ⟨q, q1, q2, q3, q4⟩ := st.pge
      have hq2 : 2 ≤ q := by
        by_cases gd : GD u
        · rw [q3 gd]; exact hj2 (hg6 gd)
        · have := q4 gd; have := h4 c4; omega
      rw [q1, nI_m2 hq2]
      refine c_signAt (by omega) st.ci.1 (by omega) (br_0 (fun z => ?_) (fun z => ?_))
      · exact out b u (st.f fun gd => by rw [← q3 gd, z, Bool.and_false]) hg6 hpf v9
      · refine st.fail (by omega) (fun gd => by rw [← q3 gd, z, c4]; rfl) (fun u7 ng st7 hf7 => ⟨rfl, ?_⟩)
        exact out true u7 (st7.rw fun gd => absurd gd ng) (fun gd => absurd gd ng) (fun gd => absurd gd ng) v9
    -- whether it is one element
    have w86 : ∀ (s0 : Int32), (GD u6 → (s0 = 0 ↔ ¬ (v.2.1 = 1 ∧ v.2.2 = false))) → mm_W mt3045 (MC d) Q (86, [some (.inr (.inr (3, a))), some (.inl s), some (.inl fl), some (.inl called), some (.inl (mm_f σ 346)), some (.inl (mm_f σ 347)), some (.inr (.inl (kpt σ))), none, some (.inl (nI (fN σ 336))), none], [.inl s0]) u6 := by
      intro s0 hs0
      have badw : ∀ (u7 : mmS) (v9 : Int32), ¬ GD u7 → St T (fun (si : Bool) _ _ u => (mm_a u 338 (fN σ 336) &&& 4 = 0 ↔ si = false)) any2 (g + 60) (bgW w s (fN σ 324) (fN σ 336)) (m + 12) e (th σ) (i + 1) (fun _ u => ∀ v9 : Int32, mm_W mt3045 (MC d) Q (143, [some (.inr (.inr (3, a))), some (.inl s), some (.inl fl), some (.inl called), some (.inl (mm_f σ 346)), some (.inl (mm_f σ 347)), some (.inr (.inl (kpt σ))), none, some (.inl (nI (fN σ 336))), some (.inl v9)], []) u) true 12 (bgW w s (fN σ 324) (fN σ 336)) B m' e (bif (plG s == 1 && !(v.2.1 == 0)) || (plG s == 2 && (!(v.2.1 == 1) || v.2.2 || t_sg T (j - 2) 9)) then none else s_r v.1 j) u7 j →
          mm_W mt3045 (MC d) Q (118, [some (.inr (.inr (3, a))), some (.inl s), some (.inl fl), some (.inl called), some (.inl (mm_f σ 346)), some (.inl (mm_f σ 347)), some (.inr (.inl (kpt σ))), none, some (.inl (nI (fN σ 336))), some (.inl v9)], []) u7 := fun u7 v9 ng st7 =>
        w118 true u7 v9 false (st7.rw fun gd => absurd gd ng) (fun gd => absurd gd ng) (fun gd => absurd gd ng)
      have w103 : (s = 3 → GD u6 → v.2.1 = 0) → mm_W mt3045 (MC d) Q (103, [some (.inr (.inr (3, a))), some (.inl s), some (.inl fl), some (.inl called), some (.inl (mm_f σ 346)), some (.inl (mm_f σ 347)), some (.inr (.inl (kpt σ))), none, some (.inl (nI (fN σ 336))), some (.inl s0)], []) u6 := fun h3 => by
        have g1 : GD u6 → (plG s == 1 && !(v.2.1 == 0)) = false := fun gd => by
          by_cases c3 : s = 3
          · rw [h3 c3 gd]; simp
          · have : (plG s == 1) = false := by
              rcases hp with rfl | rfl | rfl | rfl | rfl | rfl <;> first | exact absurd rfl c3 | rfl
            rw [this]; rfl
        refine b3045_103 _ _ _ _ _ _ _ _ _ _ _ _ _ (br_p (fun c4 => br_p (fun c0 => ?_) (fun c0 => ?_)) (fun c4 => ?_))
        · refine st6.fail (by omega) (fun gd => ?_) (fun u7 ng st7 hf7 => ⟨rfl, badw u7 _ ng st7⟩)
          have := (hs0 gd).mp c0
          rw [g1 gd, c4]
          show (bif false || (true && (!(v.2.1 == 1) || v.2.2 || t_sg T (j - 2) 9)) then none else s_r v.1 j) = none
          cases h1 : v.2.1 == 1 with
          | false => rfl
          | true =>
            cases h2 : v.2.2 with
            | true => rfl
            | false => exact absurd ⟨eq_of_beq h1, h2⟩ this
        · refine w118 true u6 s0 false (st6.rw fun gd => ?_) id hp6
          have := (Decidable.not_iff_not.mpr (hs0 gd)).mp c0
          rw [Decidable.not_not] at this
          rw [g1 gd, c4, this.1, this.2]; rfl
        · refine w118 true u6 s0 false (st6.rw fun gd => ?_) id hp6
          have h2 : (plG s == 2) = false := by
            rcases hp with rfl | rfl | rfl | rfl | rfl | rfl <;> first | exact absurd rfl c4 | rfl
          rw [g1 gd, h2, beq_eq_false_iff_ne.mpr c4]; rfl
      refine b3045_86 _ _ _ _ _ _ _ _ _ _ _ _ _ _ (br_p (fun c3 => rd_fn st6.ci (by decide) hfu6 (br_p (fun c0 => ?_) (fun c0 => ?_))) (fun c3 => w103 (fun q => absurd q c3)))
      · exact w103 (fun _ gd => (hp6 gd).2.1.mp c0)
      · refine st6.fail (by omega) (fun gd => ?_) (fun u7 ng st7 hf7 => ⟨rfl, badw u7 _ ng st7⟩)
        have : (v.2.1 == 0) = false := beq_eq_false_iff_ne.mpr fun q => c0 ((hp6 gd).2.1.mpr q)
        rw [c3, this]; rfl
    refine rd_fn st6.ci (by decide) hfu6 (br_p (fun c0 => ?_) (fun c0 => ?_))
    · exact w86 0 (fun gd => ⟨fun _ q => by have := (hp6 gd).2.1.mp c0; omega, fun _ => rfl⟩)
    · refine rd_fn st6.ci (by decide) hfu6 ?_
      obtain ⟨kx, k1, k2⟩ := pa_nid st6.ci hfu6
      have kf : GD u6 → ∃ k, kx = k ∧ (mm_a u6 322 k = 0 ↔ v.2.1 = 1) ∧ (v.2.1 = 1 → (mm_a u6 316 k = 52 ↔ v.2.2 = false)) := fun gd => by
        obtain ⟨k', q1, q2, q3, q4, q5⟩ := (hp6 gd).2.2 (fun q => c0 ((hp6 gd).2.1.mpr q))
        have := st6.cap.1
        exact ⟨k', nI_inj (by omega) (by omega) (k1.symm.trans q1), q4, q5⟩
      refine st6.rdn (by decide) k1 k2 (br_p (fun cn => ?_) (fun cn => ?_))
      · refine b3045_64 _ _ _ _ _ _ _ _ _ _ _ _ _ (rd_fn st6.ci (by decide) hfu6 (st6.rdn (by decide) k1 k2 (br_p (fun c5 => ?_) (fun c5 => ?_))))
        · refine w86 1 (fun gd => ⟨fun q => absurd q (by decide), fun q => ?_⟩)
          obtain ⟨k', rfl, q4, q5⟩ := kf gd
          exact absurd ⟨q4.mp cn, (q5 (q4.mp cn)).mp c5⟩ q
        · refine w86 0 (fun gd => ⟨fun _ q => ?_, fun _ => rfl⟩)
          obtain ⟨k', rfl, q4, q5⟩ := kf gd
          exact c5 ((q5 q.1).mpr q.2)
      · refine w86 0 (fun gd => ⟨fun _ q => ?_, fun _ => rfl⟩)
        obtain ⟨k', rfl, q4, q5⟩ := kf gd
        exact cn (q4.mpr q.1)
end PLAIN
