/-! PHASE 3. declarations(), declarationsOf() -/
/-- a row of declarations, while it grows; tl: the last -/
def dY (u : mmS) (lo : Nat) (y : Nat × List Int32) : Prop := lo ≤ y.1 ∧ y.1 < fN u 315 ∧ ∃ j f, mm_a u 317 y.1 = nI j ∧ tlR u lo y.1 98 f false j = some y.2
def decG (lo k : Nat) (tl : Int32) (nm : List Int32) (u : mmS) : Prop := ∃ l l0 z, rwN u l (mm_a u 317 k) ∧ (∀ y ∈ l, dY u lo y) ∧ (l.map (·.1)).Pairwise (· < ·) ∧ l = l0 ++ [z] ∧ tl = nI z.1 ∧ mm_a u 322 z.1 = 0 ∧ nm = l.flatMap (·.2)
def decS (P : Prop) (lo : Nat) (v : List Int32) (_ : Nat) (n : Int32) (u : mmS) : Prop := ∃ k, n = nI k ∧ lo ≤ k ∧ k < fN u 315 ∧ (P → ∃ ds : List (Nat × List Int32), rwD u lo ds (mm_a u 317 k) ∧ v = ds.flatMap (·.2))
theorem dY.keep {u v : mmS} {lo : Nat} {y : Nat × List Int32} (h : dY u lo y) (hn : fN u 315 ≤ fN v 315) (h7 : mm_a v 317 y.1 = mm_a u 317 y.1) (hr : ∀ s, 316 ≤ s → s ≤ 323 → ∀ j, lo ≤ j → j < y.1 → mm_a v s j = mm_a u s j) : dY v lo y := by
  obtain ⟨h1, h2, j, f, h3, h4⟩ := h
  exact ⟨h1, by omega, j, f, h7.trans h3, tlR_same (Nat.le_refl _) (Nat.le_refl _) hr _ _ f _ _ _ _ (Nat.le_refl _) (Nat.le_refl _) h4⟩
theorem decG.mono {lo k : Nat} {tl : Int32} {nm : List Int32} {u v : mmS} (h : decG lo k tl nm u) (h1 : 1 ≤ lo) (k1 : lo ≤ k) (k2 : k < fN u 315) (f : Fr (th u) u v) (gd : GD v) : decG lo k tl nm v := by
  obtain ⟨l, l0, z, h2, h3, h4, h5, h6, h7, h8⟩ := h
  have fn := f.nn
  have fg := (f.2.2.2.2.2.2.2 gd).2.1
  have e (s : Nat) (s1 : 316 ≤ s) (s2 : s ≤ 323) (j : Nat) (j1 : 1 ≤ j) (j2 : j < fN u 315) : mm_a v s j = mm_a u s j := fg s s1 s2 j j1 j2
  have hz := h3 z (by rw [h5]; simp)
  refine ⟨l, l0, z, ?_, fun y hy => ?_, h4, h5, h6, by rw [e 322 (by decide) (by decide) z.1 (by have := hz.1; omega) hz.2.1]; exact h7, h8⟩
  · rw [e 317 (by decide) (by decide) k (by omega) k2]
    exact rwN_same (fun y hy => e 322 (by decide) (by decide) y.1 (by have := (h3 y hy).1; omega) (h3 y hy).2.1) h2
  · have hy1 := h3 y hy
    exact hy1.keep fn (e 317 (by decide) (by decide) y.1 (by have := hy1.1; omega) hy1.2.1) (fun s s1 s2 j j1 j2 => e s s1 s2 j (by omega) (by have := hy1.2.1; omega))
theorem decG.add {lo k ly : Nat} {tl : Int32} {nm : List Int32} {u : mmS} {t : Nat} {y : Nat × List Int32} (h : decG lo k tl nm u) (hb : fN u 315 ≤ 85000) (ht : tl = nI t) (htb : t < fN u 315) (hy : dY u ly y) (hly : t < ly) (hll : lo ≤ ly) (h0 : mm_a u 322 y.1 = 0) : decG lo k (nI y.1) (nm ++ y.2) (mm_seta u 322 t (nI y.1)) := by
  obtain ⟨l, l0, z, h2, h3, h4, h5, h6, h7, h8⟩ := h
  subst h5
  have hzm := h3 z (by simp)
  have hzt : z.1 = t := nI_inj (by have := hzm.2.1; omega) (by omega) (h6.symm.trans ht)
  subst hzt
  have a (s j : Nat) (h : s ≠ 322 ∨ j ≠ z.1) : mm_a (mm_seta u 322 z.1 (nI y.1)) s j = mm_a u s j := by
    rcases h with h | h
    · rw [a_seta_n h]
    · rw [a_seta_i h]
  have hyl := hy.1
  have lt : ∀ x ∈ l0, x.1 < z.1 := fun x hx => by
    rw [List.map_append, List.pairwise_append] at h4
    exact h4.2.2 x.1 (List.mem_map_of_mem hx) z.1 (by simp)
  have y0 : mm_a (mm_seta u 322 z.1 (nI y.1)) 322 y.1 = 0 := by rw [a 322 y.1 (Or.inr (by omega))]; exact h0
  refine ⟨l0 ++ [z] ++ [y], l0 ++ [z], y, ?_, fun x hx => ?_, ?_, rfl, rfl, y0, by rw [h8]; simp⟩
  · rw [a 317 k (Or.inl (by decide))]
    exact rwN_snoc a_seta_s y0 (fun w hw => a 322 w.1 (Or.inr (by have := lt w hw; omega))) h2
  · rw [List.mem_append] at hx
    rcases hx with hx | hx
    · have hx1 := h3 x hx
      have : x.1 ≤ z.1 := by
        rw [List.mem_append] at hx
        rcases hx with hx | hx
        · exact Nat.le_of_lt (lt x hx)
        · rw [List.mem_singleton.mp hx]; exact Nat.le_refl _
      exact hx1.keep (Nat.le_refl _) (a 317 _ (Or.inl (by decide))) (fun s s1 s2 j j1 j2 => a s j (Or.inr (by omega)))
    · rw [List.mem_singleton.mp hx]
      obtain ⟨q1, q2, j, f, q3, q4⟩ := hy.keep (v := mm_seta u 322 z.1 (nI y.1)) (Nat.le_refl _) (a 317 _ (Or.inl (by decide))) (fun s s1 s2 j j1 j2 => a s j (Or.inr (by omega)))
      exact ⟨by omega, q2, j, f, q3, tlR_same hll (Nat.le_refl _) (fun _ _ _ _ _ _ => rfl) _ _ f _ _ _ _ (Nat.le_refl _) (Nat.le_refl _) q4⟩
  · rw [List.map_append, List.pairwise_append]
    refine ⟨h4, by simp, fun x hx q hq => ?_⟩
    rw [List.mem_map] at hx
    obtain ⟨x', hx', rfl⟩ := hx
    have hq : q = y.1 := by simpa using hq
    rw [hq]
    rw [List.mem_append] at hx'
    rcases hx' with hx' | hx'
    · have := lt x' hx'; omega
    · rw [List.mem_singleton.mp hx']; omega
theorem rwD_of {u : mmS} {lo : Nat} : ∀ {l : List (Nat × List Int32)} {x : Int32}, rwN u l x → (∀ y ∈ l, dY u lo y) → rwD u lo l x
  | [], _, h, _ => h
  | y :: t, x, h, hy => by
    obtain ⟨q1, q2, j, f, q3, q4⟩ := hy y List.mem_cons_self
    exact ⟨h.1, q1, q2, ⟨j, f, q3, tlR_same (Nat.le_refl _) (by omega) (fun _ _ _ _ _ _ => rfl) _ _ f _ _ _ _ (Nat.le_refl _) (Nat.le_refl _) q4⟩, rwD_of h.2 fun z hz => hy z (List.mem_cons_of_mem _ hz)⟩
theorem decG.done {lo k : Nat} {tl : Int32} {nm : List Int32} {u : mmS} (h : decG lo k tl nm u) : ∃ ds : List (Nat × List Int32), rwD u lo ds (mm_a u 317 k) ∧ nm = ds.flatMap (·.2) := by
  obtain ⟨l, l0, z, h2, h3, h4, h5, h6, h7, h8⟩ := h
  exact ⟨l, rwD_of h2 h3, h8⟩
theorem s_b_un {β γ : Type} {r : sR β} {F : Unit → Nat → sR γ} : s_b (s_b r (fun _ m => s_r () m)) F = s_b r (fun _ m => F () m) := by
  rw [s_b_b]
  exact congrArg _ (funext fun v => funext fun m => s_b_r)
/-- what is behind the pattern; behind its value -/
def s_ini (T : sT) (E : sE) (cx : sC) (cst inn : Bool) (b : Bool) (k : Nat) : sR Unit := bif t_sg T k 40 then s_b (E.1 cx inn (k + 1)) (fun _ m => s_r () m) else bif cst || !b then none else s_r () k
def s_decT (T : sT) (E : sE) (cx : sC) (as : Nat) (cst inn : Bool) (f : Nat) (l : List Int32) (m : Nat) : sR (List Int32) := bif t_sg T m 9 then s_decL T E cx as cst inn f l (m + 1) else s_r l m
theorem s_decL_eq {T : sT} {E : sE} {cx : sC} {as : Nat} {cst inn : Bool} {f : Nat} {l : List Int32} {j : Nat} : s_decL T E cx as cst inn (f + 1) l j = s_b (s_bind T E cx as j) (fun b k => s_b (s_ini T E cx cst inn b.1 k) (fun _ m => s_decT T E cx as cst inn f (l ++ b.2) m)) := rfl
/-- a pattern that was just read gives a row -/
theorem dY_new {u v : mmS} {lo : Nat} {b : Bool × List Int32} {n x y z : Int32} {σb : mmS} (hb : bdK 98 lo b x u) (nw : NwN u 80 x y z 0 n v) (f : Fr (th u) u v) (h1 : 1 ≤ lo) (gd : GD v) : dY v lo (fN u 315, b.2) := by
  obtain ⟨k, k1, k2, k3, k4, k5, fu, k6⟩ := hb
  have fg := (f.2.2.2.2.2.2.2 gd).2.1
  refine ⟨by show lo ≤ fN u 315; omega, by show fN u 315 < fN v 315; have := nw.2.1; omega, k, fu, nw.2.2.2.1.trans k1, ?_⟩
  exact tlR_same (Nat.le_refl _) (Nat.le_refl _) (fun s s1 s2 j j1 j2 => fg s s1 s2 j (by omega) j2) _ _ fu _ _ _ _ (Nat.le_refl _) (Nat.le_refl _) k6
section DECL
variable {β : Type} {T : sT} {Sh : β → Nat → Int32 → mmS → Prop} {N : Int32 → mmS → Prop} {g : Nat} {w0 : cW} {m0 e0 : Nat} {θ : cTh} {l0 : Nat} {Z : Int32 → mmS → Prop} {b : Bool} {h : Nat} {w : cW} {A : cA} {m e : Nat} {r : sR β} {σ u : mmS} {i j : Nat}
variable {ν a d : Nat} {Q : mmQ}
theorem decl_loop {P : Prop} {lo k4 as : Nat} {v1 v2 : Int32} {inn : Bool} (ih : cAsg T ν) (hE : cEl T ν) (hR : cRst T ν) (hw : w_nu w = ν) (hc : cls v1 = as) (hd : 50 * ν + 14 ≤ d) (hq : g + 40 ≤ GQ ν) (n1 : 1 ≤ lo) (f : Nat) : ∀ (b : Bool) (h : Nat) (A : cA) (m i : Nat) (σ : mmS) (v5 : Int32) (l : List Int32) (wv6 wv7 wv8 : Option mmV), (GD σ → l0 ≤ i) → (GD σ → t_e T < f + i) → 24 ≤ m → m0 ≤ m → lo ≤ k4 → k4 < fN σ 315 → own θ v5 σ → (GD σ → P → decG lo k4 v5 l σ) →
    St T (decS P lo) nid g w m0 e θ l0 (fun n u => Q (.inl (some (.inl n))) u) b h w A m e (s_decT T (s_lv T ν) (w_x w).1 as (v1 == 2) inn f l i) σ i →
    mm_W mt3092 (MC d) Q (15, [some (.inr (.inr (3, a))), some (.inl v1), some (.inl v2), some (.inl (bI inn)), some (.inl (nI k4)), some (.inl v5), wv6, wv7, wv8], []) σ := by
  have hGQ := GQ_le ν
  induction f with
  | zero =>
    intro b h A m i σ v5 l wv6 wv7 wv8 hl hf hm hm0 hk1 hk2 ho hp st
    refine b3092_15 _ _ _ _ _ _ _ _ _ _ _ _ (st.wrong (fun gd st => ?_) (fun ng => st.bad ng ⟨k4, rfl, hk2⟩))
    have := hf gd
    have := (st.gd gd).2.2.1.2
    omega
  | succ f IH =>
    intro b h A m i σ v5 l wv6 wv7 wv8 hl hf hm hm0 hk1 hk2 ho hp st
    refine b3092_15 _ _ _ _ _ _ _ _ _ _ _ _ (st.wrong (fun gd st => ?_) (fun ng => st.bad ng ⟨k4, rfl, hk2⟩))
    have st := st.rise (h' := 12) gd (by omega)
    have hl := hl gd
    have hf := hf gd
    have hp := hp gd
    refine st.eat (by omega) (fun z => ?_) (fun u1 z st1 f1 => ?_)
    · exact (st.rw (r' := s_r l i) (fun gd => by unfold s_decT; rw [z gd]; rfl)).ret (fun _ => rfl) (fun _ => rfl) (fun _ => hl) 0 (fun _ => by omega) (fun _ => Nat.le_refl _) (fun gd => ⟨k4, rfl, hk1, hk2, fun p => (hp p).done⟩) (fun _ => ⟨k4, rfl, hk2⟩)
    · have l1 := f1.nn
      have st1 := st1.rw (r' := s_b (s_bind T (s_lv T ν) (w_x w).1 as (i + 1)) (fun b k => s_b (s_ini T (s_lv T ν) (w_x w).1 (v1 == 2) inn b.1 k) (fun _ m => s_decT T (s_lv T ν) (w_x w).1 as (v1 == 2) inn f (l ++ b.2) m))) (fun gd1 => by unfold s_decT; rw [z (f1.1 gd1)]; rfl)
      refine St.callP (h := 11) (c := 1) (m' := m + 12 + 8) (s := 1) (bb := true) (Sh' := shBd (2 * ν + 2)) (N' := nid) (r1 := s_bind T (s_lv T ν) (w_x w).1 as) (fun en kk => c_binding (a := a) ih hE hR hw hc (by omega) (by omega) (by omega) en kk) (false, []) st1 (fun _ => rfl) rfl (fun bd j B q x u2 st2 f2 hj2 hs2 hn2 => ?_)
      have l2 := f2.nn
      have hbd : GD u2 → bdK 98 (fN u1 315) bd x u2 := fun gd2 => bdK_of (hs2 gd2) (Nat.le_refl _) (by have := (st2.gd gd2).2.2.2.1.2.1; omega)
      have hxn : nid x u2 := by
        by_cases gd2 : GD u2
        · obtain ⟨kx, y1, y2, y3, -⟩ := hbd gd2
          exact ⟨kx, y1, y3⟩
        · exact hn2 gd2
      -- with the value, or none
      have w81 : ∀ (u3 : mmS) (j3 m3 h3 : Nat) (B3 : cA) (v7 : Int32) (wv8 : Option mmV), 25 ≤ m3 → m0 + 1 ≤ m3 → St T (decS P lo) nid g w m0 e θ l0 (fun n u => Q (.inl (some (.inl n))) u) true (h3 + 1) w B3 m3 e (s_decT T (s_lv T ν) (w_x w).1 as (v1 == 2) inn f (l ++ bd.2) j3) u3 j3 → Fr (th u2) u2 u3 → (GD u3 → j ≤ j3) →
          mm_W mt3092 (MC d) Q (81, [some (.inr (.inr (3, a))), some (.inl v1), some (.inl v2), some (.inl (bI inn)), some (.inl (nI k4)), some (.inl v5), some (.inl x), some (.inl v7), wv8], []) u3 := fun u3 j3 m3 h3 B3 v7 wv8 hm3 hm30 st3 f3 hj3 => by
        have l3 := f3.nn
        refine b3092_81 _ _ _ _ _ _ _ _ _ _ _ _ (St.node (h := h3) st3 (by omega) (by omega) (fun n4 u4 st4 f4 nw => ?_))
        have l4 := f4.nn
        have ow4 : own θ v5 u4 := (((ho.mono f1).mono f2).mono f3).mono f4
        refine st4.setown (by decide) ow4 (fun t t1 t2 st5 f5 => ?_)
        refine IH true h3 B3 (m3 - 1) j3 _ n4 (l ++ bd.2) _ _ _ (fun gd5 => ?_) (fun gd5 => ?_) (by omega) (by omega) hk1 (by show k4 < fN u4 315; omega) ((own_new nw f4 st3).mono f5) (fun gd5 p => ?_) st5
        · have := hj3 (f4.1 gd5); have := hj2 (f3.1 (f4.1 gd5)); omega
        · have := hj3 (f4.1 gd5); have := hj2 (f3.1 (f4.1 gd5)); omega
        · have g4 : GD u4 := gd5
          have g3 := f4.1 g4
          have g2 := f3.1 g3
          have g1 := f2.1 g2
          obtain ⟨t0, o1, o2, o3⟩ := ho
          have hcap := st4.cap.1
          have ett : t = t0 := nI_inj (by omega) (by omega) (t1.symm.trans o1)
          subst ett
          have dg := ((((hp p).mono n1 hk1 hk2 f1 g1).mono n1 hk1 (by omega) f2 g2).mono n1 hk1 (by omega) f3 g3).mono n1 hk1 (by omega) f4 g4
          have dy := dY_new (σb := σ) (((hbd g2).mono (by omega) f3 g3)) nw f4 (by omega) g4
          rw [nw.1]
          exact dg.add hcap t1 t2 dy (by omega) (by omega) (by show mm_a u4 322 (fN u3 315) = 0; exact nw.2.2.2.2.2.2.2.1)
      obtain ⟨kx, kx1, kx2⟩ := hxn
      refine st2.eat (by omega) (fun z2 => ?_) (fun u3 z2 st3 f3 => ?_)
      · have st2b := st2.rw (r' := s_b (bif (v1 == 2) || !bd.1 then none else s_r () j) (fun _ m => s_decT T (s_lv T ν) (w_x w).1 as (v1 == 2) inn f (l ++ bd.2) m)) (fun gd2 => by unfold s_ini; rw [z2 gd2]; rfl)
        have bad : (GD u2 → ((v1 == 2) || !bd.1) = true) → mm_I (MC d) Q 3025 [.inr (.inr (3, a))] u2 (fun x8 σ7 => Q (.inl (some (.inl x8))) σ7) := fun hz =>
          st2b.fail (by omega) (fun gd => by rw [hz gd]; rfl) (fun u5 ng st5 hf5 => st5.bad ng (nid_0 st5.ci))
        refine br_p (fun c2 => bad fun _ => by rw [c2]; rfl) (fun c2 => st2b.rdn (by decide) kx1 kx2 (br_p (fun c4 => ?_) (fun c4 => bad fun gd2 => ?_)))
        · refine w81 u2 j (m + 12 + 8 + q) 10 B 0 _ (by omega) (by omega) (st2b.rw fun gd2 => ?_) Fr.rfl' (fun _ => Nat.le_refl _)
          obtain ⟨k', y1, y2, y3, y4, -⟩ := hbd gd2
          have hcap := st2.cap.1
          have : k' = kx := nI_inj (by omega) (by omega) (y1.symm.trans kx1)
          subst this
          rw [y4.mp c4, beq_eq_false_iff_ne.mpr c2]
          show s_b (s_r () j) _ = _
          exact s_b_r
        · obtain ⟨k', y1, y2, y3, y4, -⟩ := hbd gd2
          have hcap := st2.cap.1
          have : k' = kx := nI_inj (by omega) (by omega) (y1.symm.trans kx1)
          subst this
          cases hx : bd.1 with
          | true => exact absurd (y4.mpr hx) c4
          | false => simp
      · have st3 := st3.rw (r' := s_b ((s_lv T ν).1 (w_x w).1 inn (j + 1)) (fun _ m => s_decT T (s_lv T ν) (w_x w).1 as (v1 == 2) inn f (l ++ bd.2) m)) (fun gd3 => by
          unfold s_ini
          rw [z2 (f3.1 gd3), cond_true]
          exact s_b_un)
        have l3 := f3.nn
        refine St.call (h := 11) (ih a w inn hw) (n_k 0) st3 (fun _ => rfl) (by omega) (by rw [hw]; omega) (by omega) rfl (fun v4 j4 B4 q4 x4 u4 st4 f4 hj4 hs4 hn4 => ?_)
        exact w81 u4 j4 _ 10 B4 x4 _ (by omega) (by omega) st4 (f3.trans (f4.mono fun g3 => th_le (st2.gd (f3.1 g3)) (st3.gd g3) f3)) (fun gd4 => by have := hj4 gd4; omega)
theorem c_declOf {P : Prop} {lo as : Nat} {v1 v2 : Int32} {inn : Bool} {f : Nat} {l : List Int32} {K : Int32 → mmS → Prop} {X : Nat → mmS → Prop} (ih : cAsg T ν) (hE : cEl T ν) (hR : cRst T ν) (hw : w_nu w = ν) (hc : cls v1 = as) (hd : 50 * ν + 15 ≤ d) (hq : g + 41 ≤ GQ ν) (n1 : 1 ≤ lo) (hm : 24 ≤ m) (hlo : lo ≤ fN σ 315) (tl : GD σ → tle θ (th σ)) (ho : own θ v2 σ) (hl : GD σ → l0 ≤ i) (hf : GD σ → t_e T < f + i) (hp : GD σ → P → ∃ t, v2 = nI t ∧ dY σ lo (t, l) ∧ mm_a σ 322 t = 0)
    (en : cG T w A (m + 1) e σ i ∨ (true = true ∧ cB T (g + 1) σ)) (k : ∀ n u, Rs T (decS P lo) nid g w m e θ l0 A (s_decT T (s_lv T ν) (w_x w).1 as (v1 == 2) inn f l i) σ n u → K n u) :
    mm_ci (MC d) 3092 [.inr (.inr (3, a)), .inl v1, .inl v2, .inl (bI inn)] σ K X := by
  obtain ⟨d, rfl, hd⟩ := mc_pos (c := 50 * ν + 14) (by omega)
  refine mc_ci (P := mt3092) (L := 9) rfl rfl ⟨by decide, Nat.le_of_ble_eq_true rfl⟩ fun Q hK hX => b3092_0 _ _ _ _ _ _ _ _ _ _ _ _ ?_
  have hGQ := GQ_le ν
  have st : St T (decS P lo) nid g w m e θ l0 (fun n u => Q (.inl (some (.inl n))) u) true (0 + 1) w A (m + 1) e (s_decT T (s_lv T ν) (w_x w).1 as (v1 == 2) inn f l i) σ i := by
    rcases en with hG | ⟨-, hB⟩
    · exact Or.inl ⟨hG, tl hG.2.1, by omega, fun n u rs => hK _ _ (k n u rs)⟩
    · exact Or.inr ⟨rfl, hB, fun n u f c hn => hK _ _ (k n u ⟨f, Or.inr ⟨Or.inr hB.no, c.mono (by omega), hn⟩⟩)⟩
  refine St.node5 (h := 0) st (by omega) (by omega) (fun n1' u1 st1 f1 nw => ?_)
  have l1 := f1.nn
  have e1 := nw.2.1
  rw [nw.1]
  refine decl_loop (lo := lo) ih hE hR hw hc (by omega) (by omega) n1 f true 0 A _ i u1 v2 l _ _ _ (fun gd => hl (f1.1 gd)) (fun gd => hf (f1.1 gd)) (by omega) (by omega) hlo (by omega) (ho.mono f1) (fun gd p => ?_) st1
  obtain ⟨t, t1, t2, t3⟩ := hp (f1.1 gd) p
  have fg := (f1.2.2.2.2.2.2.2 gd).2.1
  have tlo : lo ≤ t := t2.1
  have thi : t < fN σ 315 := t2.2.1
  have e22 : mm_a u1 322 t = 0 := (fg 322 (by decide) (by decide) t (by omega) thi).trans t3
  refine ⟨[(t, l)], [], (t, l), ⟨nw.2.2.2.1.trans t1, e22⟩, fun y hy => ?_, by simp, rfl, t1, e22, by simp⟩
  rw [List.mem_singleton.mp hy]
  exact t2.keep l1 (fg 317 (by decide) (by decide) t (by omega) thi) (fun s s1 s2 j j1 j2 => fg s s1 s2 j (by omega) (by have j2 : j < t := j2; show j < fN σ 315; omega))
theorem c_decl {as : Nat} {v1 : Int32} {K : Int32 → mmS → Prop} {X : Nat → mmS → Prop} (ih : cAsg T ν) (hE : cEl T ν) (hR : cRst T ν) (hw : w_nu w = ν) (hc : cls v1 = as) (hd : 50 * ν + 17 ≤ d) (hq : g + 80 ≤ GQ ν) (hm : 24 ≤ m) (hG : cG T w A m e σ i) (k : ∀ n u, Rs T (decS True (fN σ 315)) nid g w (m + 4) e (th σ) (i + 1) A (s_dec T (s_lv T ν) (w_x w).1 as (v1 == 2) i) σ n u → K n u) :
    mm_ci (MC d) 3091 [.inr (.inr (3, a)), .inl v1, .inl 1] σ K X := by
  obtain ⟨d, rfl, hd⟩ := mc_pos (c := 50 * ν + 16) (by omega)
  refine mc_ci (P := mt3091) (L := 5) rfl rfl ⟨by decide, Nat.le_of_ble_eq_true rfl⟩ fun Q hK hX => b3091_0 _ _ _ _ _ _ _ _ ?_
  have hGQ := GQ_le ν
  have n1 := hG.1.2.1.2.1
  have gd0 := hG.2.1
  have st : St T (decS True (fN σ 315)) nid g w (m + 4) e (th σ) (i + 1) (fun n u => Q (.inl (some (.inl n))) u) false (30 + 1) w A m e (s_b (s_bind T (s_lv T ν) (w_x w).1 as i) (fun b k => s_b (s_ini T (s_lv T ν) (w_x w).1 (v1 == 2) true b.1 k) (fun _ m => s_decT T (s_lv T ν) (w_x w).1 as (v1 == 2) true (t_e T) ([] ++ b.2) m))) σ i := Or.inl ⟨hG, tle.rfl', by omega, fun n u rs => hK _ _ (k n u (by unfold s_dec; rw [s_decL_eq]; exact rs))⟩
  refine St.callP (h := 30) (c := 1) (m' := m + 8) (s := 1) (bb := true) (Sh' := shBd (2 * ν + 2)) (N' := nid) (r1 := s_bind T (s_lv T ν) (w_x w).1 as) (fun en kk => c_binding (a := a) ih hE hR hw hc (by omega) (by omega) (by omega) en kk) (false, []) st (fun _ => rfl) rfl (fun bd j B q x u2 st2 f2 hj2 hs2 hn2 => ?_)
  have l2 := f2.nn
  have hbd : GD u2 → bdK 98 (fN σ 315) bd x u2 := fun gd2 => bdK_of (hs2 gd2) (Nat.le_refl _) (by have := (st2.gd gd2).2.2.2.1.2.1; omega)
  have hxn : nid x u2 := by
    by_cases gd2 : GD u2
    · obtain ⟨kx, y1, y2, y3, -⟩ := hbd gd2
      exact ⟨kx, y1, y3⟩
    · exact hn2 gd2
  have w48 : ∀ (u3 : mmS) (j3 m3 : Nat) (B3 : cA) (v4 : Int32), m + 7 ≤ m3 → St T (decS True (fN σ 315)) nid g w (m + 4) e (th σ) (i + 1) (fun n u => Q (.inl (some (.inl n))) u) true 20 w B3 m3 e (s_decT T (s_lv T ν) (w_x w).1 as (v1 == 2) true (t_e T) ([] ++ bd.2) j3) u3 j3 → Fr (th u2) u2 u3 → (GD u3 → j ≤ j3) →
      mm_W mt3091 (MC d) Q (48, [some (.inr (.inr (3, a))), some (.inl v1), some (.inl 1), some (.inl x), some (.inl v4)], []) u3 := fun u3 j3 m3 B3 v4 hm3 st3 f3 hj3 => by
    have l3 := f3.nn
    refine b3091_48 _ _ _ _ _ _ _ _ (St.node (h := 19) st3 (by omega) (by omega) (fun n4 u4 st4 f4 nw => ?_))
    have l4 := f4.nn
    have e4 := nw.2.1
    have st4 := st4.rw (r' := s_b (s_decT T (s_lv T ν) (w_x w).1 as (v1 == 2) true (t_e T) ([] ++ bd.2) j3) (fun v k => s_r v k)) (fun _ => s_b_ret.symm)
    have tl4 := st4.tl.1
    have own4 : own (th σ) n4 u4 := own_new nw f4 st3
    refine St.callR (h := 1) (c := 18) (s := 0) (bb := true) (m' := m3 - 2) (e' := e) (θ1 := th σ) (Sh' := fun _ => decS True (fN σ 315)) (N' := nid) (r1 := s_decT T (s_lv T ν) (w_x w).1 as (v1 == 2) true (t_e T) ([] ++ bd.2)) (fun en kk => c_declOf (a := a) (P := True) (lo := fN σ 315) (inn := true) (f := t_e T) (l := [] ++ bd.2) (l0 := j3 + 0) (m := m3 - 2) ih hE hR hw hc (by omega) (by omega) n1 (by omega) (by omega) tl4 own4 (fun _ => by omega) (fun gd4 => ?_) (fun gd4 _ => ?_) (en.imp (fun q => by rw [show m3 - 2 + 1 = m3 - 1 by omega]; exact q) (fun q => ⟨rfl, q.2.mono (by omega)⟩)) kk) [] st4 (fun _ => rfl) rfl (fun gd4 => tle.rfl') (fun v j5 B5 q5 n5 u5 st5 f5 hj5 hr5 hs5 hn5 => ?_)
    · have := hj3 (f4.1 gd4); have := hj2 (f3.1 (f4.1 gd4)); omega
    · have g3 := f4.1 gd4
      refine ⟨fN u3 315, nw.1, ?_, nw.2.2.2.2.2.2.2.1⟩
      exact dY_new (σb := σ) ((hbd (f3.1 g3)).mono n1 f3 g3) nw f4 n1 gd4
    · exact st5.ret (fun _ => rfl) (fun _ => rfl) (fun gd5 => by have := hj5 gd5; have := hj3 (f4.1 (f5.1 gd5)); have := hj2 (f3.1 (f4.1 (f5.1 gd5))); omega) q5 (fun _ => by omega) (fun _ => Nat.le_refl _) hs5 hn5
  obtain ⟨kx, kx1, kx2⟩ := hxn
  refine st2.eat (by omega) (fun z2 => ?_) (fun u3 z2 st3 f3 => ?_)
  · have st2b := st2.rw (r' := s_b (bif (v1 == 2) || !bd.1 then none else s_r () j) (fun _ m => s_decT T (s_lv T ν) (w_x w).1 as (v1 == 2) true (t_e T) ([] ++ bd.2) m)) (fun gd2 => by unfold s_ini; rw [z2 gd2]; rfl)
    have bad : (GD u2 → ((v1 == 2) || !bd.1) = true) → mm_I (MC d) Q 3025 [.inr (.inr (3, a))] u2 (fun x8 σ7 => Q (.inl (some (.inl x8))) σ7) := fun hz =>
      st2b.fail (by omega) (fun gd => by rw [hz gd]; rfl) (fun u5 ng st5 hf5 => st5.bad ng (nid_0 st5.ci))
    refine br_p (fun c2 => bad fun _ => by rw [c2]; rfl) (fun c2 => st2b.rdn (by decide) kx1 kx2 (br_p (fun c4 => ?_) (fun c4 => bad fun gd2 => ?_)))
    · refine w48 u2 j (m + 8 + q) B 0 (by omega) ((st2b.rw fun gd2 => ?_).mono (by omega)) Fr.rfl' (fun _ => Nat.le_refl _)
      obtain ⟨k', y1, y2, y3, y4, -⟩ := hbd gd2
      have hcap := st2.cap.1
      have : k' = kx := nI_inj (by omega) (by omega) (y1.symm.trans kx1)
      subst this
      rw [y4.mp c4, beq_eq_false_iff_ne.mpr c2]
      show s_b (s_r () j) _ = _
      exact s_b_r
    · obtain ⟨k', y1, y2, y3, y4, -⟩ := hbd gd2
      have hcap := st2.cap.1
      have : k' = kx := nI_inj (by omega) (by omega) (y1.symm.trans kx1)
      subst this
      cases hx : bd.1 with
      | true => exact absurd (y4.mpr hx) c4
      | false => simp
  · have st3 := st3.rw (r' := s_b ((s_lv T ν).1 (w_x w).1 true (j + 1)) (fun _ m => s_decT T (s_lv T ν) (w_x w).1 as (v1 == 2) true (t_e T) ([] ++ bd.2) m)) (fun gd3 => by
      unfold s_ini
      rw [z2 (f3.1 gd3), cond_true]
      exact s_b_un)
    have l3 := f3.nn
    refine St.call (h := 30) (ih a w true hw) (n_k 0) st3 (fun _ => rfl) (by omega) (by rw [hw]; omega) (by omega) rfl (fun v4 j4 B4 q4 x4 u4 st4 f4 hj4 hs4 hn4 => ?_)
    exact w48 u4 j4 _ B4 x4 (by omega) (st4.mono (by omega)) (f3.trans (f4.mono fun g3 => th_le (st2.gd (f3.1 g3)) (st3.gd g3) f3)) (fun gd4 => by have := hj4 gd4; omega)
end DECL
