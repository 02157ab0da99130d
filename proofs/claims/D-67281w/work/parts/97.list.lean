/-! PHASE 3. list(); texts asked for their letters -/
/-- a row of declarations: their names -/
def rwD (u : mmS) (lo : Nat) : List (Nat × List Int32) → Int32 → Prop
  | [], x => x = 0
  | y :: t, x => x = nI y.1 ∧ lo ≤ y.1 ∧ y.1 < fN u 315 ∧ (∃ j f, mm_a u 317 y.1 = nI j ∧ tlR u lo (fN u 315) 98 f false j = some y.2) ∧ rwD u lo t (mm_a u 322 y.1)
/-- a statement's node, with the names it has -/
def shIt (T : sT) (σ : mmS) (l : List Int32) (_ : Nat) (n : Int32) (u : mmS) : Prop := ∃ k, n = nI k ∧ 1 ≤ fN σ 315 ∧ fN σ 315 ≤ k ∧ k < fN u 315 ∧
  ((t_wd T (fN σ 311) 33 || t_wd T (fN σ 311) 38 || t_wd T (fN σ 311) 5) = true → ∃ ds : List (Nat × List Int32), rwD u (fN σ 315) ds (mm_a u 317 k) ∧ l = ds.flatMap (·.2)) ∧
  ((t_wd T (fN σ 311) 18 || t_wd T (fN σ 311) 4 || s_afun T (fN σ 311)) = true → l = [mm_a u 317 k])
def cIt (T : sT) (ν : Nat) : Prop := ∀ (a : Nat) (w : cW), w_nu w = ν → CI T (shIt T) any2 (50 * ν + 10) 0 0 false 1 w ((s_lv T ν).2.2.2.2.2.2.1 (w_x w)) 3065 [.inr (.inr (3, a))]
section LIST
variable {T : sT} {g : Nat} {w : cW} {A : cA} {m m0 e l0 : Nat} {θ : cTh} {b : Bool} {h : Nat} {σ : mmS} {i : Nat}
variable {ν a d : Nat} {Q : mmQ}
theorem list_loop (hI : cIt T ν) (hw : w_nu w = ν) (hd : 50 * ν + 10 ≤ d) (hq : g + 2 ≤ GQ ν) (f : Nat) : ∀ (b : Bool) (h : Nat) (A : cA) (m i : Nat) (σ : mmS) (v2 v3 : Int32) (wv4 : Option mmV), (GD σ → 1 ≤ h) → (GD σ → l0 ≤ i) → (GD σ → t_e T < f + i) → 24 ≤ m → m0 ≤ m → (¬ v2 = 0 → own θ v3 σ) →
    St T (fun (_ : Unit) _ _ _ => True) any2 g w m0 e θ l0 (fun n u => Q (.inl (some (.inl n))) u) b h w A m e (s_listL T (s_lv T ν) (w_x w) f i) σ i → mm_W mt3064 (MC d) Q (4, [some (.inr (.inr (3, a))), some (.inl 1), some (.inl v2), some (.inl v3), wv4], []) σ := by
  have hGQ := GQ_le ν
  induction f with
  | zero =>
    intro b h A m i σ v2 v3 wv4 hh hl hf hm hm0 ho st
    refine b3064_4 _ _ _ _ _ _ _ _ (st.wrong (fun gd st => ?_) (fun ng => st.bad ng trivial))
    have := hf gd
    have := (st.gd gd).2.2.1.2
    omega
  | succ f IH =>
    intro b h A m i σ v2 v3 wv4 hh hl hf hm hm0 ho st
    refine b3064_4 _ _ _ _ _ _ _ _ (st.wrong (fun gd st => ?_) (fun ng => st.bad ng trivial))
    have st := st.mono (hh gd)
    have fin : ∀ n, (t_sg T i 1 || t_kd T i 0 || t_wd T i 2 || t_wd T i 8) = true → Q (.inl (some (.inl n))) σ := fun n z =>
      (st.rw (r' := s_r () i) (fun _ => by rw [s_listL, z]; rfl)).ret (fun _ => rfl) (fun _ => rfl) hl 0 (fun _ => by omega) (fun _ => Nat.le_refl _) (fun _ => trivial) (fun _ => trivial)
    refine st.sign (by omega) (fun z1 => ?_) (fun z1 _ => fin v2 (by rw [z1 gd]; rfl))
    refine st.rdk (fun x3 h3 n3 => br_p (fun c => fin v2 (by rw [show t_kd T i 0 = true by rw [t_kd, h3 gd, c]; rfl, Bool.or_true]; rfl)) (fun c => br_y rfl ?_))
    refine st.word (by omega) (fun z2 => st.word (by omega) (fun z8 => ?_) (fun z8 _ => fin v2 (by rw [z8 gd, Bool.or_true]))) (fun z2 _ => fin v2 (by rw [z2 gd, Bool.or_true]; rfl))
    have z0 : t_kd T i 0 = false := by rw [t_kd, h3 gd]; exact beq_eq_false_iff_ne.mpr c
    have st := st.rw (r' := s_b ((s_lv T ν).2.2.2.2.2.2.1 (w_x w) i) (fun _ k => s_listL T (s_lv T ν) (w_x w) f k)) (fun _ => by rw [s_listL, z1 gd, z0, z2 gd, z8 gd]; rfl)
    have tl0 := st.tl.1
    refine b3064_53 _ _ _ _ _ _ _ _ ?_
    refine St.call (h := 1) (hI a w hw) [] st (fun z => z) (by omega) (by rw [hw]; omega) hm rfl (fun v j B q n u st2 hf2 hj hs hn => ?_)
    have hl2 : GD u → l0 ≤ j := fun gd2 => by have := hj gd2; have := hl (hf2.1 gd2); omega
    have hf3 : GD u → t_e T < f + j := fun gd2 => by have := hj gd2; have := hf (hf2.1 gd2); omega
    have ow : ¬ n = 0 → GD u → own θ n u := fun _ gd2 => by
      obtain ⟨k, k1, k2, k3, k4, -⟩ := hs gd2
      exact ⟨k, k1, k4, fun _ => Nat.le_trans (tl0 (hf2.1 gd2)).1 k3⟩
    by_cases gd2 : GD u
    · refine br_p (fun c => IH true 1 B _ j u v2 v3 _ (fun _ => Nat.le_refl _) hl2 hf3 (by omega) (by omega) (fun z => (ho z).mono hf2) st2) (fun c => br_p (fun c2 => IH true 1 B _ j u n n _ (fun _ => Nat.le_refl _) hl2 hf3 (by omega) (by omega) (fun z => ow z gd2) st2) (fun c2 => ?_))
      refine st2.setown (by decide) ((ho c2).mono hf2) (fun k k1 k2 st3 hf3' => ?_)
      exact IH true 1 B _ j _ v2 n _ (fun _ => Nat.le_refl _) hl2 hf3 (by omega) (by omega) (fun _ => (ow c gd2).mono hf3') st3
    · have leave : ∀ (u' : mmS) (v2' v3' : Int32) (wv4' : Option mmV) (m' : Nat), ¬ GD u' → St T (fun (_ : Unit) _ _ _ => True) any2 g w m0 e θ l0 (fun n u => Q (.inl (some (.inl n))) u) true 1 w B m' e (s_listL T (s_lv T ν) (w_x w) f j) u' j → mm_W mt3064 (MC d) Q (4, [some (.inr (.inr (3, a))), some (.inl 1), some (.inl v2'), some (.inl v3'), wv4'], []) u' := fun u' v2' v3' wv4' m' ng st' =>
        b3064_4 _ _ _ _ _ _ _ _ (br_n ng (st'.bad ng trivial))
      refine br_p (fun c => leave u v2 v3 _ _ gd2 st2) (fun c => br_p (fun c2 => leave u n n _ _ gd2 st2) (fun c2 => ?_))
      exact st2.setown (by decide) ((ho c2).mono hf2) (fun k k1 k2 st3 hf3' => leave _ v2 n _ _ (fun z => gd2 z) st3)
theorem c_list (hI : cIt T ν) (hw : w_nu w = ν) (a : Nat) : CI T (shU (β := Unit)) any2 (50 * ν + 11) 1 10 true 0 w (s_list T (s_lv T ν) (w_x w)) 3064 [.inr (.inr (3, a)), .inl 1] := by
  intro d g A m e i σ K X hd hq hm en k
  obtain ⟨d, rfl, hd⟩ := mc_pos (c := 50 * ν + 10) (by omega)
  refine mc_ci (P := mt3064) (L := 5) rfl rfl ⟨by decide, Nat.le_of_ble_eq_true rfl⟩ fun Q hK hX => b3064_0 _ _ _ _ _ _ _ _ ?_
  have st := St.start (K := fun n u => Q (.inl (some (.inl n))) u) hq (by decide) en (fun n u rs => hK _ _ (k n u rs))
  rw [hw] at hq
  exact list_loop hI hw (by omega) (by omega) (t_e T + 1) true 1 A m i σ 0 0 _ (fun _ => Nat.le_refl _) (fun _ => Nat.le_refl _) (fun _ => by omega) hm (Nat.le_refl _) (fun z => absurd rfl z) st.tt
end LIST
section STRING
variable {σ : mmS} {d k q : Nat} {X : Nat → mmS → Prop} {K : Int32 → mmS → Prop}
theorem str_b (hk : 1000 ≤ k ∧ k < 1113) : (Nat.ble 1000 k && Nat.blt k 1113) = true := by
  rw [Bool.and_eq_true]
  exact ⟨Nat.ble_eq_true_of_le hk.1, Nat.ble_eq_true_of_le hk.2⟩
theorem str_b2 {k j : Nat} (hk : 1000 ≤ k ∧ k < 1113) (hj : j = k + 1000) : (Nat.ble 2000 j && Nat.blt j 2113) = true := by
  rw [Bool.and_eq_true]
  exact ⟨Nat.ble_eq_true_of_le (by omega), Nat.ble_eq_true_of_le (by omega)⟩
theorem ishr_0 (x : Int32) : mf_ishr x 0 = x := by
  unfold mf_ishr
  rw [Int32.zero_and, Int32.shiftRight_zero]
theorem c_coder (hk : 1000 ≤ k ∧ k < 1113) (hd : 1 ≤ d) (h : K 0 σ) : mm_ci (MC d) 16002 [.inr (.inr (k, q))] σ K X := by
  obtain ⟨d, rfl, hd⟩ := mc_pos hd
  refine mc_ci (P := mt16002) (L := 1) rfl rfl ⟨by decide, Nat.le_refl _⟩ fun Q hK hX => b16002_0 _ _ _ _ _ (br_n (by decide) (bif_t (str_b hk) ⟨by decide, hK _ _ h⟩))
theorem c_length (hk : 1000 ≤ k ∧ k < 1113) (hd : 2 ≤ d) (h : K (nI (mm_n σ k)) σ) : mm_ci (MC d) 16001 [.inr (.inr (k, q))] σ K X := by
  obtain ⟨d, rfl, hd⟩ := mc_pos hd
  refine mc_ci (P := mt16001) (L := 1) rfl rfl ⟨by decide, Nat.le_refl _⟩ fun Q hK hX => b16001_0 _ _ _ _ _ ?_
  generalize hj : k + 1000 = j
  refine bif_t (str_b hk) (bif_t (str_b2 hk hj.symm) (bif_t (by rw [str_b hk]; rfl) (c_coder hk (by omega) ?_)))
  rw [ishr_0, ← hj, Nat.add_sub_cancel]
  exact hK _ _ h
theorem c_isLatin1 (hk : 1000 ≤ k ∧ k < 1113) (hd : 1 ≤ d) (h : K 1 σ) : mm_ci (MC d) 16004 [.inr (.inr (k, q))] σ K X := by
  obtain ⟨d, rfl, hd⟩ := mc_pos hd
  exact mc_ci (P := mt16004) (L := 1) rfl rfl ⟨by decide, Nat.le_refl _⟩ fun Q hK hX => b16004_0 _ _ _ _ _ (br_n (by decide) (bif_t (str_b hk) (br_y rfl ⟨Or.inr rfl, hK _ _ h⟩)))
theorem c_pcheck {i n : Nat} {k2 q2 : Nat} (hd : 1 ≤ d) (hi : i < n) (hn : n < 2 ^ 31) (h : K (nI i) σ) : mm_ci (MC d) 18001 [.inl (nI i), .inl (nI n), .inr (.inr (k2, q2))] σ K X := by
  obtain ⟨d, rfl, hd⟩ := mc_pos hd
  exact mc_ci (P := mt18001) (L := 3) rfl rfl ⟨by decide, Nat.le_refl _⟩ fun Q hK hX => b18001_0 _ _ _ _ _ _ _ (br_n (nI_pos (by omega)) (br_y ((nI_ltI (by omega) hn).mpr hi) (hK _ _ h)))
theorem c_check {i n : Nat} {K : mmS → Prop} (hd : 2 ≤ d) (hi : i < n) (hn : n < 2 ^ 31) (h : K σ) : mm_cv (MC d) 16005 [.inl (nI i), .inl (nI n)] σ K X := by
  obtain ⟨d, rfl, hd⟩ := mc_pos hd
  exact mc_cv (P := mt16005) (L := 2) rfl rfl ⟨by decide, Nat.le_refl _⟩ fun Q hK hX => b16005_0 _ _ _ _ _ (fun q1 => c_pcheck (by omega) hi hn ⟨rfl, hK _ h⟩)
theorem ch_255 : ∀ c, c < 128 → mf_i2c (nI c &&& 255) = nI c ∧ (0 ≤ nI c ∧ nI c < 65536) := by decide +kernel
theorem c_charAt1 {i c : Nat} (hk : 1000 ≤ k ∧ k < 1113) (hd : 3 ≤ d) (hi : i < mm_n σ k) (hn : mm_n σ k < 2 ^ 31) (hc : mm_a σ k i = nI c) (hc2 : c < 128) (h : K (nI c) σ) : mm_ci (MC d) 17001 [.inr (.inr (k + 1000, q)), .inl (nI i)] σ K X := by
  obtain ⟨d, rfl, hd⟩ := mc_pos hd
  refine mc_ci (P := mt17001) (L := 2) rfl rfl ⟨by decide, Nat.le_refl _⟩ fun Q hK hX => b17001_0 _ _ _ _ _ _ ?_
  rw [Nat.add_sub_cancel]
  generalize hj : k + 1000 = j
  refine bif_t (str_b2 hk hj.symm) (c_check (by omega) hi hn (bif_t (str_b2 hk hj.symm) ⟨nI_in hi hn, ?_⟩))
  rw [nI_clamp (by omega), hc, (ch_255 c hc2).1]
  exact ⟨(ch_255 c hc2).2, hK _ _ h⟩
theorem c_charAt {i c : Nat} (hk : 1000 ≤ k ∧ k < 1113) (hd : 4 ≤ d) (hi : i < mm_n σ k) (hn : mm_n σ k < 2 ^ 31) (hc : mm_a σ k i = nI c) (hc2 : c < 128) (h : K (nI c) σ) : mm_ci (MC d) 16003 [.inr (.inr (k, q)), .inl (nI i)] σ K X := by
  obtain ⟨d, rfl, hd⟩ := mc_pos hd
  refine mc_ci (P := mt16003) (L := 2) rfl rfl ⟨by decide, Nat.le_refl _⟩ fun Q hK hX => b16003_0 _ _ _ _ _ _ (bif_t (by rw [str_b hk]; rfl) (c_isLatin1 hk (by omega) (br_n (by decide) (bif_t (str_b hk) (c_charAt1 hk (by omega) hi hn hc hc2 ⟨(ch_255 c hc2).2, hK _ _ h⟩)))))
end STRING
theorem tx_2 : ∀ j, j < 10 → ∃ c, c < 128 ∧ (tx 2).getD j 0 = nI c := by
  intro j hj
  have : ∀ j, j < 10 → decide (0 ≤ (tx 2).getD j 0 ∧ (tx 2).getD j 0 < 128) = true := by decide +kernel
  have h := of_decide_eq_true (this j hj)
  obtain ⟨h0, h1⟩ := h
  rw [Int32.le_iff_toInt_le] at h0
  rw [Int32.lt_iff_toInt_lt] at h1
  have e0 : (0 : Int32).toInt = 0 := by decide
  have e1 : (128 : Int32).toInt = 128 := by decide
  refine ⟨((tx 2).getD j 0).toInt.toNat, by omega, ?_⟩
  apply Int32.toInt_inj.1
  rw [nI_toInt (by omega)]
  omega
section ISTEXT
variable {T : sT} {σ : mmS} {i d q v : Nat} {K : Int32 → mmS → Prop} {X : Nat → mmS → Prop}
theorem ist_loop {c p : Nat} {Q : mmQ} (h : uTx T σ) (hd : 4 ≤ d) (hc7 : c < mm_n σ 207) (hb : c < 2 ^ 20) (h7 : mm_a σ 207 c = nI p) (h4 : p + 10 ≤ mm_n σ 204) (hch : ∀ j, j < 10 → ∃ x, mm_a σ 204 (p + j) = nI x ∧ x < 65536) (hQ : ∀ b : Bool, b = (List.range 10).all (fun j => mm_a σ 204 (p + j) == (tx 2).getD j 0) → Q (.inl (some (.inl (bI b)))) σ) : ∀ (n k : Nat), n + k = 10 → (∀ j, j < k → mm_a σ 204 (p + j) = (tx 2).getD j 0) →
    mm_W mt2007 (MC d) Q (21, [some (.inr (.inr (2, q))), some (.inl (nI c)), some (.inr (.inr (1002, v))), some (.inl (nI k))], []) σ := by
  obtain ⟨-, n2, a2, ⟨n4, n7, n8⟩, -⟩ := h
  have kb : 1000 ≤ 1002 ∧ 1002 < 1113 := by decide
  intro n
  induction n with
  | zero =>
    intro k hk hj
    have : k = 10 := by omega
    subst this
    refine b2007_21 _ _ _ _ _ _ _ _ (bif_t (by decide) (c_length kb (by omega) (br_n ?_ ⟨Or.inr rfl, ?_⟩)))
    · rw [n2]; decide
    · refine hQ true ?_
      symm
      rw [List.all_eq_true]
      intro j hj2
      rw [List.mem_range] at hj2
      exact beq_iff_eq.mpr (hj j hj2)
  | succ n IH =>
    intro k hk hj
    refine b2007_21 _ _ _ _ _ _ _ _ (bif_t (by decide) (c_length kb (by omega) (br_y ?_ ?_)))
    · rw [n2]; exact (nI_ltI (by omega) (by decide)).mpr (by omega)
    · obtain ⟨x, hx, hx2⟩ := hch k (by omega)
      obtain ⟨y, hy, hy2⟩ := tx_2 k (by omega)
      refine rd' rfl rfl hc7 (by omega) ?_
      rw [h7, nI_add]
      refine rd rfl (by omega) (by omega) ?_
      refine bif_t (by decide) (c_charAt kb (by omega) (by rw [n2]; omega) (by rw [n2]; decide) (c := y) (by rw [a2]; exact hy2) hy ?_)
      refine br_p (fun e => ?_) (fun e => ⟨Or.inl rfl, hQ false ?_⟩)
      · rw [nI_1]
        refine IH (k + 1) (by omega) (fun j hj3 => ?_)
        rcases Nat.lt_succ_iff_lt_or_eq.mp hj3 with z | z
        · exact hj j z
        · rw [z, e, hy2]
      · symm
        rw [List.all_eq_false]
        exact ⟨k, List.mem_range.mpr (by omega), by rw [beq_iff_eq, hy2]; exact e⟩
theorem c_isText (h : uTx T σ) (hk : T.1 i = 6) (hd : 5 ≤ d) (k : K (bI (T.2.2.2.2.1 i)) σ) : mm_ci (MC d) 2007 [.inr (.inr (2, q)), .inl (T.2.1 i), .inr (.inr (1002, v))] σ K X := by
  obtain ⟨d, rfl, hd⟩ := mc_pos hd
  have h0 := h
  obtain ⟨h1, n2, a2, ⟨n4, n7, n8⟩, ht⟩ := h
  obtain ⟨c, p, l, e1, e2, e3, e4, e5, e6, e7, e8, e9⟩ := ht i hk
  rw [e1]
  refine mc_ci (P := mt2007) (L := 4) rfl rfl ⟨by decide, Nat.le_of_ble_eq_true rfl⟩ fun Q hK hX => b2007_0 _ _ _ _ _ _ _ _ (br_n (nI_pos (by omega)) (rd' rfl rfl e4 (by omega) ?_))
  rw [e5]
  refine bif_t (by decide) (c_length (by decide) (by omega) (br_p (fun z => ?_) (fun z => ⟨Or.inl rfl, ?_⟩)))
  · rw [n2] at z
    have hl : l = 10 := nI_inj (by omega) (by decide) z
    subst hl
    refine ist_loop h0 (by omega) e3 e2 e6 e7 e8 (fun b hb => ?_) 10 0 (by decide) (fun j hj => absurd hj (by omega))
    have : T.2.2.2.2.1 i = b := by rw [e9, hb]; rfl
    rw [← this]
    exact hK _ _ k
  · have : T.2.2.2.2.1 i = false := by
      rw [e9]
      have : (l == 10) = false := beq_eq_false_iff_ne.mpr (fun q => z (by rw [q, n2]))
      rw [this]; rfl
    rw [this] at k
    exact hK _ _ k
end ISTEXT
