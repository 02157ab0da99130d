/-! PHASE 3. A name more in a scope -/
theorem lnk_same {σ u : mmS} : ∀ {l : List Nat} {e : Int32}, (∀ k ∈ l, mm_a u 334 k = mm_a σ 334 k) → lnk σ l e → lnk u l e
  | [], _, _, h => h
  | k :: t, _, hk, h => ⟨h.1, by rw [hk k List.mem_cons_self]; exact lnk_same (fun r hr => hk r (List.mem_cons_of_mem _ hr)) h.2⟩
theorem lnk_app {σ u : mmS} {m : Nat} (hm : mm_a u 334 m = -1) : ∀ {l : List Nat} {e : Int32}, lnk σ l e → l ≠ [] → l.Nodup → (∀ q, l.getLast? = some q → mm_a u 334 q = nI m) → (∀ k ∈ l, l.getLast? ≠ some k → mm_a u 334 k = mm_a σ 334 k) → lnk u (l ++ [m]) e
  | [], _, _, h, _, _, _ => absurd rfl h
  | [k], _, h, _, _, h1, _ => ⟨h.1, h1 k rfl, hm⟩
  | k :: k2 :: t, _, h, _, hn, h1, h2 => by
    have hn : ¬ k ∈ k2 :: t ∧ (k2 :: t).Nodup := List.nodup_cons.mp hn
    have e : (k :: k2 :: t).getLast? = (k2 :: t).getLast? := List.getLast?_cons_cons
    refine ⟨h.1, ?_⟩
    rw [h2 k List.mem_cons_self (fun q => hn.1 (by rw [e] at q; exact List.mem_of_getLast? q))]
    exact lnk_app hm h.2 (List.cons_ne_nil _ _) hn.2 (fun q hq => h1 q (by rw [e]; exact hq)) (fun r hr hq => h2 r (List.mem_cons_of_mem _ hr) (by rw [e]; exact hq))
theorem ens_same {σ u : mmS} {l : List Nat} (h : ∀ k ∈ l, mm_a u 333 k = mm_a σ 333 k ∧ mm_a u 332 k = mm_a σ 332 k) : ens u l = ens σ l :=
  List.map_congr_left fun k hk => by rw [(h k hk).1, (h k hk).2]
/-- what a scope has then -/
def Rad (R : Nat → List Nat) (s m : Nat) : Nat → List Nat := fun t => if t = s then R s ++ [m] else R t
/-- slots that stay: not those of names, nor first, last and how many of scopes -/
def lsS (k : Nat) : Prop := lst k ∧ ¬ (332 ≤ k ∧ k ≤ 335) ∧ k ≠ 328 ∧ k ≠ 329 ∧ k ≠ 331
/-- lists of names only grow -/
def gro (σ u : mmS) : Prop := (∀ s, s < fN σ 324 → ¬ mm_a σ 328 s = -1 → mm_a u 328 s = mm_a σ 328 s) ∧ ∀ k, k < fN σ 325 → mm_a u 332 k = mm_a σ 332 k ∧ (¬ mm_a σ 334 k = -1 → mm_a u 334 k = mm_a σ 334 k)
theorem gro.rfl' {σ : mmS} : gro σ σ := ⟨fun _ _ _ => rfl, fun _ _ => ⟨rfl, fun _ => rfl⟩⟩
theorem gro.of {σ u : mmS} (h1 : mm_a u 328 = mm_a σ 328) (h2 : mm_a u 332 = mm_a σ 332) (h3 : mm_a u 334 = mm_a σ 334) : gro σ u := ⟨fun s _ _ => by rw [h1], fun k _ => ⟨by rw [h2], fun _ => by rw [h3]⟩⟩
theorem gro.trans {σ u v : mmS} (h : gro σ u) (g : gro u v) (l4 : fN σ 324 ≤ fN u 324) (l5 : fN σ 325 ≤ fN u 325) : gro σ v := by
  refine ⟨fun s hs ne => ?_, fun k hk => ⟨?_, fun ne => ?_⟩⟩
  · have e := h.1 s hs ne
    rw [g.1 s (by omega) (by rw [e]; exact ne), e]
  · rw [(g.2 k (by omega)).1, (h.2 k hk).1]
  · have e := (h.2 k hk).2 ne
    rw [(g.2 k (by omega)).2 (by rw [e]; exact ne), e]
theorem lnk_last {σ : mmS} : ∀ {l : List Nat} {e : Int32} {q : Nat}, lnk σ l e → l.getLast? = some q → mm_a σ 334 q = -1
  | [], _, _, _, hq => nomatch hq
  | [k], e, q, h, hq => by
    have : k = q := by simpa using hq
    subst this
    exact h.2
  | k :: k2 :: t, e, q, h, hq => lnk_last (l := k2 :: t) h.2 (by rw [← hq]; simp [List.getLast?_cons_cons])
/-- a name more -/
def AS (σ : mmS) (R : Nat → List Nat) (s : Nat) (n r : Int32) (u : mmS) : Prop :=
  stru u (Rad R s (fN σ 325)) ∧ fN u 325 = fN σ 325 + 1 ∧ (∀ k, k ≠ 325 → mm_f u k = mm_f σ k) ∧ (mm_r u = mm_r σ ∧ gro σ u) ∧
  (∀ t, t < fN σ 324 → ens u (Rad R s (fN σ 325) t) = if t = s then ens σ (R s) ++ [(cls r, n)] else ens σ (R t)) ∧ (∀ k, lsS k → sam σ u k) ∧
  mm_bs σ + 8 * mm_n σ 332 ≤ mm_bs u + 8 * mm_n u 332 ∧ 64 * mm_bc σ + mm_n σ 332 ≤ 64 * mm_bc u + mm_n u 332 ∧ (mm_n u 332 = mm_n σ 332 ∨ mm_n u 332 = 2 * fN σ 325)
/-- the state behind all that is written -/
theorem add_done {σ τ u : mmS} {R : Nat → List Nat} {s : Nat} {n r : Int32} (h : stru σ R) (hs : s < fN σ 324) (hn : fN σ 325 ≤ 130000) (g : TG σ 325 332 335 τ) (hbs : mm_bs σ + 8 * mm_n σ 332 ≤ mm_bs τ + 8 * mm_n τ 332) (hbc : 64 * mm_bc σ + mm_n σ 332 ≤ 64 * mm_bc τ + mm_n τ 332)
    (uf : mm_f u = mm_f (mm_setf τ 325 (nI (fN σ 325 + 1)))) (ur : mm_r u = mm_r τ) (un : mm_n u = mm_n τ) (uv : mm_v u = mm_v τ) (ul : mm_l u = mm_l τ) (uc : mm_bc u = mm_bc τ) (us : mm_bs u = mm_bs τ)
    (uk : ∀ k, lsS k → mm_a u k = mm_a τ k) (u2 : ∀ i, i ≠ fN σ 325 → mm_a u 332 i = mm_a τ 332 i ∧ mm_a u 333 i = mm_a τ 333 i) (u3 : mm_a u 332 (fN σ 325) = n ∧ mm_a u 333 (fN σ 325) = r ∧ mm_a u 334 (fN σ 325) = -1)
    (u4 : ∀ t, t ≠ s → mm_a u 328 t = mm_a τ 328 t ∧ mm_a u 329 t = mm_a τ 329 t) (u5 : mm_a u 329 s = nI (fN σ 325))
    (u6 : R s = [] → mm_a u 328 s = nI (fN σ 325) ∧ ∀ i, i ≠ fN σ 325 → mm_a u 334 i = mm_a τ 334 i) (u7 : ∀ q, (R s).getLast? = some q → mm_a u 328 s = mm_a τ 328 s ∧ mm_a u 334 q = nI (fN σ 325) ∧ ∀ i, i ≠ fN σ 325 → i ≠ q → mm_a u 334 i = mm_a τ 334 i) : AS σ R s n r u := by
  obtain ⟨h1, h2, h3, h4⟩ := h
  obtain ⟨g1, g2, g3, g4, g5, g6, g7, g8⟩ := g
  have f324 : fN u 324 = fN σ 324 := by
    unfold fN; rw [uf, f_other (by decide), g1]
  have f325 : fN u 325 = fN σ 325 + 1 := by
    show (mm_f u 325).toNatClampNeg = _
    rw [uf, f_same]; exact nI_clamp (by omega)
  have sc : ∀ k, 326 ≤ k → k ≤ 331 → sam σ τ k := fun k k1 k2 => g5 k (Or.inr (by omega)) (by omega)
  have c1 : cT u 324 326 331 512 := by
    obtain ⟨a1, a2, a3, a4, a5⟩ := h1
    have e : mm_n u 326 = mm_n σ 326 := by rw [un]; exact (sc 326 (by decide) (by decide)).2.1
    exact ⟨by rw [f324, uf, f_other (by decide), g1]; exact a1, by rw [f324, e]; exact a2, by rw [e]; exact a3, by rw [e]; exact a4, fun k k1 k2 => by rw [e, un, (sc k k1 k2).2.1]; exact a5 k k1 k2⟩
  have n2 := h2.2.1
  have n3 := h2.2.2.1
  have n4 := h2.2.2.2.1
  have c2 : cT u 325 332 335 2048 := ⟨by rw [f325, uf, f_same], by rw [f325, un]; exact g6, by rw [un]; omega, by rw [un]; omega, fun k k1 k2 => by rw [un]; exact g4 k k1 k2⟩
  have t34 : ∀ i, i < fN σ 325 → mm_a τ 334 i = mm_a σ 334 i := fun i hi => g3 334 (by decide) (by decide) i hi
  have es : ∀ l : List Nat, (∀ k ∈ l, k < fN σ 325) → ens u l = ens σ l := fun l hl => ens_same fun k hk => by
    have := hl k hk
    obtain ⟨b1, b2⟩ := u2 k (by omega)
    exact ⟨by rw [b2]; exact g3 333 (by decide) (by decide) k this, by rw [b1]; exact g3 332 (by decide) (by decide) k this⟩
  have gg : gro σ u := by
    refine ⟨fun t ht ne => ?_, fun k hk => ⟨?_, fun ne => ?_⟩⟩
    · by_cases c : t = s
      · subst c
        cases hz : (R t).getLast? with
        | none =>
          have l1 := (h3 t ht).1
          rw [List.getLast?_eq_none_iff.mp hz] at l1
          exact absurd l1 ne
        | some q => rw [(u7 q hz).1, (sc 328 (by decide) (by decide)).1]
      · rw [(u4 t c).1, (sc 328 (by decide) (by decide)).1]
    · rw [(u2 k (by omega)).1]
      exact g3 332 (by decide) (by decide) k hk
    · cases hz : (R s).getLast? with
      | none => rw [(u6 (List.getLast?_eq_none_iff.mp hz)).2 k (by omega), t34 k hk]
      | some q =>
        have l1 := (h3 s hs).1
        by_cases c : k = q
        · rw [c, lnk_last l1 hz] at ne
          exact absurd rfl ne
        · rw [(u7 q hz).2.2 k (by omega) c, t34 k hk]
  refine ⟨⟨c1, c2, fun t ht => ?_, fun t t' k ht ht' hk hk' => ?_⟩, f325, fun k hk => by rw [uf, f_other hk, g1], ⟨ur.trans g2, gg⟩, fun t ht => ?_, fun k hk => ?_, by rw [un, us]; exact hbs, by rw [un, uc]; exact hbc, by rw [un]; exact g8⟩
  · rw [f324] at ht
    obtain ⟨l1, l2, l3, l4⟩ := h3 t ht
    unfold Rad
    by_cases c : t = s
    · subst c
      rw [if_pos rfl, f325]
      refine ⟨?_, fun k hk => ?_, fun k hk => ?_, ?_⟩
      · by_cases cn : R t = []
        · rw [cn]
          exact ⟨(u6 cn).1, u3.2.2⟩
        · obtain ⟨q, hq⟩ : ∃ q, (R t).getLast? = some q := by
            cases hz : (R t).getLast? with
            | none => exact absurd (List.getLast?_eq_none_iff.mp hz) cn
            | some q => exact ⟨q, rfl⟩
          obtain ⟨v1, v2, v3⟩ := u7 q hq
          rw [v1, (sc 328 (by decide) (by decide)).1]
          refine lnk_app u3.2.2 l1 cn l4 (fun q2 h2 => by rw [hq] at h2; cases h2; exact v2) (fun k hk hk2 => ?_)
          have := l3 k hk
          rw [v3 k (by omega) (fun z => hk2 (by rw [z]; exact hq)), t34 k this]
      · rw [List.getLast?_append, show ([fN σ 325] : List Nat).getLast? = some (fN σ 325) from rfl] at hk
        cases hk
        exact u5
      · rcases List.mem_append.mp hk with q | q
        · have := l3 k q; omega
        · rw [List.mem_singleton.mp q]; omega
      · refine List.nodup_append.mpr ⟨l4, by simp, fun a ha b hb => ?_⟩
        have := l3 a ha
        rw [List.mem_singleton.mp hb]
        omega
    · rw [if_neg c, f325]
      refine ⟨?_, fun k hk => by rw [(u4 t c).2, (sc 329 (by decide) (by decide)).1]; exact l2 k hk, fun k hk => by have := l3 k hk; omega, l4⟩
      rw [(u4 t c).1, (sc 328 (by decide) (by decide)).1]
      refine lnk_same (fun k hk => ?_) l1
      have hkm := l3 k hk
      by_cases cn : R s = []
      · rw [(u6 cn).2 k (by omega), t34 k hkm]
      · obtain ⟨q, hq⟩ : ∃ q, (R s).getLast? = some q := by
          cases hz : (R s).getLast? with
          | none => exact absurd (List.getLast?_eq_none_iff.mp hz) cn
          | some q => exact ⟨q, rfl⟩
        rw [(u7 q hq).2.2 k (by omega) (fun z => c (h4 t s k ht hs hk (by rw [z]; exact List.mem_of_getLast? hq))), t34 k hkm]
  · rw [f324] at ht ht'
    unfold Rad at hk hk'
    by_cases c : t = s <;> by_cases c' : t' = s
    · rw [c, c']
    · rw [if_pos c] at hk
      rw [if_neg c'] at hk'
      rcases List.mem_append.mp hk with q | q
      · rw [c]; exact h4 s t' k hs ht' q hk'
      · rw [List.mem_singleton.mp q] at hk'
        exact absurd ((h3 t' ht').2.2.1 _ hk') (Nat.lt_irrefl _)
    · rw [if_neg c] at hk
      rw [if_pos c'] at hk'
      rcases List.mem_append.mp hk' with q | q
      · rw [c']; exact h4 t s k ht hs hk q
      · rw [List.mem_singleton.mp q] at hk
        exact absurd ((h3 t ht).2.2.1 _ hk) (Nat.lt_irrefl _)
    · rw [if_neg c] at hk
      rw [if_neg c'] at hk'
      exact h4 t t' k ht ht' hk hk'
  · unfold Rad
    by_cases c : t = s
    · rw [if_pos c, if_pos c]
      show List.map _ _ = _
      rw [List.map_append]
      have := es (R s) (h3 s hs).2.2.1
      unfold ens at this
      rw [this, List.map_singleton, u3.1, u3.2.1]
      rfl
    · rw [if_neg c, if_neg c]
      exact es (R t) (h3 t ht).2.2.1
  · obtain ⟨s1, s2, s3, s4⟩ := g5 k hk.1 (fun q => hk.2.1 q)
    exact ⟨by rw [uk k hk]; exact s1, by rw [un]; exact s2, by rw [uv]; exact s3, by rw [ul]; exact s4⟩
section ADD
variable {σ : mmS} {R : Nat → List Nat} {s a d : Nat} {n r : Int32} {K : Int32 → mmS → Prop} {X : Nat → mmS → Prop}
theorem add_end {τ : mmS} {w4 : Option mmV} {Q : mmQ} (h : stru σ R) (hs : s < fN σ 324) (hn : fN σ 325 ≤ 130000) (g : TG σ 325 332 335 τ) (hbs : mm_bs σ + 8 * mm_n σ 332 ≤ mm_bs τ + 8 * mm_n τ 332) (hbc : 64 * mm_bc σ + mm_n σ 332 ≤ 64 * mm_bc τ + mm_n τ 332)
    (k : ∀ u, AS σ R s n r u → Q (.inl (some (.inl (nI (fN σ 325))))) u) :
    mm_W mt3033 (MC d) Q (72, [some (.inr (.inr (3, a))), some (.inl (nI s)), some (.inl n), some (.inl r), w4], []) τ := by
  have h0 := h
  have g0 := g
  obtain ⟨h1, h2, h3, h4⟩ := h
  obtain ⟨g1, g2, g3, g4, g5, g6, g7, g8⟩ := g
  have n4 := h2.2.2.2.1
  have hb : mm_n τ 332 < 2 ^ 31 := by omega
  have e (k : Nat) (a1 : 332 ≤ k) (a2 : k ≤ 335) : mm_n τ k = mm_n τ 332 := g4 k a1 a2
  have f1 : mm_f τ 325 = nI (fN σ 325) := by rw [g1]; exact h2.1
  have s1 := h1.2.1
  have s4 := h1.2.2.2.1
  have es (k : Nat) (a1 : 326 ≤ k) (a2 : k ≤ 331) : mm_n τ k = mm_n σ 326 := by
    rw [(g5 k (Or.inr (by omega)) (by omega)).2.1]; exact h1.2.2.2.2 k a1 a2
  have as' (k : Nat) (a1 : 326 ≤ k) (a2 : k ≤ 331) : mm_a τ k = mm_a σ k := (g5 k (Or.inr (by omega)) (by omega)).1
  have hb2 : mm_n σ 326 < 2 ^ 31 := by omega
  have hs2 : s < mm_n σ 326 := by omega
  refine b3033_72 _ _ _ _ _ _ _ _ ?_
  refine wr' f1 rfl g6 hb (wr' f1 (e 333 (by decide) (by decide)) g6 hb (wr' f1 (e 334 (by decide) (by decide)) g6 hb ?_))
  -- the tail, for what is written meanwhile
  have fin : ∀ (x0 : Int32) (p : mmS), (p = mm_seta (mm_seta (mm_seta (mm_seta τ 332 (fN σ 325) n) 333 (fN σ 325) r) 334 (fN σ 325) (-1)) 335 (fN σ 325) x0 ∨ ∃ x1, p = mm_seta (mm_seta (mm_seta (mm_seta (mm_seta τ 332 (fN σ 325) n) 333 (fN σ 325) r) 334 (fN σ 325) (-1)) 335 (fN σ 325) x0) 331 s x1) →
      mm_W mt3033 (MC d) Q (143, [some (.inr (.inr (3, a))), some (.inl (nI s)), some (.inl n), some (.inl r), w4], []) p := by
    intro x0 p hp
    have pf : mm_f p = mm_f τ := by rcases hp with rfl | ⟨x1, rfl⟩ <;> rfl
    have pr : mm_r p = mm_r τ := by rcases hp with rfl | ⟨x1, rfl⟩ <;> rfl
    have pn : mm_n p = mm_n τ := by rcases hp with rfl | ⟨x1, rfl⟩ <;> rfl
    have pv : mm_v p = mm_v τ := by rcases hp with rfl | ⟨x1, rfl⟩ <;> rfl
    have pl : mm_l p = mm_l τ := by rcases hp with rfl | ⟨x1, rfl⟩ <;> rfl
    have pc : mm_bc p = mm_bc τ := by rcases hp with rfl | ⟨x1, rfl⟩ <;> rfl
    have ps : mm_bs p = mm_bs τ := by rcases hp with rfl | ⟨x1, rfl⟩ <;> rfl
    have pk : ∀ k, ¬ (332 ≤ k ∧ k ≤ 335) → k ≠ 331 → mm_a p k = mm_a τ k := fun k k1 k2 => by
      rcases hp with rfl | ⟨x1, rfl⟩
      · rw [a_seta_k (by omega), a_seta_k (by omega), a_seta_k (by omega), a_seta_k (by omega)]
      · rw [a_seta_k k2, a_seta_k (by omega), a_seta_k (by omega), a_seta_k (by omega), a_seta_k (by omega)]
    have pi : ∀ k i, 332 ≤ k → i ≠ fN σ 325 → mm_a p k i = mm_a τ k i := fun k i k1 k2 => by
      rcases hp with rfl | ⟨x1, rfl⟩
      · rw [a_seta_i k2, a_seta_i k2, a_seta_i k2, a_seta_i k2]
      · rw [a_seta_k (by omega), a_seta_i k2, a_seta_i k2, a_seta_i k2, a_seta_i k2]
    have p3 : mm_a p 332 (fN σ 325) = n ∧ mm_a p 333 (fN σ 325) = r ∧ mm_a p 334 (fN σ 325) = -1 := by
      rcases hp with rfl | ⟨x1, rfl⟩
      · exact ⟨by rw [a_seta_k (by decide), a_seta_k (by decide), a_seta_k (by decide), a_seta_s], by rw [a_seta_k (by decide), a_seta_k (by decide), a_seta_s], by rw [a_seta_k (by decide), a_seta_s]⟩
      · exact ⟨by rw [a_seta_k (by decide), a_seta_k (by decide), a_seta_k (by decide), a_seta_k (by decide), a_seta_s], by rw [a_seta_k (by decide), a_seta_k (by decide), a_seta_k (by decide), a_seta_s], by rw [a_seta_k (by decide), a_seta_k (by decide), a_seta_s]⟩
    clear hp
    have fp : mm_f p 325 = nI (fN σ 325) := by rw [pf]; exact f1
    have pe (k : Nat) (a1 : 326 ≤ k) (a2 : k ≤ 331) : mm_n p k = mm_n σ 326 := by rw [pn]; exact es k a1 a2
    have last : ∀ (v : mmS), mm_f v = mm_f τ → mm_r v = mm_r τ → mm_n v = mm_n τ → mm_v v = mm_v τ → mm_l v = mm_l τ → mm_bc v = mm_bc τ → mm_bs v = mm_bs τ →
        (∀ k, lsS k → mm_a v k = mm_a τ k) → (∀ i, i ≠ fN σ 325 → mm_a v 332 i = mm_a τ 332 i ∧ mm_a v 333 i = mm_a τ 333 i) → (mm_a v 332 (fN σ 325) = n ∧ mm_a v 333 (fN σ 325) = r ∧ mm_a v 334 (fN σ 325) = -1) →
        (∀ t, t ≠ s → mm_a v 328 t = mm_a τ 328 t) → (∀ t, mm_a v 329 t = mm_a τ 329 t) →
        (R s = [] → mm_a v 328 s = nI (fN σ 325) ∧ ∀ i, i ≠ fN σ 325 → mm_a v 334 i = mm_a τ 334 i) → (∀ q, (R s).getLast? = some q → mm_a v 328 s = mm_a τ 328 s ∧ mm_a v 334 q = nI (fN σ 325) ∧ ∀ i, i ≠ fN σ 325 → i ≠ q → mm_a v 334 i = mm_a τ 334 i) →
        mm_W mt3033 (MC d) Q (180, [some (.inr (.inr (3, a))), some (.inl (nI s)), some (.inl n), some (.inl r), w4], []) v := by
      intro v vf vr vn vv vl vc vs vk v2 v3 v4 v5 v6 v7
      have fv : mm_f v 325 = nI (fN σ 325) := by rw [vf]; exact f1
      refine b3033_180 _ _ _ _ _ _ _ _ ?_
      refine wr (by rw [vn]; exact es 329 (by decide) (by decide)) hs2 hb2 ?_
      have e9 : mm_f (mm_seta v 329 s (mm_f v 325)) 325 = nI (fN σ 325) := fv
      rw [e9, f_same, nI_s1, nI_pred, fv]
      refine k _ (add_done (u := mm_setf (mm_seta v 329 s (nI (fN σ 325))) 325 (nI (fN σ 325 + 1))) h0 hs hn g0 hbs hbc ?_ vr vn vv vl vc vs (fun k hk => by rw [a_setf, a_seta_k hk.2.2.2.1]; exact vk k hk) (fun i hi => by rw [a_setf, a_seta_k (by decide), a_seta_k (by decide)]; exact v2 i hi) (by rw [a_setf, a_seta_k (by decide), a_seta_k (by decide), a_seta_k (by decide)]; exact v3)
        (fun t ht => by rw [a_setf, a_seta_k (by decide), a_seta_i ht]; exact ⟨v4 t ht, v5 t⟩) (by rw [a_setf, a_seta_s]) (fun q => by rw [a_setf, a_seta_k (by decide), a_seta_k (by decide)]; exact v6 q) (fun q hq => by rw [a_setf, a_seta_k (by decide), a_seta_k (by decide)]; exact v7 q hq))
      show mm_up (mm_f v) 325 _ = mm_up (mm_f τ) 325 _
      rw [vf]
    have fst : mm_a p 328 s = mm_a σ 328 s := by rw [pk 328 (by decide) (by decide), as' 328 (by decide) (by decide)]
    obtain ⟨l1, l2, l3, l4⟩ := h3 s hs
    refine b3033_143 _ _ _ _ _ _ _ _ ?_
    refine rd (pe 328 (by decide) (by decide)) hs2 hb2 ?_
    rw [fst]
    cases hR : R s with
    | nil =>
      rw [hR] at l1
      rw [show mm_a σ 328 s = -1 from l1]
      refine br_y (by decide) (wr (pe 328 (by decide) (by decide)) hs2 hb2 ?_)
      refine last _ pf pr pn pv pl pc ps (fun k hk => by rw [a_seta_k hk.2.2.1]; exact pk k hk.2.1 hk.2.2.2.2) (fun i hi => by rw [a_seta_k (by decide), a_seta_k (by decide)]; exact ⟨pi 332 i (by decide) hi, pi 333 i (by decide) hi⟩) (by rw [a_seta_k (by decide), a_seta_k (by decide), a_seta_k (by decide)]; exact p3)
        (fun t ht => by rw [a_seta_i ht, pk 328 (by decide) (by decide)]) (fun t => by rw [a_seta_k (by decide), pk 329 (by decide) (by decide)]) (fun _ => ⟨by rw [a_seta_s, fp], fun i hi => by rw [a_seta_k (by decide)]; exact pi 334 i (by decide) hi⟩) (fun q hq => by rw [hR] at hq; cases hq)
    | cons q0 t0 =>
      obtain ⟨q, hq⟩ : ∃ q, (R s).getLast? = some q := by
        cases hz : (R s).getLast? with
        | none => rw [List.getLast?_eq_none_iff.mp hz] at hR; cases hR
        | some q => exact ⟨q, rfl⟩
      have hqm : q < fN σ 325 := l3 q (List.mem_of_getLast? hq)
      have hq0 : q0 < fN σ 325 := l3 q0 (by rw [hR]; exact List.mem_cons_self)
      have n2 := h2.2.1
      rw [hR] at l1
      rw [l1.1]
      refine br_n (nI_pos (by omega)) (rd (pe 329 (by decide) (by decide)) hs2 hb2 ?_)
      rw [pk 329 (by decide) (by decide), as' 329 (by decide) (by decide), l2 q hq, fp]
      refine wr (by rw [pn]; exact e 334 (by decide) (by decide)) (by omega) hb ?_
      refine last _ pf pr pn pv pl pc ps (fun k hk => by rw [a_seta_k (by have := hk.2.1; omega)]; exact pk k hk.2.1 hk.2.2.2.2) (fun i hi => by rw [a_seta_k (by decide), a_seta_k (by decide)]; exact ⟨pi 332 i (by decide) hi, pi 333 i (by decide) hi⟩) (by rw [a_seta_k (by decide), a_seta_k (by decide), a_seta_i (by omega)]; exact p3)
        (fun t ht => by rw [a_seta_k (by decide), pk 328 (by decide) (by decide)]) (fun t => by rw [a_seta_k (by decide), pk 329 (by decide) (by decide)]) (fun z => by rw [hR] at z; cases z) (fun q2 hq2 => ?_)
      rw [hq] at hq2
      cases hq2
      exact ⟨by rw [a_seta_k (by decide), pk 328 (by decide) (by decide)], by rw [a_seta_s], fun i hi hi2 => by rw [a_seta_i hi2]; exact pi 334 i (by decide) hi⟩
  have st : ∀ (x0 : Int32), mm_W mt3033 (MC d) Q (126, [some (.inr (.inr (3, a))), some (.inl (nI s)), some (.inl n), some (.inl r), w4], [.inl x0, .inl (nI (fN σ 325)), .inr (.inr (335, mm_v τ 335))]) (mm_seta (mm_seta (mm_seta τ 332 (fN σ 325) n) 333 (fN σ 325) r) 334 (fN σ 325) (-1)) := by
    intro x0
    refine b3033_126 _ _ _ _ _ _ _ _ _ _ _ ?_
    refine (show mm_S _ 335 _ _ _ from wr (n := mm_n τ 332) (e 335 (by decide) (by decide)) g6 hb ?_)
    refine br_p (fun _ => fin x0 _ (Or.inl rfl)) fun _ => ?_
    refine rd (es 331 (by decide) (by decide)) hs2 hb2 (wr (es 331 (by decide) (by decide)) hs2 hb2 (fin x0 _ (Or.inr ⟨_, rfl⟩)))
  have fτ : mm_f (mm_seta (mm_seta (mm_seta τ 332 (fN σ 325) n) 333 (fN σ 325) r) 334 (fN σ 325) (-1)) 325 = nI (fN σ 325) := f1
  rw [fτ]
  refine br_p (fun _ => st _) fun _ => rd (es 331 (by decide) (by decide)) hs2 hb2 (st _)
theorem c_add (hd : 3 ≤ d) (h : stru σ R) (hs : s < fN σ 324) (hn : fN σ 325 ≤ 130000) (hc : 9 ≤ mm_bc σ) (hbs : 1100000 ≤ mm_bs σ) (k : ∀ u, AS σ R s n r u → K (nI (fN σ 325)) u) :
    mm_ci (MC d) 3033 [.inr (.inr (3, a)), .inl (nI s), .inl n, .inl r] σ K X := by
  obtain ⟨d, rfl, hd⟩ := mc_pos hd
  refine mc_ci (P := mt3033) (L := 5) rfl rfl ⟨by decide, Nat.le_of_ble_eq_true rfl⟩ fun Q hK hX => b3033_0 _ _ _ _ _ _ _ _ ?_
  have h2 := h.2.1
  obtain ⟨a1, a2, a3, a4, a5⟩ := h2
  have e (k : Nat) (b1 : 332 ≤ k) (b2 : k ≤ 335) : mm_n σ k = mm_n σ 332 := a5 k b1 b2
  refine ⟨rfl, Or.inl (by omega), br_p (fun hq => ?_) (fun hq => ?_)⟩
  · rw [a1] at hq
    have hf : fN σ 325 = mm_n σ 332 := nI_inj (by omega) (by omega) hq
    rw [a1, nI_dbl]
    have st : ∀ m p {X : Nat → mmS → Prop} {V : mmS → Prop}, 332 ≤ m → m ≤ 335 → mm_kd m = 0 → Gs σ 332 m (2 * fN σ 325) p → (∀ w, Gs σ 332 (m + 1) (2 * fN σ 325) w → V w) →
        mm_cr (MC d) 10002 [.inr (.inr (m, mm_v p m)), .inl (nI (2 * fN σ 325))] p (fun k2 q2 w => mm_pa w m 90 k2 q2 V) X := fun m p X V m1 m2 mk G hV => by
      have hmul : (m - 332 + 1) * (2 * fN σ 325) ≤ 4 * (2 * fN σ 325) := Nat.mul_le_mul_right _ (by omega)
      exact c_grows (by omega) (by decide) m1 mk G (by rw [e m m1 m2]; omega) (by rw [e m m1 m2]; omega) (by omega) (by omega) (by omega) hV
    refine st 332 _ (by decide) (by decide) rfl Gs.nil fun p G => st 333 p (by decide) (by decide) rfl G fun p G => st 334 p (by decide) (by decide) rfl G fun p G => st 335 p (by decide) (by decide) rfl G fun p G => ?_
    have g := TG.of h.2.1 (by decide) hf (by decide) G
    have gn := (G.2.2.1 332 (by decide) (by decide)).2
    have g5 := G.2.2.2.2.1
    have g6 := G.2.2.2.2.2
    exact add_end h hs hn g (by omega) (by omega) (fun u hu => hK _ _ (k u hu))
  · have hlt : fN σ 325 < mm_n σ 332 := by
      rcases Nat.lt_or_ge (fN σ 325) (mm_n σ 332) with q | q
      · exact q
      · exact absurd (by rw [a1, show fN σ 325 = mm_n σ 332 by omega]; rfl) hq
    exact add_end h hs hn (TG.id h.2.1 hlt) (Nat.le_refl _) (Nat.le_refl _) (fun u hu => hK _ _ (k u hu))
end ADD
