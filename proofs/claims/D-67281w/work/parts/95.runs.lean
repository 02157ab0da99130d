/-! PHASE 3. Readings in scopes that are opened and shut again -/
def accA (A : cA) (α : sA) (L : hC) : cA := (L, A.2.1 + α.1, A.2.2.1 ++ α.2.1, A.2.2.2.1 + α.2.2.1, A.2.2.2.2 + α.2.2.2.1)
theorem A_st_eq {inn : Bool} {A : cA} {α : sA} : A_st inn A α = bif α.2.2.2.2.1 && (inn || α.2.1.isEmpty) then (h_run α.2.2.2.2.2 A.1).map (accA A α) else none := by
  unfold A_st
  cases α.2.2.2.2.1 && (inn || α.2.1.isEmpty) with
  | false => rfl
  | true => cases h_run α.2.2.2.2.2 A.1 <;> rfl
theorem run_eq {β : Type} {inn : Bool} {A : cA} {v : β} {j : Nat} {α : sA} : run inn A (some (v, j, α)) = (A_st inn A α).map (fun B => (v, j, B)) := by
  show (match A_st inn A α with | none => none | some B => some (v, j, B)) = _
  cases A_st inn A α <;> rfl
/-- two readings from places that agree but for the chains -/
def sim {β : Type} (F : hC → hC → Prop) (x y : Option (β × Nat × cA)) : Prop := match x, y with
  | none, none => True
  | some (v, j, B), some (v2, j2, B2) => v = v2 ∧ j = j2 ∧ B.2 = B2.2 ∧ F B.1 B2.1
  | _, _ => False
theorem sim_of {β : Type} {F : hC → hC → Prop} {inn : Bool} {A A2 : cA} {r : sR β} (h2 : A.2 = A2.2) (h : ∀ v j α, r = some (v, j, α) → match h_run α.2.2.2.2.2 A.1, h_run α.2.2.2.2.2 A2.1 with | none, none => True | some L, some L2 => F L L2 | _, _ => False) : sim F (run inn A r) (run inn A2 r) := by
  cases hr : r with
  | none => trivial
  | some z =>
    obtain ⟨v, j, α⟩ := z
    have := h v j α hr
    rw [run_eq, run_eq, A_st_eq, A_st_eq]
    cases α.2.2.2.2.1 && (inn || α.2.1.isEmpty) with
    | false => trivial
    | true =>
      cases h1 : h_run α.2.2.2.2.2 A.1 with
      | none =>
        cases h3 : h_run α.2.2.2.2.2 A2.1 with
        | none => trivial
        | some L2 => rw [h1, h3] at this; exact this
      | some L =>
        cases h3 : h_run α.2.2.2.2.2 A2.1 with
        | none => rw [h1, h3] at this; exact this.elim
        | some L2 =>
          rw [h1, h3] at this
          refine ⟨rfl, rfl, ?_, this⟩
          show (A.2.1 + α.1, A.2.2.1 ++ α.2.1, A.2.2.2.1 + α.2.2.1, A.2.2.2.2 + α.2.2.2.1) = (A2.2.1 + α.1, A2.2.2.1 ++ α.2.1, A2.2.2.2.1 + α.2.2.1, A2.2.2.2.2 + α.2.2.2.1)
          rw [h2]
theorem sim.none {β : Type} {F : hC → hC → Prop} {x y : Option (β × Nat × cA)} (h : sim F x y) (hx : x = none) : y = none := by
  subst hx
  cases y with
  | none => rfl
  | some z => obtain ⟨v, j, B⟩ := z; exact h.elim
theorem sim.some {β : Type} {F : hC → hC → Prop} {x y : Option (β × Nat × cA)} {v : β} {j : Nat} {B : cA} (h : sim F x y) (hx : x = some (v, j, B)) : ∃ B2, y = some (v, j, B2) ∧ B.2 = B2.2 ∧ F B.1 B2.1 := by
  subst hx
  cases y with
  | none => exact h.elim
  | some z =>
    obtain ⟨v2, j2, B2⟩ := z
    obtain ⟨rfl, rfl, h1, h2⟩ := h
    exact ⟨B2, rfl, h1, h2⟩
/-- no declarations -/
theorem ev_nil {β : Type} {r : sR β} (h : ev eN r) {v : β} {j : Nat} {α : sA} (e : r = some (v, j, α)) : α.2.2.2.2.2 = [] := by
  cases hx : α.2.2.2.2.2 with
  | nil => rfl
  | cons x t => exact absurd (h v j α e x (by rw [hx]; exact List.mem_cons_self)).1 Bool.false_ne_true
theorem run_nev {β : Type} {inn : Bool} {A : cA} {L2 : hC} {r : sR β} (h : ev eN r) : sim (fun L L' => L = A.1 ∧ L' = L2) (run inn A r) (run inn (L2, A.2) r) :=
  sim_of rfl fun v j α e => by rw [ev_nil h e]; exact ⟨rfl, rfl⟩
theorem run_nev1 {β : Type} {inn : Bool} {A : cA} {r : sR β} (h : ev eN r) {v : β} {j : Nat} {B : cA} (e : run inn A r = some (v, j, B)) : B.1 = A.1 := by
  obtain ⟨B2, -, -, h2⟩ := (run_nev (L2 := A.1) h).some e
  exact h2.1
theorem ev_lt {β : Type} {r : sR β} (h : ev eS r) {v : β} {j : Nat} {α : sA} (e : r = some (v, j, α)) : evOK 3 α.2.2.2.2.2 := fun x hx => by
  obtain ⟨h1, h2⟩ := h v j α e x hx
  have h1 : x.1 < 3 := by simpa [eS] using h1
  refine ⟨h1, ?_⟩
  rcases h2 with h2 | h2 | h2
  · omega
  · omega
  · exact h2
theorem ev_eq3 {β : Type} {r : sR β} (h : ev (eK 3) r) {v : β} {j : Nat} {α : sA} (e : r = some (v, j, α)) : ∀ x ∈ α.2.2.2.2.2, x.1 = 3 ∧ n_bad x.2 = false := fun x hx => by
  obtain ⟨h1, h2⟩ := h v j α e x hx
  have h1 : x.1 = 3 := by simpa [eK] using h1
  refine ⟨h1, ?_⟩
  rcases h2 with h2 | h2 | h2
  · omega
  · omega
  · exact h2
/-- a block -/
theorem run_blk {β : Type} {inn : Bool} {A : cA} {c : Int32} {r : sR β} (h : ev eS r) (ct : h_top c = false) (c27 : (c == 2 || c == 7) = false) : sim (fun L L' => ∃ a, L = (c, a) :: L') (run inn ((c, []) :: A.1, A.2) r) (run inn A (s_blk r)) := by
  cases hr : r with
  | none => trivial
  | some z =>
    obtain ⟨v, j, cv, pu, nf, nc, ok, evs⟩ := z
    have hb := blk_run ct c27 evs [] [] A.1 (ev_lt h hr) (fun _ q => nomatch q) Iblk.nil
    show sim _ (run inn ((c, []) :: A.1, A.2) (some (v, j, cv, pu, nf, nc, ok, evs))) (run inn A (some (v, j, cv, pu, nf, nc, ok && s_ok m_blk [] evs, evs.filter (fun x => x.1 == 0))))
    rw [run_eq, run_eq, A_st_eq, A_st_eq]
    show sim _ ((bif ok && (inn || pu.isEmpty) then (h_run evs ((c, []) :: A.1)).map _ else none).map _) ((bif (ok && s_ok m_blk [] evs) && (inn || pu.isEmpty) then (h_run (evs.filter (fun x => x.1 == 0)) A.1).map _ else none).map _)
    rw [hb]
    cases ok with
    | false => trivial
    | true =>
      cases (inn || pu.isEmpty) with
      | false => cases s_ok m_blk [] evs <;> trivial
      | true =>
        cases s_ok m_blk [] evs with
        | false => trivial
        | true =>
          cases h_run (evs.filter (fun x => x.1 == 0)) A.1 with
          | none => trivial
          | some L2 => exact ⟨rfl, rfl, rfl, _, rfl⟩
/-- the scope of a function's parameters -/
def Pes (es : hE) : Prop := (∀ y ∈ es, y.1 = 3) ∧ Ifn es es
theorem Pes.nil : Pes [] := ⟨fun _ q => (nomatch q), Ifn.nil⟩
theorem par_inv : ∀ (evs l es : hE), (∀ x ∈ evs, x.1 = 3) → (∀ y ∈ l, y.1 = 3) → Ifn l es → s_ok m_fun l evs = true → Ifn (l ++ evs) (es ++ evs)
  | [], l, es, _, _, hi, _ => by rw [List.append_nil, List.append_nil]; exact hi
  | (k, n) :: t, l, es, ho, hl, hi, hs => by
    have hk : k = 3 := ho (k, n) List.mem_cons_self
    subst hk
    rw [s_ok, s_hitP hl, ← or_pass hi, Bool.and_eq_true, Bool.not_eq_true', Bool.or_eq_false_iff] at hs
    have := par_inv t (l ++ [(3, n)]) (es ++ [(3, n)]) (fun x hx => ho x (List.mem_cons_of_mem _ hx)) (fun y hy => by
      rcases List.mem_append.mp hy with hy | hy
      · exact hl y hy
      · rw [List.mem_singleton.mp hy]) (hi.new (by cases h : h_find es n with | none => rfl | some r => rw [h] at hs; exact nomatch hs.1.1) (by omega)) hs.2
    rw [List.append_assoc, List.append_assoc] at this
    exact this
theorem run_par {β : Type} {inn : Bool} {A : cA} {L : hC} {r : sR β} (hA : A.1 = (1, []) :: L) (h : ev (eK 3) r) {v : β} {j : Nat} {B : cA} (e : run inn A r = some (v, j, B)) : ∃ es, B.1 = (1, es) :: L ∧ Pes es := by
  cases hr : r with
  | none => rw [hr] at e; exact nomatch e
  | some z =>
    obtain ⟨v1, j1, α⟩ := z
    have h3 := ev_eq3 h hr
    rw [hr, run_eq, A_st_eq, hA, par_run α.2.2.2.2.2 [] [] L h3 (fun _ q => nomatch q) Ifn.nil] at e
    cases hc : α.2.2.2.2.1 && (inn || α.2.1.isEmpty) with
    | false => rw [hc] at e; exact nomatch e
    | true =>
      cases hs : s_ok m_fun [] α.2.2.2.2.2 with
      | false => rw [hc, hs] at e; exact nomatch e
      | true =>
        rw [hc, hs] at e
        simp only [cond_true, Option.map_some, Option.some.injEq, Prod.mk.injEq] at e
        obtain ⟨-, -, e⟩ := e
        refine ⟨α.2.2.2.2.2, by rw [← e]; rfl, fun y hy => (h3 y hy).1, ?_⟩
        exact par_inv α.2.2.2.2.2 [] [] (fun x hx => (h3 x hx).1) (fun _ q => nomatch q) Ifn.nil hs
/-- a function's body: in the scope of the parameters -/
theorem run_bod {β : Type} {inn : Bool} {A : cA} {L : hC} {es : hE} {r : sR β} (hA : A.1 = (1, es) :: L) (hp : Pes es) (h : ev eS r) {v : β} {j : Nat} {B : cA} (e : run inn A r = some (v, j, B)) : ∃ a, B.1 = (1, a) :: L := by
  cases hr : r with
  | none => rw [hr] at e; exact nomatch e
  | some z =>
    obtain ⟨v1, j1, α⟩ := z
    obtain ⟨a, ha⟩ := bod_run (c := 1) (C := []) (P := fun _ => false) rfl [] (fun _ q => nomatch q) (fun _ => rfl) (fun _ _ q => absurd q (by decide)) (fun _ => rfl) α.2.2.2.2.2 es es L (ev_lt h hr) (fun y hy => by rw [hp.1 y hy]; decide) hp.2
    rw [hr, run_eq, A_st_eq, hA, show (1, es) :: L = (1, es) :: ([] ++ L) from rfl, ha] at e
    cases hc : α.2.2.2.2.1 && (inn || α.2.1.isEmpty) with
    | false => rw [hc] at e; exact nomatch e
    | true =>
      cases hs : s_ok m_fun ([] ++ es) α.2.2.2.2.2 with
      | false => rw [hc, hs] at e; exact nomatch e
      | true =>
        rw [hc, hs] at e
        simp only [cond_true, Option.map_some, Option.some.injEq, Prod.mk.injEq] at e
        obtain ⟨-, -, e⟩ := e
        exact ⟨a, by rw [← e]; rfl⟩
/-- and in one of its own -/
theorem run_bod2 {β : Type} {inn : Bool} {A : cA} {L : hC} {es : hE} {r : sR β} (hA : A.1 = (1, es) :: L) (hp : Pes es) (h : ev eS r) : sim (fun L1 L2 => ∃ a, L1 = (2, a) :: (1, es) :: L) (run inn ((2, []) :: A.1, A.2) r) (run inn A r) := by
  refine sim_of rfl fun v j α hr => ?_
  obtain ⟨a, ha⟩ := bod_run (c := 1) (C := []) (P := fun _ => false) rfl [] (fun _ q => nomatch q) (fun _ => rfl) (fun _ _ q => absurd q (by decide)) (fun _ => rfl) α.2.2.2.2.2 es es L (ev_lt h hr) (fun y hy => by rw [hp.1 y hy]; decide) hp.2
  obtain ⟨a2, ha2⟩ := bod_run (c := 2) (C := [(1, es)]) (P := fun n => es.any (fun y => y.2 == n)) rfl es hp.1 (fun _ => rfl) (fun n L2 _ => hp.2.isS) (fun q => absurd q (by decide)) α.2.2.2.2.2 [] [] L (ev_lt h hr) (fun _ q => nomatch q) Ifn.nil
  show match h_run α.2.2.2.2.2 ((2, []) :: A.1), h_run α.2.2.2.2.2 A.1 with | none, none => True | some L1, some L2 => ∃ a, L1 = (2, a) :: (1, es) :: L | _, _ => False
  rw [hA, show (2, []) :: (1, es) :: L = (2, []) :: ([(1, es)] ++ L) from rfl, ha2, show (1, es) :: L = (1, es) :: ([] ++ L) from rfl, ha, List.append_nil, List.nil_append]
  cases s_ok m_fun es α.2.2.2.2.2 with
  | false => trivial
  | true => exact ⟨a2, rfl⟩
/-- a whole function -/
theorem run_fn {β γ : Type} {inn : Bool} {A : cA} {n : Nat} {r1 : sR β} {r2 : β → Nat → sR γ} (h1 : ev (eK 3) r1) (h2 : ∀ v j, ev eS (r2 v j)) : sim (fun L L' => (∃ a, L = (1, a) :: L') ∧ L' = A.1) (run inn ((1, []) :: A.1, A.2.1, A.2.2.1, A.2.2.2.1 + n, A.2.2.2.2) (s_b r1 r2)) (run inn A (s_fn n (s_b r1 r2))) := by
  cases hr1 : r1 with
  | none => trivial
  | some z =>
    obtain ⟨v1, j1, α1⟩ := z
    cases hr2 : r2 v1 j1 with
    | none =>
      have e : s_b (some (v1, j1, α1)) r2 = none := by unfold s_b; simp only [hr2]
      rw [e]
      trivial
    | some y =>
      obtain ⟨v2, j2, α2⟩ := y
      have e : s_b (some (v1, j1, α1)) r2 = some (v2, j2, sA_m α1 α2) := by unfold s_b; simp only [hr2]
      rw [e]
      have h3 := ev_eq3 h1 hr1
      have hp := par_run α1.2.2.2.2.2 [] [] A.1 h3 (fun _ q => nomatch q) Ifn.nil
      have hr : ∃ a, h_run (sA_m α1 α2).2.2.2.2.2 ((1, []) :: A.1) = bif s_ok m_fun [] (sA_m α1 α2).2.2.2.2.2 then some ((1, a) :: A.1) else none := by
        show ∃ a, h_run (α1.2.2.2.2.2 ++ α2.2.2.2.2.2) _ = bif s_ok m_fun [] (α1.2.2.2.2.2 ++ α2.2.2.2.2.2) then _ else none
        rw [h_run_app, hp, s_ok_app]
        cases hs : s_ok m_fun [] α1.2.2.2.2.2 with
        | false => exact ⟨[], rfl⟩
        | true =>
          have hi := par_inv α1.2.2.2.2.2 [] [] (fun x hx => (h3 x hx).1) (fun _ q => nomatch q) Ifn.nil hs
          obtain ⟨a, ha⟩ := bod_run (c := 1) (C := []) (P := fun _ => false) rfl [] (fun _ q => nomatch q) (fun _ => rfl) (fun _ _ q => absurd q (by decide)) (fun _ => rfl) α2.2.2.2.2.2 α1.2.2.2.2.2 α1.2.2.2.2.2 A.1 (ev_lt (h2 v1 j1) hr2) (fun y hy => by rw [(h3 y hy).1]; decide) hi
          exact ⟨a, ha⟩
      obtain ⟨a, ha⟩ := hr
      generalize sA_m α1 α2 = α at ha
      obtain ⟨cv, pu, nf, nc, ok, evs⟩ := α
      show sim _ (run inn _ (some (v2, j2, cv, pu, nf, nc, ok, evs))) (run inn A (some (v2, j2, cv, pu, nf + n, nc, ok && s_ok m_fun [] evs, [])))
      rw [run_eq, run_eq, A_st_eq, A_st_eq]
      have ha : h_run evs ((1, []) :: A.1) = bif s_ok m_fun [] evs then some ((1, a) :: A.1) else none := ha
      show sim _ ((bif ok && (inn || pu.isEmpty) then (h_run evs ((1, []) :: A.1)).map _ else none).map _) ((bif (ok && s_ok m_fun [] evs) && (inn || pu.isEmpty) then (h_run [] A.1).map _ else none).map _)
      rw [ha]
      cases ok with
      | false => trivial
      | true =>
        cases (inn || pu.isEmpty) with
        | false => cases s_ok m_fun [] evs <;> trivial
        | true =>
          cases s_ok m_fun [] evs with
          | false => trivial
          | true =>
            refine ⟨rfl, rfl, ?_, ⟨a, rfl⟩, rfl⟩
            show (A.2.1 + cv, A.2.2.1 ++ pu, A.2.2.2.1 + n + nf, A.2.2.2.2 + nc) = (A.2.1 + cv, A.2.2.1 ++ pu, A.2.2.2.1 + (nf + n), A.2.2.2.2 + nc)
            rw [Nat.add_assoc, Nat.add_comm n nf]
