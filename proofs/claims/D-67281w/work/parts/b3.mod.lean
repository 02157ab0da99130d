/-! PHASE 4. The module: import, export, all items. A told name: the name (-1: a star), whether it is of its own, what is asked -/
abbrev sO : Type := Int32 × Bool × Int32
abbrev sM : Type := List Int32 × List sO
def x_top : sX := ((false, false, false, false, false, false), false, false, false, [])
section MOD
variable (T : sT)
def s_word (j : Nat) : sR Int32 := bif t_kd T j 1 then s_r (t_v T j) (j + 1) else none
def s_from (j : Nat) : sR Int32 := s_b (s_nw T 48 j) (fun _ k => bif t_kd T k 6 then s_b (s_semi T (k + 1)) (fun _ q => s_r (t_v T k) q) else none)
/-- a name that is brought in: declared -/
def s_bring (j : Nat) : sR Unit := s_b (s_ident T j) (fun x k => s_w (sA_ev 1 x) () k)
def s_impL : Nat → Nat → sR Unit
  | 0, _ => none
  | f + 1, j => bif t_sg T j 1 then s_r () j else s_b (s_word T j) (fun x k =>
      s_b (bif t_wd T k 46 then s_bring T (k + 1) else bif decide (45 < x) then s_w (sA_ev 1 x) () k else none) (fun _ q =>
        bif t_sg T q 1 then s_impL f q else s_b (s_nd T 9 q) (fun _ r => s_impL f r)))
/-- behind import -/
def s_imp (i : Nat) : sR sM :=
  bif t_kd T i 6 then s_b (s_semi T (i + 1)) (fun _ k => s_r ([t_v T i], []) k) else
  s_b (bif t_sg T i 20 || t_sg T i 0 then s_r true i else s_b (s_bring T i) (fun _ k => bif t_sg T k 9 then s_r true (k + 1) else s_r false k)) (fun more j =>
    s_b (bif more && t_sg T j 20 then s_b (s_nw T 46 (j + 1)) (fun _ k => s_bring T k) else
      bif more then s_b (s_nd T 0 j) (fun _ k => s_b (s_impL T (t_e T + 1) k) (fun _ q => s_nd T 1 q)) else s_r () j) (fun _ k =>
      s_b (s_from T k) (fun x q => s_r ([x], []) q)))
/-- names told in brackets: is one a word of the grammar; (as what, asked) -/
def s_expL : Nat → Bool → List (Int32 × Int32) → Nat → sR (Bool × List (Int32 × Int32))
  | 0, _, _, _ => none
  | f + 1, res, l, j => bif t_sg T j 1 then s_r (res, l) j else s_b (s_word T j) (fun x k =>
      s_b (bif t_wd T k 46 then s_word T (k + 1) else s_r x k) (fun y q =>
        bif t_sg T q 1 then s_expL f (res || !decide (45 < x)) (l ++ [(y, x)]) q else s_b (s_nd T 9 q) (fun _ r => s_expL f (res || !decide (45 < x)) (l ++ [(y, x)]) r)))
def s_told (l : List Int32) : sM := ([], l.map (fun x => (x, true, x)))
/-- behind export default -/
def s_deflt (i : Nat) : sR sM :=
  bif s_afun T i || t_wd T i 18 then s_b (s_hoist T (s_lv T 47) (s_afun T i) true (bif s_afun T i then i + 2 else i + 1)) (fun l k => s_r ([], l.map (fun x => (8, true, x))) k) else
  bif t_wd T i 4 then
    (bif t_id T (i + 1) then s_b (s_named T 1 (i + 1)) (fun b k => s_b (s_class T (s_lv T 47) x_top.1 k) (fun _ q => s_r ([], b.2.map (fun x => (8, true, x))) q)) else
     s_b (s_w (sA_ev 9 59) () (i + 1)) (fun _ k => s_b (s_class T (s_lv T 47) x_top.1 k) (fun _ q => s_r ([], [(8, true, 59)]) q))) else
  s_b (s_w (sA_ev 9 59) () i) (fun _ k => s_b ((s_lv T 48).1 x_top.1 true k) (fun _ q => s_b (s_semi T q) (fun _ p => s_r ([], [(8, true, 59)]) p)))
/-- behind export -/
def s_exp (i : Nat) : sR sM :=
  bif t_sg T i 20 then s_b (bif t_wd T (i + 1) 46 then s_word T (i + 2) else s_r (-1) (i + 1)) (fun x k => s_b (s_from T k) (fun r q => s_r ([r], [(x, false, -1)]) q)) else
  bif t_sg T i 0 then s_b (s_expL T (t_e T + 1) false [] (i + 1)) (fun v k => s_b (s_nd T 1 k) (fun _ q =>
    bif t_wd T q 48 then s_b (s_from T q) (fun r p => s_r ([r], v.2.map (fun y => (y.1, false, y.2))) p) else
    bif v.1 then none else s_b (s_semi T q) (fun _ p => s_r ([], v.2.map (fun y => (y.1, true, y.2))) p))) else
  bif t_wd T i 8 then s_deflt T (i + 1) else
  bif t_wd T i 33 || t_wd T i 38 || t_wd T i 5 || s_afun T i || t_wd T i 18 || t_wd T i 4 then s_b ((s_lv T 48).2.2.2.2.2.2.1 x_top i) (fun l k => s_r (s_told l) k) else none
def s_mitem (i : Nat) : sR sM := bif t_wd T i 20 then s_imp T (i + 1) else bif t_wd T i 13 then s_exp T (i + 1) else s_b ((s_lv T 48).2.2.2.2.2.2.1 x_top i) (fun _ k => s_r ([], []) k)
/-- may o be told behind l? -/
def s_new1 (l : List sO) (o : sO) : Bool := !(decide (0 ≤ o.1) && l.any (fun y => y.1 == o.1))
def s_newL : List sO → List sO → Bool
  | _, [] => true
  | l, o :: t => s_new1 l o && s_newL (l ++ [o]) t
/-- a request is kept once -/
def s_rq1 (l : List Int32) (x : Int32) : List Int32 := bif l.any (fun y => y == x) then l else l ++ [x]
def s_modL : Nat → sM → Nat → sR sM
  | 0, _, _ => none
  | f + 1, v, j => bif t_kd T j 0 then s_r v j else s_b (s_mitem T j) (fun u k => bif s_newL v.2 u.2 then s_modL f (u.1.foldl s_rq1 v.1, v.2 ++ u.2) k else none)
/-- the module: its counts (functions, classes, names of its own scope, requests, names told), or none -/
def s_mod : Option (Nat × Nat × Nat × Nat × Nat) := match run false ([(0, [])], 0, [], 0, 0) (s_modL T (t_e T + 1) ([], []) 0) with
  | none => none
  | some (v, _, B) => match B.1 with
    | [(_, es)] => bif B.2.1 == 0 && v.2.all (fun o => !o.2.1 || (h_find es o.2.2).isSome) then some (B.2.2.2.1, B.2.2.2.2, es.length, v.1.length, (v.2.filter (fun o => decide (0 ≤ o.1))).length) else none
    | _ => none
end MOD
/-- kinds of events of a module's item -/
def eM (k : Nat) : Bool := decide (k < 3) || decide (9 ≤ k)
section EVM
variable {T : sT} {i : Nat}
theorem ev_SM {β : Type} {r : sR β} (g : ev eS r) : ev eM r := ev_mono g fun k q => by unfold eM; unfold eS at q; rw [q]; rfl
theorem ev_word {P : Nat → Bool} : ev P (s_word T i) := ev_i ev_r ev_none
theorem ev_from {P : Nat → Bool} : ev P (s_from T i) := ev_b ev_nw fun _ _ => ev_i (ev_b ev_semi fun _ _ => ev_r) ev_none
end EVM
