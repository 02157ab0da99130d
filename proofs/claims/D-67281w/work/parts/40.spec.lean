/-! THE PLAIN LAW: the grammar with its early errors, over rows of tokens; no tree is made, each part answers what is asked of it later. -/
/-- tokens: kinds, values, flags, the end's place, which texts are the directive; how much room must stay (slots, cells) -/
abbrev sT : Type := (Nat → Int32) × (Nat → Int32) × (Nat → Int32) × Nat × (Nat → Bool) × Nat × Nat
def t_e (T : sT) : Nat := T.2.2.2.1
def t_kd (T : sT) (i : Nat) (k : Int32) : Bool := T.1 i == k
def t_v (T : sT) (i : Nat) : Int32 := T.2.1 i
def t_sg (T : sT) (i : Nat) (s : Int32) : Bool := T.1 i == 3 && T.2.1 i == s
def t_wd (T : sT) (i : Nat) (w : Int32) : Bool := T.1 i == 1 && T.2.1 i == w
def t_id (T : sT) (i : Nat) : Bool := T.1 i == 1 && decide (45 < T.2.1 i)
def t_ln (T : sT) (i : Nat) : Bool := (T.2.2.1 i &&& 1) != 0
def t_hd (T : sT) (i : Nat) : Bool := (T.2.2.1 i &&& 4) != 0
def t_tl (T : sT) (i : Nat) : Bool := (T.2.2.1 i &&& 8) != 0
def t_ar (T : sT) (i : Nat) : Bool := t_sg T i 56 && !t_ln T i
def t_op (T : sT) (k : Nat) : Bool := t_sg T k 0 || t_sg T k 2 || t_sg T k 4 || (t_kd T k 7 && t_hd T k && !t_tl T k)
def t_sh (T : sT) (k : Nat) : Bool := t_sg T k 1 || t_sg T k 3 || t_sg T k 5 || (t_kd T k 7 && !t_hd T k && t_tl T k)
/-- the place of the token that shuts what is opened, by depth -/
def t_clL (T : sT) : Nat → Int → Nat → Nat
  | 0, _, _ => t_e T
  | f + 1, d, k => bif t_kd T k 0 then t_e T else
    bif (d + (bif t_op T k then 1 else 0) - (bif t_sh T k then 1 else 0)) == 0 then k else t_clL T f (d + (bif t_op T k then 1 else 0) - (bif t_sh T k then 1 else 0)) (k + 1)
def t_cl (T : sT) (i : Nat) : Nat := t_clL T (t_e T + 1) 0 i
/-- attributes: covers that wait, private names asked for, functions, classes, whether all inside is well, declarations (kind, name): 0 var, 1 lexical, 2 function, 3 parameter, 4 told, 5 told of its own, 6 request -/
abbrev sA : Type := Int × List Int32 × Nat × Nat × Bool × List (Nat × Int32)
def sA0 : sA := (0, [], 0, 0, true, [])
def sA_m (a b : sA) : sA := (a.1 + b.1, a.2.1 ++ b.2.1, a.2.2.1 + b.2.2.1, a.2.2.2.1 + b.2.2.2.1, a.2.2.2.2.1 && b.2.2.2.2.1, a.2.2.2.2.2 ++ b.2.2.2.2.2)
abbrev sR (β : Type) : Type := Option (β × Nat × sA)
def s_b {β γ : Type} (r : sR β) (f : β → Nat → sR γ) : sR γ := match r with
  | none => none
  | some (v, j, α) => match f v j with
    | none => none
    | some (w, k, δ) => some (w, k, sA_m α δ)
def s_r {β : Type} (v : β) (j : Nat) : sR β := some (v, j, sA0)
def s_w {β : Type} (α : sA) (v : β) (j : Nat) : sR β := some (v, j, α)
def sA_cv (n : Int) : sA := (n, [], 0, 0, true, [])
def sA_pu (x : Int32) : sA := (0, [x], 0, 0, true, [])
def sA_ok (b : Bool) : sA := (0, [], 0, 0, b, [])
def sA_ev (k : Nat) (n : Int32) : sA := (0, [], 0, 0, true, [(k, n)])
/-- a node: what it is, its name or so, its fourth field, in brackets, how many covers fall away if it becomes a target, what a chain is of -/
abbrev sN : Type := Int32 × Int32 × Int32 × Bool × Option Int × Int32
def n_k (w : Int32) : sN := (w, 0, 0, false, none, 0)
def n_id (x : Int32) : sN := (4, x, 0, false, none, 0)
def n_d (w d : Int32) : sN := (w, 0, d, false, none, 0)
def n_lit (w : Int32) (c : Option Int) : sN := (w, 0, 0, false, c, 0)
def n_par (n : sN) : sN := (n.1, n.2.1, n.2.2.1, true, n.2.2.2.2)
def n_ch (n : sN) : sN := (35, 0, 0, false, none, n.1)
def n_bad (x : Int32) : Bool := x == 55 || x == 56
def n_si (n : sN) : Bool := bif n.1 == 4 then !n_bad n.2.1 else n.1 == 14 || n.1 == 15 || n.1 == 16 || n.1 == 19 || n.1 == 20
def n_tg (n : sN) : Option Int := bif n_si n then some 0 else bif n.2.2.2.1 then none else n.2.2.2.2.1
def n_el (n : sN) : Option Int := bif n.1 == 28 && n.2.2.1 == 0 && !n.2.2.2.1 then some 0 else n_tg n
def n_cb (a b : Option Int) : Option Int := match a, b with | some x, some y => some (x + y) | _, _ => none
def n_mx (n : sN) (op : Int32) : Bool := n.1 == 26 && !n.2.2.2.1 && !(n.2.2.1 == op) && (op == 36 || n.2.2.1 == 36)
def n_del (n : sN) : Bool := !(n.1 == 4) && !(bif n.1 == 35 then n.2.2.2.2.2 == 16 else n.1 == 16)
/-- where one is: yields, awaits, home, maker, target, no arguments -/
abbrev sC : Type := Bool × Bool × Bool × Bool × Bool × Bool
/-- and for statements: return, in a loop, in what breaks, labels -/
abbrev sX : Type := sC × Bool × Bool × Bool × List (Int32 × Bool)
/-- conflicts: in a block or a module, in a function -/
def m_blk (a b : Nat) : Bool := (decide (a < 3) && decide (b < 3) && !(a == 0 && b == 0)) || (a == 4 && b == 4)
def m_fun (a b : Nat) : Bool := (a == 1 && decide (b < 4)) || (b == 1 && decide (a < 4)) || (a == 3 && b == 3)
def s_hit (M : Nat → Nat → Bool) (l : List (Nat × Int32)) (x : Nat × Int32) : Bool := l.any (fun y => y.2 == x.2 && M y.1 x.1)
def s_ok (M : Nat → Nat → Bool) : List (Nat × Int32) → List (Nat × Int32) → Bool
  | _, [] => true
  | l, x :: t => !s_hit M l x && s_ok M (l ++ [x]) t
/-- the end of a scope: a block's, a function's -/
def s_blk {β : Type} (r : sR β) : sR β := match r with
  | none => none
  | some (v, j, cv, pu, nf, nc, ok, ev) => some (v, j, cv, pu, nf, nc, ok && s_ok m_blk [] ev, ev.filter (fun x => x.1 == 0))
def s_fn {β : Type} (n : Nat) (r : sR β) : sR β := match r with
  | none => none
  | some (v, j, cv, pu, nf, nc, ok, ev) => some (v, j, cv, pu, nf + n, nc, ok && s_ok m_fun [] ev, [])
/-- a class: private names it has fall away -/
def s_cl (r : sR (List (Int32 × Nat))) : sR sN := match r with
  | none => none
  | some (_, j, cv, pu, nf, nc, ok, ev) => some (n_k 12, j, cv, pu.filter (fun x => !ev.any (fun y => y.1 == 7 && y.2 == x)), nf, nc + 1, ok, ev.filter (fun x => !(x.1 == 7)))
/-- a private name more: by what kinds it is there already -/
def s_prv (D : List (Int32 × Nat)) (x : Int32) (h : Nat) : Bool := match D.filter (fun y => y.1 == x) with
  | [] => true
  | [g] => (g.2 == 2 && h == 4) || (g.2 == 4 && h == 2) || (g.2 == 3 && h == 5) || (g.2 == 5 && h == 3)
  | _ => false
/-- what lies one nest deeper: assignment, unary (plain, with power), new, left hand, a binding, an element of one, item, statement -/
abbrev sE : Type := (sC → Bool → Nat → sR sN) × (sC → Bool → Nat → sR sN) × (sC → Nat → sR sN) × (sC → Nat → sR sN) × (sC → Nat → Nat → sR (Bool × List Int32)) × (sC → Nat → Nat → sR (Bool × Bool × List Int32)) × (sX → Nat → sR (List Int32)) × (sX → Nat → sR Unit)
section SPEC
variable (T : sT) (E : sE)
def s_nd (s : Int32) (j : Nat) : sR Unit := bif t_sg T j s then s_r () (j + 1) else none
def s_nw (w : Int32) (j : Nat) : sR Unit := bif t_wd T j w then s_r () (j + 1) else none
def s_ident (j : Nat) : sR Int32 := bif t_id T j then s_r (t_v T j) (j + 1) else none
def s_exprL (cx : sC) (inn : Bool) : Nat → sN → Nat → sR sN
  | 0, _, _ => none
  | f + 1, n, j => bif t_sg T j 9 then s_b (E.1 cx inn (j + 1)) (fun _ k => s_exprL cx inn f (n_k 29) k) else s_r n j
def s_expr (cx : sC) (inn : Bool) (i : Nat) : sR sN := s_b (E.1 cx inn i) (fun n j => s_exprL T E cx inn (t_e T + 1) n j)
def s_argL (cx : sC) : Nat → Nat → sR Unit
  | 0, _ => none
  | f + 1, j => bif t_sg T j 3 then s_r () (j + 1) else
    s_b (E.1 cx true (bif t_sg T j 7 then j + 1 else j)) (fun _ k => bif t_sg T k 3 then s_argL cx f k else s_b (s_nd T 9 k) (fun _ m => s_argL cx f m))
def s_args (cx : sC) (i : Nat) : sR Unit := s_argL T E cx (t_e T + 1) (i + 1)
def s_tplL (cx : sC) (tag : Bool) : Nat → Nat → sR Unit
  | 0, _ => none
  | f + 1, j => bif decide (t_v T j < 0) && !tag then none else bif t_tl T j then s_r () (j + 1) else
    s_b (s_expr T E cx true (j + 1)) (fun _ k => bif t_kd T k 7 && !t_hd T k then s_tplL cx tag f k else none)
def s_tpl (cx : sC) (tag : Bool) (i : Nat) : sR sN := s_b (s_tplL T E cx tag (t_e T + 1) i) (fun _ k => s_r (n_k 13) k)
def s_sup (cx : sC) (i : Nat) : sR sN :=
  bif t_sg T (i + 1) 2 then (bif cx.2.2.2.1 then s_b (s_args T E cx (i + 1)) (fun _ k => s_r (n_k 21) k) else none) else
  bif cx.2.2.1 then
    (bif t_sg T (i + 1) 6 then (bif t_kd T (i + 2) 1 then s_r (n_k 19) (i + 3) else none) else
     s_b (s_nd T 4 (i + 1)) (fun _ k => s_b (s_expr T E cx true k) (fun _ m => s_b (s_nd T 5 m) (fun _ q => s_r (n_k 20) q))))
  else none
def s_new (cx : sC) (i : Nat) : sR sN :=
  bif t_sg T (i + 1) 6 then (bif t_wd T (i + 2) 52 then (bif cx.2.2.2.2.1 then s_r (n_k 22) (i + 3) else none) else none) else E.2.2.1 cx (i + 1)
def s_memL (cx : sC) (calls : Bool) : Nat → sN → Bool → Nat → sR sN
  | 0, _, _, _ => none
  | f + 1, n, ch, j =>
    bif t_sg T j 38 then
      (bif !calls then none else bif t_kd T (j + 1) 7 then none else
       bif t_kd T (j + 1) 2 then s_b (s_w (sA_pu (t_v T (j + 1))) () (j + 2)) (fun _ k => s_memL cx calls f (n_k 16) true k) else
       bif t_kd T (j + 1) 1 then s_memL cx calls f (n_k 14) true (j + 2) else
       bif t_sg T (j + 1) 4 then s_b (s_expr T E cx true (j + 2)) (fun _ m => s_b (s_nd T 5 m) (fun _ q => s_memL cx calls f (n_k 15) true q)) else
       bif t_sg T (j + 1) 2 then s_b (s_args T E cx (j + 1)) (fun _ q => s_memL cx calls f (n_k 17) true q) else none)
    else bif t_sg T j 6 then
      (bif t_kd T (j + 1) 2 then s_b (s_w (sA_pu (t_v T (j + 1))) () (j + 2)) (fun _ k => s_memL cx calls f (n_k 16) ch k) else
       bif t_kd T (j + 1) 1 then s_memL cx calls f (n_k 14) ch (j + 2) else none)
    else bif t_sg T j 4 then s_b (s_expr T E cx true (j + 1)) (fun _ m => s_b (s_nd T 5 m) (fun _ q => s_memL cx calls f (n_k 15) ch q))
    else bif calls && t_sg T j 2 then s_b (s_args T E cx j) (fun _ q => s_memL cx calls f (n_k 17) ch q)
    else bif t_kd T j 7 && t_hd T j then (bif ch then none else s_b (s_tpl T E cx true j) (fun _ k => s_memL cx calls f (n_k 13) ch k))
    else s_r (bif ch then n_ch n else n) j
def s_mem (cx : sC) (calls : Bool) (n : sN) (j : Nat) : sR sN := s_memL T E cx calls (t_e T + 1) n false j
/-- names of properties -/
def t_key (i : Nat) : Bool := t_kd T i 1 || t_kd T i 6 || t_kd T i 4 || t_kd T i 5
def t_isk (i : Nat) : Bool := t_key T i || t_kd T i 2 || t_sg T i 4
def s_key (cx : sC) (i : Nat) : sR Unit := bif t_key T i then s_r () (i + 1) else s_b (s_nd T 4 i) (fun _ j => s_b (E.1 cx true j) (fun _ k => s_nd T 5 k))
/-- patterns that bind (as: a kind of declaration): whether it is a name alone -/
def s_named (as : Nat) (j : Nat) : sR (Bool × List Int32) := s_b (s_ident T j) (fun x k => bif n_bad x then none else s_w (sA_ev as x) (true, [x]) k)
def s_barL (cx : sC) (as : Nat) : Nat → List Int32 → Nat → sR (Bool × List Int32)
  | 0, _, _ => none
  | f + 1, l, j => bif t_sg T j 5 then s_r (false, l) (j + 1) else bif t_sg T j 9 then s_b (s_nd T 9 j) (fun _ q => s_barL cx as f l q) else
    bif t_sg T j 7 then s_b (E.2.2.2.2.1 cx as (j + 1)) (fun b k => s_b (s_nd T 5 k) (fun _ q => s_r (false, l ++ b.2) q)) else
    s_b (E.2.2.2.2.2.1 cx as j) (fun b k => bif t_sg T k 5 then s_barL cx as f (l ++ b.2.2) k else s_b (s_nd T 9 k) (fun _ q => s_barL cx as f (l ++ b.2.2) q))
def s_bobL (cx : sC) (as : Nat) : Nat → List Int32 → Nat → sR (Bool × List Int32)
  | 0, _, _ => none
  | f + 1, l, j => bif t_sg T j 1 then s_r (false, l) (j + 1) else
    bif t_sg T j 7 then s_b (s_named T as (j + 1)) (fun b k => s_b (s_nd T 1 k) (fun _ q => s_r (false, l ++ b.2) q)) else
    s_b (s_key T E cx j) (fun _ k =>
      s_b (bif t_sg T k 39 then s_b (E.2.2.2.2.2.1 cx as (k + 1)) (fun b q => s_r b.2.2 q) else
           bif t_id T j && !n_bad (t_v T j) then s_b (s_w (sA_ev as (t_v T j)) () k) (fun _ q => bif t_sg T q 40 then s_b (E.1 cx true (q + 1)) (fun _ m => s_r [t_v T j] m) else s_r [t_v T j] q) else none)
        (fun l2 q => bif t_sg T q 1 then s_bobL cx as f (l ++ l2) q else s_b (s_nd T 9 q) (fun _ m => s_bobL cx as f (l ++ l2) m)))
def s_bind (cx : sC) (as : Nat) (i : Nat) : sR (Bool × List Int32) :=
  bif t_sg T i 4 then s_barL T E cx as (t_e T + 1) [] (i + 1) else bif t_sg T i 0 then s_bobL T E cx as (t_e T + 1) [] (i + 1) else s_named T as i
def s_elem (cx : sC) (as : Nat) (i : Nat) : sR (Bool × Bool × List Int32) := s_b (s_bind T E cx as i) (fun b j => bif t_sg T j 40 then s_b (E.1 cx true (j + 1)) (fun _ k => s_r (b.1, true, b.2) k) else s_r (b.1, false, b.2) j)
/-- parameters: all names alone, how many, whether the last one is a rest -/
def s_parL (cx : sC) : Nat → Bool → Nat → Nat → sR (Bool × Nat × Bool)
  | 0, _, _, _ => none
  | f + 1, si, n, j => bif t_sg T j 3 then s_r (si, n, false) (j + 1) else
    bif t_sg T j 7 then s_b (E.2.2.2.2.1 cx 3 (j + 1)) (fun _ k => s_b (s_nd T 3 k) (fun _ q => s_r (false, n + 1, true) q)) else
    s_b (E.2.2.2.2.2.1 cx 3 j) (fun b k => bif t_sg T k 3 then s_parL cx f (si && b.1 && !b.2.1) (n + 1) k else s_b (s_nd T 9 k) (fun _ q => s_parL cx f (si && b.1 && !b.2.1) (n + 1) q))
/-- statements up to } -/
def s_listL (x : sX) : Nat → Nat → sR Unit
  | 0, _ => none
  | f + 1, j => bif t_sg T j 1 || t_kd T j 0 || t_wd T j 2 || t_wd T j 8 then s_r () j else s_b (E.2.2.2.2.2.2.1 x j) (fun _ k => s_listL x f k)
def s_list (x : sX) (i : Nat) : sR Unit := s_listL T E x (t_e T + 1) i
/-- a token goes on with an expression before it -/
def t_on (k : Nat) : Bool := t_kd T k 7 || t_wd T k 21 || t_wd T k 22 || (t_kd T k 3 && !(t_v T k == 0) && !(t_v T k == 1) && !(t_v T k == 32) && !(t_v T k == 33) && !(t_v T k == 24) && !(t_v T k == 25))
/-- a directive among the first statements -/
def t_dirL : Nat → Nat → Bool
  | 0, _ => false
  | f + 1, k => bif t_kd T k 6 then
      (bif !t_sg T (k + 1) 8 && !t_sg T (k + 1) 1 && (!t_ln T (k + 1) || t_on T (k + 1)) then false else
       bif T.2.2.2.2.1 k && (T.2.2.1 k &&& 2) == 0 then true else t_dirL f (bif t_sg T (k + 1) 8 then k + 2 else k + 1)) else false
def s_body (x : sX) (si : Bool) (i : Nat) : sR Unit :=
  s_b (s_nd T 0 i) (fun _ j => bif !si && t_dirL T (t_e T + 1) j then none else s_b (s_list T E x j) (fun _ k => s_nd T 1 k))
/-- a function that is no arrow: what it may say, as a getter (1) or setter (2) -/
def s_plain (hm mk : Bool) (gs : Nat) (gen asy : Bool) (i : Nat) : sR Unit := s_fn 1
  (s_b (s_nd T 2 i) (fun _ j => s_b (s_parL T E (false, false, hm, mk, true, false) (t_e T + 1) true 0 j) (fun b k =>
    bif (gs == 1 && !(b.2.1 == 0)) || (gs == 2 && (!(b.2.1 == 1) || b.2.2 || t_sg T (k - 2) 9)) then none else
    s_body T E ((gen, asy, hm, mk, true, false), true, false, false, []) b.1 k)))
def s_arrow (cx : sC) (inn asy : Bool) (i : Nat) : sR sN := s_fn 1
  (s_b (bif t_sg T i 2 then s_b (s_parL T E (false, false, cx.2.2) (t_e T + 1) true 0 (i + 1)) (fun b k => s_r b.1 k) else s_b (s_named T 3 i) (fun b k => s_r b.1 k)) (fun si j =>
    bif t_ar T j then
      (bif t_sg T (j + 1) 0 then s_b (s_body T E ((false, asy, cx.2.2), true, false, false, []) si (j + 1)) (fun _ k => s_r (n_k 11) k)
       else s_b (E.1 (false, asy, cx.2.2) inn (j + 1)) (fun _ k => s_r (n_k 11) k))
    else none))
/-- behind the word function -/
def s_fnAt (asy : Bool) (i : Nat) : sR sN :=
  bif t_sg T i 20 && asy then none else
  s_b (bif t_sg T (bif t_sg T i 20 then i + 1 else i) 2 then s_r () (bif t_sg T i 20 then i + 1 else i) else
       s_b (s_ident T (bif t_sg T i 20 then i + 1 else i)) (fun x k => bif n_bad x then none else s_r () k))
    (fun _ j => s_b (s_plain T E false false 0 (t_sg T i 20) asy j) (fun _ k => s_r (n_k 11) k))
/-- an element of a class: is it the constructor; the private name it has -/
def s_semi (j : Nat) : sR Unit := bif t_sg T j 8 then s_r () (j + 1) else bif t_sg T j 1 || t_kd T j 0 || t_ln T j then s_r () j else none
def s_inner : sC := (false, false, true, false, true, true)
/-- behind the name of an element of a class; hidden, literal, x: what its name was -/
def s_mrest (heir ct fixed gen asy : Bool) (gs : Nat) (hid lit : Bool) (x : Int32) (D : List (Int32 × Nat)) (k : Nat) : sR (Bool × List (Int32 × Nat)) :=
  bif (lit && fixed && x == 54) || (!gen && !asy && gs == 0 && !t_sg T k 2 && lit && x == 53) then none else
  s_b (bif hid then s_b (s_w (sA_ok (s_prv D x (bif gs == 0 then 0 else 2 * gs + bif fixed then 1 else 0))) () k) (fun _ k => s_w (sA_ev 7 x) (D ++ [(x, bif gs == 0 then 0 else 2 * gs + bif fixed then 1 else 0)]) k) else s_r D k) (fun D2 j =>
    bif !gen && !asy && gs == 0 && !t_sg T j 2 then
      s_b (bif t_sg T j 40 then s_fn 0 (s_b (E.1 s_inner true (j + 1)) (fun _ q => s_r () q)) else s_r () j) (fun _ q => s_b (s_semi T q) (fun _ m => s_r (ct, D2) m))
    else bif lit && x == 53 && !fixed then
      (bif gen || asy || !(gs == 0) || ct then none else s_b (s_plain T E true heir 0 false false j) (fun _ q => s_r (true, D2) q))
    else s_b (s_plain T E true false gs gen asy j) (fun _ q => s_r (ct, D2) q))
/-- get or set -/
def t_gs (j : Nat) : Nat := bif t_isk T (j + 1) then (bif t_wd T j 49 then 1 else bif t_wd T j 51 then 2 else 0) else 0
def t_asy (j : Nat) : Bool := t_wd T j 47 && !t_ln T (j + 1) && (t_isk T (j + 1) || t_sg T (j + 1) 20)
def s_member2 (cx : sC) (heir ct fixed : Bool) (D : List (Int32 × Nat)) (i : Nat) : sR (Bool × List (Int32 × Nat)) :=
  let asy := t_asy T i
  let j := bif asy then i + 1 else i
  let gen := t_sg T j 20
  let j2 := bif gen then j + 1 else j
  bif asy && gen then none else
  let gs := bif asy || gen then 0 else t_gs T j2
  let j3 := bif gs == 0 then j2 else j2 + 1
  bif t_kd T j3 2 then (bif t_v T j3 == 53 then none else s_mrest T E heir ct fixed gen asy gs true false (t_v T j3) D (j3 + 1))
  else s_b (s_key T E cx j3) (fun _ k => s_mrest T E heir ct fixed gen asy gs false (t_kd T j3 1 || t_kd T j3 6) (t_v T j3) D k)
def s_member (cx : sC) (heir ct : Bool) (D : List (Int32 × Nat)) (i : Nat) : sR (Bool × List (Int32 × Nat)) :=
  bif t_wd T i 39 && (t_isk T (i + 1) || t_sg T (i + 1) 20 || t_sg T (i + 1) 0) then
    (bif t_sg T (i + 1) 0 then s_b (s_fn 0 (s_body T E (s_inner, false, false, false, []) true (i + 1))) (fun _ k => s_r (ct, D) k)
     else s_member2 T E cx heir ct true D (i + 1))
  else s_member2 T E cx heir ct false D i
def s_clsL (cx : sC) (heir : Bool) : Nat → Bool → List (Int32 × Nat) → Nat → sR (List (Int32 × Nat))
  | 0, _, _, _ => none
  | f + 1, ct, D, j => bif t_sg T j 1 then s_r D (j + 1) else bif t_sg T j 8 then s_clsL cx heir f ct D (j + 1) else
    s_b (s_member T E cx heir ct D j) (fun b k => s_clsL cx heir f b.1 b.2 k)
/-- behind class and perhaps a name -/
def s_class (cx : sC) (i : Nat) : sR sN :=
  s_b (bif t_wd T i 14 then s_b (E.2.2.2.1 cx (i + 1)) (fun _ k => s_r true k) else s_r false i) (fun heir j =>
    s_cl (s_b (s_nd T 0 j) (fun _ k => s_clsL T E cx heir (t_e T + 1) false [] k)))
/-- objects and arrays -/
def s_prop (cx : sC) (i : Nat) : sR (Int32 × sN × Bool) :=
  bif t_sg T i 7 then s_b (E.1 cx true (i + 1)) (fun v k => s_r (4, v, false) k) else
  let asy := t_asy T i
  let j := bif asy then i + 1 else i
  let gen := t_sg T j 20
  let j2 := bif gen then j + 1 else j
  bif (asy && gen) || t_kd T j2 2 then none else
  bif !asy && !gen && !(t_gs T j2 == 0) then
    (bif t_kd T (j2 + 1) 2 then none else s_b (s_key T E cx (j2 + 1)) (fun _ k => s_b (s_plain T E true false (t_gs T j2) false false k) (fun _ m => s_r (bif t_gs T j2 == 1 then 1 else 2, n_k 11, false) m)))
  else s_b (s_key T E cx j2) (fun _ k =>
    bif asy || gen || t_sg T k 2 then s_b (s_plain T E true false 0 gen asy k) (fun _ m => s_r (3, n_k 11, false) m) else
    bif t_sg T k 39 then s_b (E.1 cx true (k + 1)) (fun v m => s_r (0, v, false) m) else
    bif t_id T j2 && !(t_v T j2 == 55 && cx.2.2.2.2.2) then
      (bif t_sg T k 40 then s_b (s_w (sA_cv 1) () (k + 1)) (fun _ q => s_b (E.1 cx true q) (fun _ m => s_r (5, n_id (t_v T j2), true) m)) else s_r (5, n_id (t_v T j2), false) k)
    else none)
def n_pc (p : Int32 × sN × Bool) : Option Int := bif p.1 == 4 then (bif n_si p.2.1 then some 0 else none) else bif p.1 == 0 then n_el p.2.1 else bif p.1 == 5 then n_cb (some (bif p.2.2 then 1 else 0)) (n_tg p.2.1) else none
def s_objL (cx : sC) : Nat → Option Int → Bool → Nat → sR (Option Int)
  | 0, _, _, _ => none
  | f + 1, c, sp, j => bif t_sg T j 1 then s_r c (j + 1) else
    s_b (s_prop T E cx j) (fun p k => bif t_sg T k 1 then s_r (n_cb (bif sp then none else c) (n_pc p)) (k + 1) else
      s_b (s_nd T 9 k) (fun _ q => s_objL cx f (bif p.1 == 4 && t_sg T q 1 then none else n_cb (bif sp then none else c) (n_pc p)) (p.1 == 4) q))
def s_arrL (cx : sC) : Nat → Option Int → Bool → Nat → sR (Option Int)
  | 0, _, _, _ => none
  | f + 1, c, sp, j => bif t_sg T j 5 then s_r c (j + 1) else
    bif t_sg T j 9 then s_arrL cx f (bif sp then none else c) false (j + 1) else
    s_b (E.1 cx true (bif t_sg T j 7 then j + 1 else j)) (fun v k => bif t_sg T k 5 then s_r (n_cb (bif sp then none else c) (bif t_sg T j 7 then n_tg v else n_el v)) (k + 1) else
      s_b (s_nd T 9 k) (fun _ q => s_arrL cx f (bif t_sg T j 7 && t_sg T q 5 then none else n_cb (bif sp then none else c) (bif t_sg T j 7 then n_tg v else n_el v)) (t_sg T j 7) q))
def s_prim (cx : sC) (i : Nat) : sR sN :=
  bif t_kd T i 4 || t_kd T i 5 || t_kd T i 6 then s_r (n_k 1) (i + 1) else
  bif t_kd T i 7 && t_hd T i then s_tpl T E cx false i else
  bif t_kd T i 1 then
    (bif t_wd T i 47 && t_wd T (i + 1) 18 && !t_ln T (i + 1) then s_fnAt T E true (i + 2) else
     bif t_id T i then (bif t_v T i == 55 && cx.2.2.2.2.2 then none else s_r (n_id (t_v T i)) (i + 1)) else
     bif t_v T i == 18 then s_fnAt T E false (i + 1) else
     bif t_v T i == 4 then (bif t_id T (i + 1) then (bif n_bad (t_v T (i + 1)) then none else s_class T E cx (i + 2)) else s_class T E cx (i + 1)) else
     bif t_v T i == 28 then s_r (n_k 5) (i + 1) else bif t_v T i == 24 then s_r (n_k 6) (i + 1) else bif t_v T i == 30 then s_r (n_k 7) (i + 1) else bif t_v T i == 15 then s_r (n_k 8) (i + 1) else none)
  else bif t_sg T i 2 then s_b (s_expr T E cx true (i + 1)) (fun n j => s_b (s_nd T 3 j) (fun _ k => s_r (n_par n) k)) else
  bif t_sg T i 4 then s_b (s_arrL T E cx (t_e T + 1) (some 0) false (i + 1)) (fun c k => s_r (n_lit 9 c) k) else
  bif t_sg T i 0 then s_b (s_objL T E cx (t_e T + 1) (some 0) false (i + 1)) (fun c k => s_r (n_lit 10 c) k) else none
def s_base (cx : sC) (i : Nat) : sR sN := bif t_wd T i 23 then s_new T E cx i else bif t_wd T i 26 then s_sup T E cx i else s_prim T E cx i
def s_left (cx : sC) (i : Nat) : sR sN := s_b (s_base T E cx i) (fun n j => s_mem T E cx true n j)
def s_newb (cx : sC) (i : Nat) : sR sN := s_b (s_base T E cx i) (fun n j => bif n.1 == 21 then none else
  s_b (s_mem T E cx false n j) (fun _ k => bif t_sg T k 2 then s_b (s_args T E cx k) (fun _ m => s_r (n_k 18) m) else s_r (n_k 18) k))
/-- operators -/
def t_un (i : Nat) : Bool := (t_kd T i 3 && (t_v T i == 18 || t_v T i == 19 || t_v T i == 32 || t_v T i == 33)) || (t_kd T i 1 && (t_v T i == 9 || t_v T i == 34 || t_v T i == 32))
def s_una (cx : sC) (pw : Bool) (i : Nat) : sR sN :=
  bif t_un T i || (t_wd T i 0 && cx.2.1) then
    s_b (E.2.1 cx false (i + 1)) (fun v k => bif t_sg T k 23 || (t_wd T i 9 && !n_del v) then none else s_r (n_k (bif t_wd T i 0 then 34 else 23)) k)
  else s_b (bif t_sg T i 24 || t_sg T i 25 then s_b (E.2.1 cx false (i + 1)) (fun v k => bif n_si v then s_r (n_k 24) k else none)
            else s_b (s_left T E cx i) (fun v k => bif !t_ln T k && (t_sg T k 24 || t_sg T k 25) then (bif n_si v then s_r (n_k 24) (k + 1) else none) else s_r v k))
    (fun v k => bif pw && t_sg T k 23 then s_b (E.2.1 cx true (k + 1)) (fun _ m => s_r (n_d 25 23) m) else s_r v k)
def t_lv (inn : Bool) (i : Nat) : Nat :=
  bif t_kd T i 1 then (bif t_v T i == 22 || (t_v T i == 21 && inn) then 8 else 0) else bif !t_kd T i 3 then 0 else
  bif t_v T i == 36 then 1 else bif t_v T i == 35 then 2 else bif t_v T i == 34 then 3 else bif t_v T i == 30 then 4 else bif t_v T i == 31 then 5 else bif t_v T i == 29 then 6 else
  bif decide (14 ≤ t_v T i) && decide (t_v T i ≤ 17) then 7 else bif decide (10 ≤ t_v T i) && decide (t_v T i ≤ 13) then 8 else bif decide (26 ≤ t_v T i) && decide (t_v T i ≤ 28) then 9 else
  bif t_v T i == 18 || t_v T i == 19 then 10 else bif decide (20 ≤ t_v T i) && decide (t_v T i ≤ 22) then 11 else 0
def t_opc (i : Nat) : Int32 := bif t_kd T i 1 then 100 + t_v T i else t_v T i
/-- the loop of one level and those above it; B: what stands at the right -/
def s_binL (inn : Bool) (B : Nat → Nat → sR sN) (least : Nat) : Nat → sN → Nat → sR sN
  | 0, _, _ => none
  | f + 1, n, j => bif t_lv T inn j == 0 || Nat.blt (t_lv T inn j) least then s_r n j else
    s_b (B (t_lv T inn j + 1) (j + 1)) (fun y k => bif Nat.blt 3 (t_lv T inn j) then s_binL inn B least f (n_d 25 (t_opc T j)) k else
      bif n_mx n (t_opc T j) || n_mx y (t_opc T j) then none else s_binL inn B least f (n_d 26 (t_opc T j)) k)
def s_bin (cx : sC) (inn : Bool) : Nat → Nat → Nat → sR sN
  | 0, _, _ => none
  | g + 1, least, i =>
    s_b (bif t_kd T i 2 && Nat.ble least 8 && inn && t_wd T (i + 1) 21 then s_b (s_w (sA_pu (t_v T i)) () (i + 2)) (fun _ j => s_b (s_bin cx inn g 9 j) (fun _ k => s_r (n_k 36) k)) else s_una T E cx true i)
      (fun n j => s_binL T inn (s_bin cx inn g) least (t_e T + 1) n j)
def s_cond (cx : sC) (inn : Bool) (i : Nat) : sR sN := s_b (s_bin T E cx inn 13 1 i) (fun n j => bif t_sg T j 37 then
  s_b (E.1 cx true (j + 1)) (fun _ k => s_b (s_nd T 39 k) (fun _ m => s_b (E.1 cx inn m) (fun _ q => s_r (n_k 27) q))) else s_r n j)
def s_yield (cx : sC) (inn : Bool) (i : Nat) : sR sN :=
  bif !t_ln T (i + 1) && t_sg T (i + 1) 20 then s_b (E.1 cx inn (i + 2)) (fun _ k => s_r (n_k 33) k) else
  bif t_ln T (i + 1) || t_kd T (i + 1) 0 || t_sg T (i + 1) 3 || t_sg T (i + 1) 5 || t_sg T (i + 1) 1 || t_sg T (i + 1) 9 || t_sg T (i + 1) 8 || t_sg T (i + 1) 39 || t_wd T (i + 1) 21 || (t_kd T (i + 1) 7 && !t_hd T (i + 1)) then s_r (n_k 32) (i + 1)
  else s_b (E.1 cx inn (i + 1)) (fun _ k => s_r (n_k 32) k)
def t_aarr (i : Nat) : Bool := t_wd T i 47 && !t_ln T (i + 1) && ((t_kd T (i + 1) 1 && !(t_v T (i + 1) == 18) && t_ar T (i + 2)) || (t_sg T (i + 1) 2 && t_ar T (t_cl T (i + 1) + 1)))
def t_parr (i : Nat) : Bool := (t_id T i && t_ar T (i + 1)) || (t_sg T i 2 && t_ar T (t_cl T i + 1))
def s_asg (cx : sC) (inn : Bool) (i : Nat) : sR sN :=
  bif cx.1 && t_wd T i 37 then s_yield T E cx inn i else
  bif t_aarr T i then s_arrow T E cx inn true (i + 1) else
  bif t_parr T i then s_arrow T E cx inn false i else
  s_b (s_cond T E cx inn i) (fun n j => bif t_kd T j 3 && decide (40 ≤ t_v T j) && decide (t_v T j < 56) then
    (bif t_v T j == 40 then (match n_tg n with
        | none => none
        | some c => s_b (s_w (sA_cv (-c)) () (j + 1)) (fun _ k => s_b (E.1 cx inn k) (fun _ m => s_r (n_d 28 0) m)))
     else bif n_si n then s_b (E.1 cx inn (j + 1)) (fun _ m => s_r (n_d 28 (t_v T j - 40)) m) else none) else s_r n j)
/-! statements -/
def s_afun (i : Nat) : Bool := t_wd T i 47 && t_wd T (i + 1) 18 && !t_ln T (i + 1)
/-- behind var, let or const, and further ones; as: 0 var, 1 let or const; k: const -/
def s_decL (cx : sC) (as : Nat) (cst inn : Bool) : Nat → List Int32 → Nat → sR (List Int32)
  | 0, _, _ => none
  | f + 1, l, j => s_b (s_bind T E cx as j) (fun b k => s_b (bif t_sg T k 40 then s_b (E.1 cx inn (k + 1)) (fun _ m => s_r () m) else bif cst || !b.1 then none else s_r () k) (fun _ m => bif t_sg T m 9 then s_decL cx as cst inn f (l ++ b.2) (m + 1) else s_r (l ++ b.2) m))
def s_dec (cx : sC) (as : Nat) (cst : Bool) (i : Nat) : sR (List Int32) := s_decL T E cx as cst true (t_e T + 1) [] i
/-- behind function, with the name of its own: declared; 59 for default -/
def s_hoist (asy unn : Bool) (i : Nat) : sR (List Int32) :=
  bif t_sg T i 20 && asy then none else
  s_b (bif unn && t_sg T (bif t_sg T i 20 then i + 1 else i) 2 then s_w (sA_ev 10 59) [59] (bif t_sg T i 20 then i + 1 else i) else s_b (s_named T 2 (bif t_sg T i 20 then i + 1 else i)) (fun b k => s_r b.2 k))
    (fun l j => s_b (s_plain T E false false 0 (t_sg T i 20) asy j) (fun _ k => s_r l k))
def s_cond2 (cx : sC) (i : Nat) : sR Unit := s_b (s_nd T 2 i) (fun _ j => s_b (s_expr T E cx true j) (fun _ k => s_nd T 3 k))
def s_block (x : sX) (i : Nat) : sR Unit := s_blk (s_b (s_nd T 0 i) (fun _ j => s_b (s_list T E x j) (fun _ k => s_nd T 1 k)))
def s_stm (x : sX) (i : Nat) : sR Unit := E.2.2.2.2.2.2.2 x i
def x_loop (x : sX) : sX := (x.1, x.2.1, true, true, x.2.2.2.2)
def x_brk (x : sX) : sX := (x.1, x.2.1, x.2.2.1, true, x.2.2.2.2)
def s_fplain (x : sX) (i : Nat) : sR Unit :=
  s_b (s_nd T 8 i) (fun _ j => s_b (bif t_sg T j 8 then s_r () j else s_b (s_expr T E x.1 true j) (fun _ k => s_r () k)) (fun _ k => s_b (s_nd T 8 k) (fun _ m =>
    s_b (bif t_sg T m 3 then s_r () m else s_b (s_expr T E x.1 true m) (fun _ q => s_r () q)) (fun _ q => s_b (s_nd T 3 q) (fun _ u => s_stm E (x_loop x) u)))))
def s_feach (x : sX) (i : Nat) : sR Unit :=
  s_b (bif t_wd T i 50 then s_b (E.1 x.1 true (i + 1)) (fun _ k => s_r () k) else s_b (s_expr T E x.1 true (i + 1)) (fun _ k => s_r () k)) (fun _ k => s_b (s_nd T 3 k) (fun _ u => s_stm E (x_loop x) u))
def t_oi (i : Nat) : Bool := t_wd T i 50 || t_wd T i 21
def s_for (x : sX) (i : Nat) : sR Unit := s_blk (s_b (s_nd T 2 i) (fun _ j =>
  bif t_wd T j 33 || t_wd T j 38 || t_wd T j 5 then
    s_b (s_bind T E x.1 (bif t_wd T j 33 then 0 else 1) (j + 1)) (fun b k => bif t_oi T k then s_feach T E x k else
      s_b (bif t_sg T k 40 then s_b (E.1 x.1 false (k + 1)) (fun _ m => s_r () m) else bif t_wd T j 5 || !b.1 then none else s_r () k) (fun _ m =>
        s_b (bif t_sg T m 9 then s_b (s_decL T E x.1 (bif t_wd T j 33 then 0 else 1) (t_wd T j 5) false (t_e T + 1) [] (m + 1)) (fun _ q => s_r () q) else s_r () m) (fun _ q => s_fplain T E x q)))
  else bif t_sg T j 8 then s_fplain T E x j else
    s_b (s_expr T E x.1 false j) (fun n k => bif t_oi T k then
      (bif (t_wd T k 50 && t_wd T j 47 && t_wd T (j + 1) 50 && !t_ar T (j + 2) && k == j + 1) || n.1 == 29 || n.1 == 28 || (!(t_sg T j 4 || t_sg T j 0) && !n_si n) then none else
       match n_tg n with
       | none => none
       | some c => s_b (s_w (sA_cv (-c)) () k) (fun _ m => s_feach T E x m))
      else s_fplain T E x k)))
def s_swL (x : sX) : Nat → Bool → Nat → sR Unit
  | 0, _, _ => none
  | f + 1, other, j => bif t_sg T j 1 then s_r () (j + 1) else
    s_b (bif t_wd T j 8 then (bif other then none else s_r () (j + 1)) else s_b (s_nw T 2 j) (fun _ k => s_b (s_expr T E x.1 true k) (fun _ m => s_r () m))) (fun _ k =>
      s_b (s_nd T 39 k) (fun _ m => s_b (s_list T E (x_brk x) m) (fun _ q => s_swL x f (other || t_wd T j 8) q)))
def s_switch (x : sX) (i : Nat) : sR Unit := s_b (s_cond2 T E x.1 i) (fun _ j => s_blk (s_b (s_nd T 0 j) (fun _ k => s_swL T E x (t_e T + 1) false k)))
def s_try (x : sX) (i : Nat) : sR Unit := s_b (s_block T E x i) (fun _ j =>
  s_b (bif t_wd T j 3 then s_blk (s_b (bif t_sg T (j + 1) 2 then s_b (s_bind T E x.1 1 (j + 2)) (fun _ k => s_nd T 3 k) else s_r () (j + 1)) (fun _ k => s_b (s_nd T 0 k) (fun _ m => s_b (s_list T E x m) (fun _ q => s_nd T 1 q)))) else s_r () j) (fun _ k =>
    bif t_wd T k 16 then s_block T E x (k + 1) else bif t_wd T j 3 then s_r () k else none))
def t_labL : Nat → Nat → Nat
  | 0, k => k
  | f + 1, k => bif t_id T k && t_sg T (k + 1) 39 then t_labL f (k + 2) else k
def t_isl (k : Nat) : Bool := t_wd T k 17 || t_wd T k 35 || t_wd T k 10
def s_label (x : sX) (i : Nat) : sR Unit :=
  bif x.2.2.2.2.any (fun y => y.1 == t_v T i) then none else s_stm E (x.1, x.2.1, x.2.2.1, x.2.2.2.1, x.2.2.2.2 ++ [(t_v T i, t_isl T (t_labL T (t_e T + 1) (i + 2)))]) (i + 2)
def s_jump (x : sX) (brk : Bool) (i : Nat) : sR Unit :=
  bif t_id T (i + 1) && !t_ln T (i + 1) then
    (bif x.2.2.2.2.any (fun y => y.1 == t_v T (i + 1) && (brk || y.2)) then s_semi T (i + 2) else none)
  else bif (bif brk then x.2.2.2.1 else x.2.2.1) then s_semi T (i + 1) else none
def s_stmIn (x : sX) (i : Nat) : sR Unit :=
  bif t_sg T i 0 then s_block T E x i else bif t_sg T i 8 then s_r () (i + 1) else
  bif t_id T i && t_sg T (i + 1) 39 then s_label T E x i else
  bif t_wd T i 33 then s_b (s_dec T E x.1 0 false (i + 1)) (fun _ k => s_semi T k) else
  bif t_wd T i 19 then s_b (s_cond2 T E x.1 (i + 1)) (fun _ k => s_b (s_stm E x k) (fun _ m => bif t_wd T m 11 then s_stm E x (m + 1) else s_r () m)) else
  bif t_wd T i 17 then s_for T E x (i + 1) else
  bif t_wd T i 35 then s_b (s_cond2 T E x.1 (i + 1)) (fun _ k => s_stm E (x_loop x) k) else
  bif t_wd T i 10 then s_b (s_stm E (x_loop x) (i + 1)) (fun _ k => s_b (s_nw T 35 k) (fun _ m => s_b (s_cond2 T E x.1 m) (fun _ q => s_r () (bif t_sg T q 8 then q + 1 else q)))) else
  bif t_wd T i 6 then s_jump T x false i else bif t_wd T i 1 then s_jump T x true i else
  bif t_wd T i 25 then (bif x.2.1 then (bif t_ln T (i + 1) || t_sg T (i + 1) 8 || t_sg T (i + 1) 1 || t_kd T (i + 1) 0 then s_semi T (i + 1) else s_b (s_expr T E x.1 true (i + 1)) (fun _ k => s_semi T k)) else none) else
  bif t_wd T i 27 then s_switch T E x (i + 1) else
  bif t_wd T i 29 then (bif t_ln T (i + 1) then none else s_b (s_expr T E x.1 true (i + 1)) (fun _ k => s_semi T k)) else
  bif t_wd T i 31 then s_try T E x (i + 1) else bif t_wd T i 7 then s_semi T (i + 1) else
  bif t_wd T i 20 || t_wd T i 13 then none else s_b (s_expr T E x.1 true i) (fun _ k => s_semi T k)
def s_stmE (x : sX) (i : Nat) : sR Unit := bif t_wd T i 18 || t_wd T i 4 || t_wd T i 5 || t_wd T i 38 || s_afun T i then none else s_stmIn T E x i
def s_item (x : sX) (i : Nat) : sR (List Int32) :=
  bif t_wd T i 18 then s_hoist T E false false (i + 1) else bif s_afun T i then s_hoist T E true false (i + 2) else
  bif t_wd T i 4 then s_b (s_named T 1 (i + 1)) (fun b k => s_b (s_class T E x.1 k) (fun _ m => s_r b.2 m)) else
  bif t_wd T i 5 || t_wd T i 38 then s_b (s_dec T E x.1 1 (t_wd T i 5) (i + 1)) (fun l k => s_b (s_semi T k) (fun _ m => s_r l m)) else
  bif t_wd T i 33 then s_b (s_dec T E x.1 0 false (i + 1)) (fun l k => s_b (s_semi T k) (fun _ m => s_r l m)) else s_b (s_stmIn T E x i) (fun _ k => s_r [] k)
end SPEC
/-- level by level -/
def s_no : sE := (fun _ _ _ => none, fun _ _ _ => none, fun _ _ => none, fun _ _ => none, fun _ _ _ => none, fun _ _ _ => none, fun _ _ => none, fun _ _ => none)
def s_up (T : sT) (E : sE) : sE := (s_asg T E, s_una T E, s_newb T E, s_left T E, s_bind T E, s_elem T E, s_item T E, s_stmE T E)
/-- what one may enter where the nest is ν short of its most -/
def s_lv (T : sT) : Nat → sE
  | 0 => s_no
  | ν + 1 => s_up T (s_lv T ν)
