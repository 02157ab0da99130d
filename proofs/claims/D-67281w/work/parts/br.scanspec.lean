/-! PHASE 5. THE SCANNER, in plain: octets to tokens. A token: its kind, its text, its number (a sign's; -1: a template's part that can't be cooked), its place, its flags -/
abbrev pT : Type := Int32 × List Int32 × Int32 × Nat × Int32
def q_st (c : Int32) : Bool := bif c < 97 || 122 < c then (bif c < 65 || 90 < c then c == 95 || c == 36 else true) else true
def q_dg (c : Int32) : Bool := bif c < 48 then false else !decide (57 < c)
def q_do (c : Int32) : Int32 := bif c < 48 || 57 < c then (bif c < 97 || 122 < c then (bif c < 65 || 90 < c then 99 else c - 65 + 10) else c - 97 + 10) else c - 48
/-- the octet at a place; -1 behind the end -/
def x_at (X : Nat → Int32) (n i : Nat) : Int32 := if i < n then X i else -1
section SCAN
variable (x : Nat → Int32)
def q_word : Nat → Nat → List Int32 → Nat × List Int32
  | 0, i, w => (i, w)
  | f + 1, i, w => bif q_st (x i) || q_dg (x i) then q_word f (i + 1) (w ++ [x i]) else (i, w)
/-- digits with single _ between them -/
def q_runL (radix : Int32) : Nat → Nat → Bool → List Int32 → Option (Nat × List Int32)
  | 0, _, _, _ => none
  | f + 1, k, dg, w => bif decide (q_do (x k) < radix) || x k == 95 then
      (bif x k == 95 && (!dg || !decide (q_do (x (k + 1)) < radix)) then none else q_runL radix f (k + 1) (!(x k == 95)) (bif x k == 95 then w else w ++ [x k])) else some (k, w)
def q_run (radix : Int32) (f i : Nat) (w : List Int32) : Option (Nat × List Int32) := match q_runL x radix f i false w with
  | none => none
  | some (k, u) => if k = i then none else some (k, u)
def q_val (radix : Int32) (w : List Int32) : Nat := w.foldl (fun v d => v * radix.toNatClampNeg + (q_do d).toNatClampNeg) 0
/-- a number: where it ends, its digits if it is big -/
def q_num (f i : Nat) : Option (Nat × Option (List Int32)) :=
  let d := x (i + 1) ||| 32
  let radix : Int32 := bif x i == 48 then (bif d == 120 then 16 else bif d == 111 then 8 else bif d == 98 then 2 else 10) else 10
  let r := bif radix == 10 then (bif x i == 48 && (q_dg (x (i + 1)) || x (i + 1) == 95) then none else bif x i == 46 then some (i, []) else q_run x 10 f i []) else q_run x radix f (i + 2) []
  match r with
  | none => none
  | some (k, w) =>
    let e := bif x k == 110 && !(x i == 46) then (bif decide (q_val radix w < 2 ^ 1024) then some (k + 1, some w) else none) else
      bif radix == 10 then
        (let r2 := bif x k == 46 then (bif q_dg (x (k + 1)) || x (k + 1) == 95 then q_run x 10 f (k + 1) w else some (k + 1, w)) else some (k, w)
         match r2 with
         | none => none
         | some (k2, w2) => bif (x k2 ||| 32) == 101 then (match q_run x 10 f (bif x (k2 + 1) == 45 || x (k2 + 1) == 43 then k2 + 2 else k2 + 1) w2 with
             | none => none
             | some (k3, _) => some (k3, none)) else some (k2, none))
      else some (k, none)
    match e with
    | none => none
    | some (k4, b) => bif q_st (x k4) || q_dg (x k4) then none else some (k4, b)
/-- behind a \\ -/
def q_uL : Nat → Nat → Int32 → Nat × Int32
  | 0, k, v => (k, v)
  | f + 1, k, v => bif decide (q_do (x k) < 16) then q_uL f (k + 1) (bif decide (1114111 < v) then v else 16 * v + q_do (x k)) else (k, v)
def q_hx : Nat → Nat → Int32 → Option Int32
  | 0, _, v => some v
  | n + 1, k, v => bif decide (15 < q_do (x k)) then none else q_hx n (k + 1) (16 * v + q_do (x k))
def q_ctl (c : Int32) : Int32 := bif c == 110 then 10 else bif c == 116 then 9 else bif c == 98 then 8 else bif c == 118 then 11 else bif c == 102 then 12 else bif c == 114 then 13 else bif c == 48 then 0 else c
def q_pt (v : Int32) : List Int32 := bif decide (65535 < v) then [55296 + mf_ishr (v - 65536) 10, 56320 + ((v - 65536) &&& 1023)] else [v]
def q_esc (f i : Nat) : Option (Nat × List Int32) :=
  bif x i == 10 then some (i + 1, []) else
  bif x i == 117 && x (i + 1) == 123 then
    (let r := q_uL x f (i + 2) 0
     bif r.1 == i + 2 || !(x r.1 == 125) || decide (1114111 < r.2) then none else some (r.1 + 1, q_pt r.2)) else
  bif x i == 117 || x i == 120 then
    (let n := bif x i == 117 then 4 else 2
     match q_hx x n (i + 1) 0 with
     | none => none
     | some v => some (i + 1 + n, [v])) else
  bif decide (x i < 0) || (q_dg (x i) && (!(x i == 48) || q_dg (x (i + 1)))) then none else some (i + 1, [q_ctl (x i)])
def q_str (q : Int32) : Nat → Nat → List Int32 → Bool → Option (Nat × List Int32 × Bool)
  | 0, _, _, _ => none
  | f + 1, i, w, es => bif x i == q then some (i + 1, w, es) else bif decide (x i < 0) || x i == 10 then none else
    bif x i == 92 then (match q_esc x (f + 1) (i + 1) with
      | none => none
      | some (k, u) => q_str q f k (w ++ u) true)
    else q_str q f (i + 1) (w ++ [x i]) es
/-- where a template's part ends -/
def q_tpe : Nat → Nat → Option Nat
  | 0, _ => none
  | f + 1, i => bif x i == 96 || (x i == 36 && x (i + 1) == 123) then some i else bif decide (x i < 0) then none else q_tpe f (bif x i == 92 then i + 2 else i + 1)
/-- can it be cooked -/
def q_ck (e : Nat) : Nat → Nat → Bool
  | 0, _ => true
  | f + 1, k => if k < e then (bif x k == 92 then (match q_esc x (f + 1) (k + 1) with | none => false | some (k2, _) => q_ck e f k2) else q_ck e f (k + 1)) else true
def q_tpl (n f i : Nat) : Option (Nat × Bool) := match q_tpe x f i with
  | none => none
  | some e => if n < e then none else some (e, q_ck x e f i)
end SCAN
/-- the signs -/
def q_split : List Int32 → List Int32 → List (List Int32)
  | [], _ => []
  | c :: t, w => bif c == 32 then w :: q_split t [] else q_split t (w ++ [c])
def q_sgs : List (List Int32) := q_split (tx 1) []
def q_mt (x : Nat → Int32) (i : Nat) : List Int32 → Bool
  | [] => true
  | c :: t => x i == c && q_mt x (i + 1) t
/-- the longest sign: its number, how long -/
def q_sgL (x : Nat → Int32) (i : Nat) : List (List Int32) → Int32 → Int32 → Nat → Int32 × Nat
  | [], _, b, l => (b, l)
  | s :: t, k, b, l => bif q_mt x i s && decide (l < s.length) && !(k == 38 && q_dg (x (i + 2))) then q_sgL x i t (k + 1) k s.length else q_sgL x i t (k + 1) b l
def q_sgn (x : Nat → Int32) (i : Nat) : Int32 × Nat := q_sgL x i q_sgs 0 (-1) 0
/-- behind // and behind /* -/
def q_cmL (x : Nat → Int32) (n : Nat) : Nat → Nat → Nat
  | 0, i => i
  | f + 1, i => if i < n then (bif x i == 10 then i else q_cmL x n f (i + 1)) else i
def q_cmB (x : Nat → Int32) (n : Nat) : Nat → Nat → Bool → Option (Nat × Bool)
  | 0, _, _ => none
  | f + 1, i, ln => if i < n then (bif x i == 42 && x (i + 1) == 47 then some (i + 2, ln) else q_cmB x n f (i + 1) (ln || x i == 10)) else none
def q_fl (ln : Bool) : Int32 := bif ln then 1 else 0
/-- the whole; st: the braces that are open, is one a template's -/
def q_scan (x : Nat → Int32) (n : Nat) : Nat → Nat → Bool → List Bool → List pT → Option (List pT)
  | 0, _, _, _, _ => none
  | f + 1, i, ln, st, ts =>
    bif decide (x i < 0) then some (ts ++ [(0, [], 0, i, 1)]) else
    bif x i == 10 || x i == 32 then q_scan x n f (i + 1) (ln || x i == 10) st ts else
    bif x i == 47 && x (i + 1) == 47 then q_scan x n f (q_cmL x n (f + 1) i) ln st ts else
    bif x i == 47 && x (i + 1) == 42 then (match q_cmB x n (f + 1) (i + 2) ln with
      | none => none
      | some (k, l2) => q_scan x n f k l2 st ts) else
    bif q_st (x i) || x i == 35 then
      (let j := bif x i == 35 then i + 1 else i
       bif q_st (x j) then (let r := q_word x (f + 1) j []
         q_scan x n f r.1 false st (ts ++ [(bif x i == 35 then 2 else 1, r.2, 0, i, q_fl ln)])) else none) else
    bif q_dg (x i) || (x i == 46 && q_dg (x (i + 1))) then (match q_num x (f + 1) i with
      | none => none
      | some (k, b) => q_scan x n f k false st (ts ++ [(bif b.isSome then 5 else 4, [], 0, i, q_fl ln)])) else
    bif x i == 34 || x i == 39 then (match q_str x (x i) (f + 1) (i + 1) [] false with
      | none => none
      | some (k, w, es) => q_scan x n f k false st (ts ++ [(6, w, 0, i + 1, q_fl ln ||| (bif es then 2 else 0))])) else
    bif x i == 96 || (x i == 125 && st.head? == some true) then
      (match q_tpl x n (f + 1) (i + 1) with
       | none => none
       | some (e, ck) =>
         let st2 := bif x i == 125 then st.tail else st
         q_scan x n f (bif x e == 96 then e + 1 else e + 2) false (bif x e == 96 then st2 else true :: st2)
           (ts ++ [(7, [], bif ck then 0 else -1, i + 1, q_fl ln ||| ((bif x i == 96 then 4 else 0) ||| (bif x e == 96 then 8 else 0)))])) else
    (let s := q_sgn x i
     bif decide (s.1 < 0) then none else
     q_scan x n f (i + s.2) false (bif s.1 == 0 then false :: st else bif s.1 == 1 then st.tail else st) (ts ++ [(3, [], s.1, i, q_fl ln)]))
