/-! THE MINI MACHINE: one abstract machine for the whole world of the claim; every instruction is a step on predicates. -/
/-- a value: an int, a long, or a reference (slot, address); slot 0 is null -/
abbrev mmV : Type := Int32 ⊕ (Int64 ⊕ (Nat × Nat))
/-- the world: int fields; int-like arrays by slot; long arrays by slot; lengths (of objects: 1 if made); addresses; fields that are references; cells and slots that may still be made -/
abbrev mmS : Type := (Nat → Int32) × (Nat → Nat → Int32) × (Nat → Nat → Int64) × (Nat → Nat) × (Nat → Nat) × (Nat → Nat × Nat) × Nat × Nat
def mm_f (σ : mmS) : Nat → Int32 := σ.1
def mm_a (σ : mmS) : Nat → Nat → Int32 := σ.2.1
def mm_l (σ : mmS) : Nat → Nat → Int64 := σ.2.2.1
def mm_n (σ : mmS) : Nat → Nat := σ.2.2.2.1
def mm_v (σ : mmS) : Nat → Nat := σ.2.2.2.2.1
def mm_r (σ : mmS) : Nat → Nat × Nat := σ.2.2.2.2.2.1
def mm_bc (σ : mmS) : Nat := σ.2.2.2.2.2.2.1
def mm_bs (σ : mmS) : Nat := σ.2.2.2.2.2.2.2
def mm_up {α : Type} (g : Nat → α) (k : Nat) (x : α) : Nat → α := fun j => if j = k then x else g j
def mm_setf (σ : mmS) (i : Nat) (x : Int32) : mmS := (mm_up σ.1 i x, σ.2)
def mm_seta (σ : mmS) (k i : Nat) (x : Int32) : mmS := (σ.1, mm_up σ.2.1 k (mm_up (σ.2.1 k) i x), σ.2.2)
def mm_setl (σ : mmS) (k i : Nat) (x : Int64) : mmS := (σ.1, σ.2.1, mm_up σ.2.2.1 k (mm_up (σ.2.2.1 k) i x), σ.2.2.2)
def mm_setr (σ : mmS) (i : Nat) (x : Nat × Nat) : mmS := (σ.1, σ.2.1, σ.2.2.1, σ.2.2.2.1, σ.2.2.2.2.1, mm_up σ.2.2.2.2.2.1 i x, σ.2.2.2.2.2.2)
/-- the whole contents of an array -/
def mm_fill (σ : mmS) (k : Nat) (g : Nat → Int32) : mmS := (σ.1, mm_up σ.2.1 k g, σ.2.2)
/-- a new array of n places at the address q becomes slot k -/
def mm_make (σ : mmS) (k n q : Nat) (g : Nat → Int32) (h : Nat → Int64) : mmS :=
  (σ.1, mm_up σ.2.1 k g, mm_up σ.2.2.1 k h, mm_up σ.2.2.2.1 k n, mm_up σ.2.2.2.2.1 k q, σ.2.2.2.2.2.1, σ.2.2.2.2.2.2.1 - 1, σ.2.2.2.2.2.2.2 - n)
/-- what is in slot j goes to slot k; slot j is empty then -/
def mm_move (σ : mmS) (j k : Nat) : mmS :=
  (σ.1, mm_up σ.2.1 k (σ.2.1 j), mm_up σ.2.2.1 k (σ.2.2.1 j), mm_up (mm_up σ.2.2.2.1 k (σ.2.2.2.1 j)) j 0, mm_up σ.2.2.2.2.1 k (σ.2.2.2.2.1 j), σ.2.2.2.2.2)
/-- a place in a method: pc, locals by their numbers, operand stack -/
abbrev mmC : Type := Nat × List (Option mmV) × List mmV
/-- how a method ends: with an answer (none: void), or by an exception of the class with a number -/
abbrev mmO : Type := Option mmV ⊕ Nat
abbrev mmK : Type := mmC → mmS → Prop
abbrev mmQ : Type := mmO → mmS → Prop
/-- what calls do: method, arguments, world before, what must hold behind -/
abbrev mmCall : Type := Nat → List mmV → mmS → mmQ → Prop
abbrev mmOp : Type := mmCall → mmC → mmS → mmK → mmQ → Prop
def mm_long : mmV → Bool
  | .inr (.inl _) => true
  | _ => false
def mm_lk : List (Option mmV) → Nat → Option mmV
  | [], _ => none
  | v :: _, 0 => v
  | _ :: t, i + 1 => mm_lk t i
/-- a long whose second half is overwritten is lost -/
def mm_lost (v : Option mmV) : Option mmV := match v with
  | some (.inr (.inl _)) => none
  | v => v
def mm_ins1 : Nat → mmV → List (Option mmV) → List (Option mmV)
  | _, _, [] => []
  | 0, v, _ :: t => some v :: t
  | 1, v, x :: t => mm_lost x :: mm_ins1 0 v t
  | i + 2, v, x :: t => x :: mm_ins1 (i + 1) v t
def mm_ins2 : Nat → mmV → List (Option mmV) → List (Option mmV)
  | _, _, [] => []
  | 0, v, [_] => [some v]
  | 0, v, _ :: _ :: t => some v :: none :: t
  | 1, v, x :: t => mm_lost x :: mm_ins2 0 v t
  | i + 2, v, x :: t => x :: mm_ins2 (i + 1) v t
/-- both ways of a branch -/
def mm_br (c A B : Prop) : Prop := (c → A) ∧ (¬ c → B)
/-- inside an array -/
def mm_in (i : Int32) (n : Nat) : Prop := ¬ (i < 0 ∨ n ≤ i.toNatClampNeg)
/-- an array's place read: through the reference (k, q) -/
def mm_ld (σ : mmS) (k q : Nat) (i : Int32) (K : Int32 → Prop) : Prop := q = mm_v σ k ∧ mm_in i (mm_n σ k) ∧ K (mm_a σ k i.toNatClampNeg)
def mm_ldl (σ : mmS) (k q : Nat) (i : Int32) (K : Int64 → Prop) : Prop := q = mm_v σ k ∧ mm_in i (mm_n σ k) ∧ K (mm_l σ k i.toNatClampNeg)
def mm_st (σ : mmS) (k q : Nat) (i : Int32) (x : Int32) (K : mmS → Prop) : Prop := q = mm_v σ k ∧ mm_in i (mm_n σ k) ∧ K (mm_seta σ k i.toNatClampNeg x)
def mm_stl (σ : mmS) (k q : Nat) (i : Int32) (x : Int64) (K : mmS → Prop) : Prop := q = mm_v σ k ∧ mm_in i (mm_n σ k) ∧ K (mm_setl σ k i.toNatClampNeg x)
/-- a call whose answer is an int (a long, a reference, nothing), and which may also throw (X) -/
def mm_ci (O : mmCall) (y : Nat) (as : List mmV) (σ : mmS) (K : Int32 → mmS → Prop) (X : Nat → mmS → Prop) : Prop := O y as σ (fun o u => match o with | .inl (some (.inl x)) => K x u | .inr e => X e u | _ => False)
def mm_cl (O : mmCall) (y : Nat) (as : List mmV) (σ : mmS) (K : Int64 → mmS → Prop) (X : Nat → mmS → Prop) : Prop := O y as σ (fun o u => match o with | .inl (some (.inr (.inl x))) => K x u | .inr e => X e u | _ => False)
def mm_cr (O : mmCall) (y : Nat) (as : List mmV) (σ : mmS) (K : Nat → Nat → mmS → Prop) (X : Nat → mmS → Prop) : Prop := O y as σ (fun o u => match o with | .inl (some (.inr (.inr (k, q)))) => K k q u | .inr e => X e u | _ => False)
def mm_cv (O : mmCall) (y : Nat) (as : List mmV) (σ : mmS) (K : mmS → Prop) (X : Nat → mmS → Prop) : Prop := O y as σ (fun o u => match o with | .inl none => K u | .inr e => X e u | _ => False)
/-- the first n of a stack, turned round: the arguments; and the rest -/
def mm_take : Nat → List mmV → List mmV → Option (List mmV × List mmV)
  | 0, st, acc => some (acc, st)
  | n + 1, v :: st, acc => mm_take n st (v :: acc)
  | _ + 1, [], _ => none
/-- how much an operand stack weighs -/
def mm_wt : List mmV → Nat
  | [] => 0
  | v :: t => (match v with | .inr (.inl _) => 2 | _ => 1) + mm_wt t
/-- the receiver is of the method's class -/
def mm_rc (y : Nat) (as : List mmV) : Bool := match as with
  | .inr (.inr (k, _)) :: _ => bif Nat.blt y 6000 then Nat.beq k (y / 1000) else bif Nat.blt y 14000 then Nat.beq k 5 else Nat.ble 1000 k && Nat.blt k 1113
  | _ => false
/-- what kind of array a slot holds: 0 int, 1 byte, 2 boolean, 3 char, 4 long -/
def mm_kd (k : Nat) : Nat :=
  bif Nat.blt k 89 then 9 else bif Nat.blt 999 k then (bif Nat.beq k 1999 then 5 else 9) else
  bif Nat.blt k 205 then
    (bif Nat.beq k 96 then 9 else bif Nat.beq k 89 then 2 else bif Nat.beq k 91 then 1 else bif Nat.beq k 92 then 2 else bif Nat.beq k 93 then 3 else bif Nat.beq k 94 then 4 else bif Nat.beq k 95 then 4 else bif Nat.beq k 100 then 1 else bif Nat.beq k 204 then 3 else 0)
  else bif Nat.blt k 402 then (bif Nat.beq k 209 then 4 else bif Nat.beq k 323 then 2 else bif Nat.beq k 401 then 3 else 0)
  else (bif Nat.beq k 411 then 2 else bif Nat.beq k 415 then 3 else bif Nat.beq k 421 then 2 else bif Nat.beq k 449 then 2 else bif Nat.beq k 478 then 3 else 0)
/-- an array put into a field: a new one out of slot t, or the one that is there -/
def mm_pa (σ : mmS) (n t k q : Nat) (K : mmS → Prop) : Prop := (k = t ∧ q = mm_v σ t ∧ 0 < mm_n σ t ∧ K (mm_move σ t n)) ∨ (k = n ∧ q = mm_v σ n ∧ 0 < mm_n σ n ∧ K σ)
/-- the same with the array that a slot has now -/
def mm_L (σ : mmS) (k : Nat) (i : Int32) (K : Int32 → Prop) : Prop := mm_ld σ k (mm_v σ k) i K
def mm_S (σ : mmS) (k : Nat) (i x : Int32) (K : mmS → Prop) : Prop := mm_st σ k (mm_v σ k) i x K
def mm_I (O : mmCall) (Q : mmQ) (y : Nat) (as : List mmV) (σ : mmS) (K : Int32 → mmS → Prop) : Prop := mm_ci O y as σ K (fun e u => Q (.inr e) u)
def mm_J (O : mmCall) (Q : mmQ) (y : Nat) (as : List mmV) (σ : mmS) (K : Int64 → mmS → Prop) : Prop := mm_cl O y as σ K (fun e u => Q (.inr e) u)
def mm_R (O : mmCall) (Q : mmQ) (y : Nat) (as : List mmV) (σ : mmS) (K : Nat → Nat → mmS → Prop) : Prop := mm_cr O y as σ K (fun e u => Q (.inr e) u)
def mm_V (O : mmCall) (Q : mmQ) (y : Nat) (as : List mmV) (σ : mmS) (K : mmS → Prop) : Prop := mm_cv O y as σ K (fun e u => Q (.inr e) u)
def mm_filll (σ : mmS) (k : Nat) (g : Nat → Int64) : mmS := (σ.1, σ.2.1, mm_up σ.2.2.1 k g, σ.2.2.2)
/-- what an array of a kind may hold -/
def mm_fit (d : Nat) (x : Int32) : Prop := match d with | 0 => True | 1 => -128 ≤ x ∧ x < 128 | 2 => x = 0 ∨ x = 1 | 3 => 0 ≤ x ∧ x < 65536 | _ => False
/-- System.arraycopy of n places from slot j to slot k, from place 0 to place 0 -/
def mm_acp (σ : mmS) (d : Nat) (n dp : Int32) (k q : Nat) (sp : Int32) (j q1 : Nat) (K : mmS → Prop) : Prop :=
  j ≠ k ∧ mm_kd j = d ∧ mm_kd k = d ∧ q = mm_v σ k ∧ q1 = mm_v σ j ∧ dp = 0 ∧ sp = 0 ∧ ¬ n < 0 ∧ n.toNatClampNeg ≤ mm_n σ k ∧ n.toNatClampNeg ≤ mm_n σ j ∧ 0 < mm_n σ j ∧ 0 < mm_n σ k ∧ (∀ i, i < n.toNatClampNeg → mm_fit d (mm_a σ j i)) ∧ K (mm_fill σ k (fun i => if i < n.toNatClampNeg then mm_a σ j i else mm_a σ k i))
def mm_acpl (σ : mmS) (n dp : Int32) (k q : Nat) (sp : Int32) (j q1 : Nat) (K : mmS → Prop) : Prop :=
  j ≠ k ∧ mm_kd j = 4 ∧ mm_kd k = 4 ∧ q = mm_v σ k ∧ q1 = mm_v σ j ∧ dp = 0 ∧ sp = 0 ∧ ¬ n < 0 ∧ n.toNatClampNeg ≤ mm_n σ k ∧ n.toNatClampNeg ≤ mm_n σ j ∧ 0 < mm_n σ j ∧ 0 < mm_n σ k ∧ K (mm_filll σ k (fun i => if i < n.toNatClampNeg then mm_l σ j i else mm_l σ k i))
/-! the instructions -/
def mo_int (x : Int32) (len : Nat) : mmOp := fun _ c σ K _ => match c with | (pc, lv, st) => K (pc + len, lv, .inl x :: st) σ
def mo_long (x : Int64) (len : Nat) : mmOp := fun _ c σ K _ => match c with | (pc, lv, st) => K (pc + len, lv, .inr (.inl x) :: st) σ
def mo_null : mmOp := fun _ c σ K _ => match c with | (pc, lv, st) => K (pc + 1, lv, .inr (.inr (0, 0)) :: st) σ
/-- a String constant, slot k -/
def mo_str (k len : Nat) : mmOp := fun _ c σ K _ => match c with | (pc, lv, st) => K (pc + len, lv, .inr (.inr (k, mm_v σ k)) :: st) σ
def mo_iload (i len : Nat) : mmOp := fun _ c σ K _ => match c with
  | (pc, lv, st) => match mm_lk lv i with
    | some (.inl x) => K (pc + len, lv, .inl x :: st) σ
    | _ => False
def mo_lload (i len : Nat) : mmOp := fun _ c σ K _ => match c with
  | (pc, lv, st) => match mm_lk lv i with
    | some (.inr (.inl x)) => K (pc + len, lv, .inr (.inl x) :: st) σ
    | _ => False
def mo_aload (i len : Nat) : mmOp := fun _ c σ K _ => match c with
  | (pc, lv, st) => match mm_lk lv i with
    | some (.inr (.inr r)) => K (pc + len, lv, .inr (.inr r) :: st) σ
    | _ => False
def mo_istore (i len : Nat) : mmOp := fun _ c σ K _ => match c with
  | (pc, lv, .inl x :: st) => K (pc + len, mm_ins1 i (.inl x) lv, st) σ
  | _ => False
def mo_lstore (i len : Nat) : mmOp := fun _ c σ K _ => match c with
  | (pc, lv, .inr (.inl x) :: st) => K (pc + len, mm_ins2 i (.inr (.inl x)) lv, st) σ
  | _ => False
def mo_astore (i len : Nat) : mmOp := fun _ c σ K _ => match c with
  | (pc, lv, .inr (.inr r) :: st) => K (pc + len, mm_ins1 i (.inr (.inr r)) lv, st) σ
  | _ => False
def mo_iinc (i : Nat) (n : Int32) : mmOp := fun _ c σ K _ => match c with
  | (pc, lv, st) => match mm_lk lv i with
    | some (.inl x) => K (pc + 3, mm_ins1 i (.inl (x + n)) lv, st) σ
    | _ => False
def mo_ib (g : Int32 → Int32 → Int32) : mmOp := fun _ c σ K _ => match c with
  | (pc, lv, .inl y :: .inl x :: st) => K (pc + 1, lv, .inl (g x y) :: st) σ
  | _ => False
def mo_id (g : Int32 → Int32 → Int32) : mmOp := fun _ c σ K _ => match c with
  | (pc, lv, .inl y :: .inl x :: st) => ¬ y = 0 ∧ K (pc + 1, lv, .inl (g x y) :: st) σ
  | _ => False
def mo_iu (g : Int32 → Int32) : mmOp := fun _ c σ K _ => match c with
  | (pc, lv, .inl x :: st) => K (pc + 1, lv, .inl (g x) :: st) σ
  | _ => False
def mo_i2l : mmOp := fun _ c σ K _ => match c with
  | (pc, lv, .inl x :: st) => K (pc + 1, lv, .inr (.inl x.toInt64) :: st) σ
  | _ => False
def mo_l2i : mmOp := fun _ c σ K _ => match c with
  | (pc, lv, .inr (.inl x) :: st) => K (pc + 1, lv, .inl x.toInt32 :: st) σ
  | _ => False
def mo_lb (g : Int64 → Int64 → Int64) : mmOp := fun _ c σ K _ => match c with
  | (pc, lv, .inr (.inl y) :: .inr (.inl x) :: st) => K (pc + 1, lv, .inr (.inl (g x y)) :: st) σ
  | _ => False
def mo_ls (g : Int64 → Int32 → Int64) : mmOp := fun _ c σ K _ => match c with
  | (pc, lv, .inl y :: .inr (.inl x) :: st) => K (pc + 1, lv, .inr (.inl (g x y)) :: st) σ
  | _ => False
def mm_lcmp (x y : Int64) : Int32 := if x < y then -1 else if x = y then 0 else 1
def mo_lcmp : mmOp := fun _ c σ K _ => match c with
  | (pc, lv, .inr (.inl y) :: .inr (.inl x) :: st) => K (pc + 1, lv, .inl (mm_lcmp x y) :: st) σ
  | _ => False
def mo_pop : mmOp := fun _ c σ K _ => match c with
  | (pc, lv, v :: st) => mm_long v = false ∧ K (pc + 1, lv, st) σ
  | _ => False
def mo_dup : mmOp := fun _ c σ K _ => match c with
  | (pc, lv, .inl x :: st) => K (pc + 1, lv, .inl x :: .inl x :: st) σ
  | (pc, lv, .inr (.inr x) :: st) => K (pc + 1, lv, .inr (.inr x) :: .inr (.inr x) :: st) σ
  | _ => False
def mo_dup_x1 : mmOp := fun _ c σ K _ => match c with
  | (pc, lv, .inl x :: .inr (.inr y) :: st) => K (pc + 1, lv, .inl x :: .inr (.inr y) :: .inl x :: st) σ
  | _ => False
def mo_dup2 : mmOp := fun _ c σ K _ => match c with
  | (pc, lv, .inl x :: .inr (.inr y) :: st) => K (pc + 1, lv, .inl x :: .inr (.inr y) :: .inl x :: .inr (.inr y) :: st) σ
  | _ => False
def mo_goto (t : Nat) : mmOp := fun _ c σ K _ => match c with | (_, lv, st) => K (t, lv, st) σ
def mo_if (g : Int32 → Int32 → Prop) (t : Nat) : mmOp := fun _ c σ K _ => match c with
  | (pc, lv, .inl x :: st) => mm_br (g x 0) (K (t, lv, st) σ) (K (pc + 3, lv, st) σ)
  | _ => False
def mo_icmp (g : Int32 → Int32 → Prop) (t : Nat) : mmOp := fun _ c σ K _ => match c with
  | (pc, lv, .inl y :: .inl x :: st) => mm_br (g x y) (K (t, lv, st) σ) (K (pc + 3, lv, st) σ)
  | _ => False
/-- branches by what does not hold: to t if g fails -/
def mo_ifn (g : Int32 → Int32 → Prop) (t : Nat) : mmOp := fun _ c σ K _ => match c with
  | (pc, lv, .inl x :: st) => mm_br (g x 0) (K (pc + 3, lv, st) σ) (K (t, lv, st) σ)
  | _ => False
def mo_icmpn (g : Int32 → Int32 → Prop) (t : Nat) : mmOp := fun _ c σ K _ => match c with
  | (pc, lv, .inl y :: .inl x :: st) => mm_br (g x y) (K (pc + 3, lv, st) σ) (K (t, lv, st) σ)
  | _ => False
def mm_sw (K : Nat → Prop) (x : Int32) (d : Nat) : List (Int32 × Nat) → Prop
  | [] => K d
  | (v, t) :: l => mm_br (x = v) (K t) (mm_sw K x d l)
def mo_switch (l : List (Int32 × Nat)) (d : Nat) : mmOp := fun _ c σ K _ => match c with
  | (_, lv, .inl x :: st) => mm_sw (fun t => K (t, lv, st) σ) x d l
  | _ => False
/-- an int field (or byte, boolean ..) with the number n -/
def mo_getI (n : Nat) : mmOp := fun _ c σ K _ => match c with
  | (pc, lv, .inr (.inr (o, _)) :: st) => bif Nat.beq o (n / 100) then K (pc + 3, lv, .inl (mm_f σ n) :: st) σ else False
  | _ => False
def mo_putI (n : Nat) : mmOp := fun _ c σ K _ => match c with
  | (pc, lv, .inl x :: .inr (.inr (o, _)) :: st) => bif Nat.beq o (n / 100) then K (pc + 3, lv, st) (mm_setf σ n x) else False
  | _ => False
/-- a boolean field: 0 or 1 alone -/
def mo_putZ (n : Nat) : mmOp := fun _ c σ K _ => match c with
  | (pc, lv, .inl x :: .inr (.inr (o, _)) :: st) => bif Nat.beq o (n / 100) then (x = 0 ∨ x = 1) ∧ K (pc + 3, lv, st) (mm_setf σ n x) else False
  | _ => False
/-- a field that has an array of its own: slot n -/
def mo_getA (n : Nat) : mmOp := fun _ c σ K _ => match c with
  | (pc, lv, .inr (.inr (o, _)) :: st) => bif Nat.beq o (n / 100) then K (pc + 3, lv, .inr (.inr (n, mm_v σ n)) :: st) σ else False
  | _ => False
/-- a new array (slot t) becomes the array of a field -/
def mo_putA (n t : Nat) : mmOp := fun _ c σ K _ => match c with
  | (pc, lv, .inr (.inr (k, q)) :: .inr (.inr (o, _)) :: st) => bif Nat.beq o (n / 100) then mm_pa σ n t k q (fun u => K (pc + 3, lv, st) u) else False
  | _ => False
/-- the same; the old array stays for a while as slot 89 -/
def mo_putAO (n t : Nat) : mmOp := fun _ c σ K _ => match c with
  | (pc, lv, .inr (.inr (k, q)) :: .inr (.inr (o, _)) :: st) => bif Nat.beq o (n / 100) then k = t ∧ q = mm_v σ t ∧ 0 < mm_n σ t ∧ K (pc + 3, lv, st) (mm_move (mm_move σ n 89) t n) else False
  | _ => False
/-- a field that is a reference to what has a slot of its own already: the slot k -/
def mo_getR (n k : Nat) : mmOp := fun _ c σ K _ => match c with
  | (pc, lv, .inr (.inr (o, _)) :: st) => bif Nat.beq o (n / 100) then (mm_r σ n).1 = k ∧ K (pc + 3, lv, .inr (.inr (k, (mm_r σ n).2)) :: st) σ else False
  | _ => False
def mo_putR (n : Nat) : mmOp := fun _ c σ K _ => match c with
  | (pc, lv, .inr (.inr r) :: .inr (.inr (o, _)) :: st) => bif Nat.beq o (n / 100) then K (pc + 3, lv, st) (mm_setr σ n r) else False
  | _ => False
/-- array cells: int, byte, boolean, char; long -/
def mo_iald : mmOp := fun _ c σ K _ => match c with
  | (pc, lv, .inl i :: .inr (.inr (k, q)) :: st) => bif Nat.beq (mm_kd k) 0 || Nat.beq (mm_kd k) 5 then mm_ld σ k q i (fun x => K (pc + 1, lv, .inl x :: st) σ) else False
  | _ => False
def mo_bald : mmOp := fun _ c σ K _ => match c with
  | (pc, lv, .inl i :: .inr (.inr (k, q)) :: st) => bif Nat.beq (mm_kd k) 1 || Nat.beq (mm_kd k) 2 then mm_ld σ k q i (fun x => K (pc + 1, lv, .inl x :: st) σ) else False
  | _ => False
def mo_cald : mmOp := fun _ c σ K _ => match c with
  | (pc, lv, .inl i :: .inr (.inr (k, q)) :: st) => bif Nat.beq (mm_kd k) 3 then mm_ld σ k q i (fun x => K (pc + 1, lv, .inl x :: st) σ) else False
  | _ => False
def mo_aldl : mmOp := fun _ c σ K _ => match c with
  | (pc, lv, .inl i :: .inr (.inr (k, q)) :: st) => bif Nat.beq (mm_kd k) 4 then mm_ldl σ k q i (fun x => K (pc + 1, lv, .inr (.inl x) :: st) σ) else False
  | _ => False
def mo_iast : mmOp := fun _ c σ K _ => match c with
  | (pc, lv, .inl x :: .inl i :: .inr (.inr (k, q)) :: st) => bif Nat.beq (mm_kd k) 0 then mm_st σ k q i x (fun u => K (pc + 1, lv, st) u) else False
  | _ => False
def mo_bast : mmOp := fun _ c σ K _ => match c with
  | (pc, lv, .inl x :: .inl i :: .inr (.inr (k, q)) :: st) =>
    bif Nat.beq (mm_kd k) 1 then mm_st σ k q i (vp_nar .byte x) (fun u => K (pc + 1, lv, st) u)
    else bif Nat.beq (mm_kd k) 2 then mm_st σ k q i (vp_nar .boolean x) (fun u => K (pc + 1, lv, st) u) else False
  | _ => False
def mo_cast : mmOp := fun _ c σ K _ => match c with
  | (pc, lv, .inl x :: .inl i :: .inr (.inr (k, q)) :: st) => bif Nat.beq (mm_kd k) 3 then mm_st σ k q i (vp_nar .char x) (fun u => K (pc + 1, lv, st) u) else False
  | _ => False
def mo_astl : mmOp := fun _ c σ K _ => match c with
  | (pc, lv, .inr (.inl x) :: .inl i :: .inr (.inr (k, q)) :: st) => bif Nat.beq (mm_kd k) 4 then mm_stl σ k q i x (fun u => K (pc + 1, lv, st) u) else False
  | _ => False
def mo_alen : mmOp := fun _ c σ K _ => match c with
  | (pc, lv, .inr (.inr (k, q)) :: st) => bif Nat.blt (mm_kd k) 9 then q = mm_v σ k ∧ (0 < mm_n σ k ∨ mm_kd k = 5) ∧ K (pc + 1, lv, .inl (Int32.ofNat (mm_n σ k)) :: st) σ else False
  | _ => False
/-- a String's bytes: slot k + 1000 of the String in slot k; its coder is 0 -/
def mo_getS : mmOp := fun _ c σ K _ => match c with
  | (pc, lv, .inr (.inr (k, _)) :: st) => bif Nat.ble 1000 k && Nat.blt k 1113 then K (pc + 3, lv, .inr (.inr (k + 1000, mm_v σ (k + 1000))) :: st) σ else False
  | _ => False
def mo_getC : mmOp := fun _ c σ K _ => match c with
  | (pc, lv, .inr (.inr (k, _)) :: st) => bif Nat.ble 1000 k && Nat.blt k 1113 then K (pc + 3, lv, .inl 0 :: st) σ else False
  | _ => False
/-- the bytes' cells, and how many -/
def mo_sald : mmOp := fun _ c σ K _ => match c with
  | (pc, lv, .inl i :: .inr (.inr (k, _)) :: st) => bif Nat.ble 2000 k && Nat.blt k 2113 then mm_in i (mm_n σ (k - 1000)) ∧ K (pc + 1, lv, .inl (mm_a σ (k - 1000) i.toNatClampNeg) :: st) σ else False
  | _ => False
def mo_slen : mmOp := fun _ c σ K _ => match c with
  | (pc, lv, .inr (.inr (k, _)) :: st) => bif Nat.ble 2000 k && Nat.blt k 2113 then K (pc + 1, lv, .inl (Int32.ofNat (mm_n σ (k - 1000))) :: st) σ else False
  | _ => False
/-- a static int (COMPACT_STRINGS: 1); a static reference (null or not) -/
def mo_gets (x : Int32) : mmOp := fun _ c σ K _ => match c with | (pc, lv, st) => K (pc + 3, lv, .inl x :: st) σ
def mo_getq : mmOp := fun _ c σ K _ => match c with | (pc, lv, st) => ∀ q, K (pc + 3, lv, .inr (.inr (8, q)) :: st) σ
/-- a reference field of the twin's own exception: nothing is told of it -/
def mo_putX : mmOp := fun _ c σ K _ => match c with
  | (pc, lv, .inr (.inr _) :: .inr (.inr (o, _)) :: st) => bif Nat.beq o 5 then K (pc + 3, lv, st) σ else False
  | _ => False
/-- System.arraycopy of booleans; the source is the array that was last put aside (slot 89) -/
def mo_acopy : mmOp := fun _ c σ K _ => match c with
  | (pc, lv, .inl n :: .inl dp :: .inr (.inr (k, q)) :: .inl sp :: .inr (.inr (j, q1)) :: st) => bif Nat.ble 89 j && Nat.blt j 1000 && Nat.ble (mm_wt st) 8 then mm_acp σ 2 n dp k q sp 89 q1 (fun u => K (pc + 3, lv, st) u) else False
  | _ => False
/-- in Arrays.copyOf -/
def mo_acopyT (d : Nat) : mmOp := fun _ c σ K _ => match c with
  | (pc, lv, .inl n :: .inl dp :: .inr (.inr (k, q)) :: .inl sp :: .inr (.inr (j, q1)) :: st) => bif Nat.ble (mm_wt st) 8 then mm_acp σ d n dp k q sp j q1 (fun u => K (pc + 3, lv, st) u) else False
  | _ => False
def mo_acopyL : mmOp := fun _ c σ K _ => match c with
  | (pc, lv, .inl n :: .inl dp :: .inr (.inr (k, q)) :: .inl sp :: .inr (.inr (j, q1)) :: st) => bif Nat.ble (mm_wt st) 8 then mm_acpl σ n dp k q sp j q1 (fun u => K (pc + 3, lv, st) u) else False
  | _ => False
/-- Object.<init> -/
def mo_objinit : mmOp := fun _ c σ K _ => match c with
  | (pc, lv, .inr (.inr (k, _)) :: st) => bif Nat.blt 0 k && Nat.blt k 6 && Nat.ble (mm_wt st) 8 then K (pc + 3, lv, st) σ else False
  | _ => False
/-- a new object of class k with n fields, made once -/
def mm_born (σ : mmS) (k n q : Nat) : mmS :=
  (fun j => bif Nat.beq (j / 100) k then 0 else σ.1 j, σ.2.1, σ.2.2.1, mm_up σ.2.2.2.1 k 1, mm_up σ.2.2.2.2.1 k q, fun j => bif Nat.beq (j / 100) k then (0, 0) else σ.2.2.2.2.2.1 j, σ.2.2.2.2.2.2.1 - 1, σ.2.2.2.2.2.2.2 - n)
def mo_new (k n : Nat) : mmOp := fun _ c σ K _ => match c with
  | (pc, lv, st) => mm_n σ k = 0 ∧ (∀ j, j < n → mm_n σ (100 * k + j) = 0) ∧ 1 ≤ mm_bc σ ∧ n ≤ mm_bs σ ∧ ∀ q, K (pc + 3, lv, .inr (.inr (k, q)) :: st) (mm_born σ k n q)
/-- throw new X(): 1 cell, 16 slots at most -/
def mm_pay (σ : mmS) (b n : Nat) : mmS := (σ.1, σ.2.1, σ.2.2.1, σ.2.2.2.1, σ.2.2.2.2.1, σ.2.2.2.2.2.1, σ.2.2.2.2.2.2.1 - b, σ.2.2.2.2.2.2.2 - n)
def mo_throwNew (e : Nat) : mmOp := fun _ c σ _ Q => match c with
  | (_, _, st) => bif Nat.ble (mm_wt st) 8 then 4 ≤ mm_bc σ ∧ 64 ≤ mm_bs σ ∧ Q (.inr e) (mm_pay σ 4 64) else False
/-- a new array, as slot k -/
def mo_newarr (k : Nat) : mmOp := fun _ c σ K _ => match c with
  | (pc, lv, .inl n :: st) => ¬ n < 0 ∧ n.toNatClampNeg ≤ 67108864 ∧ 1 ≤ mm_bc σ ∧ n.toNatClampNeg ≤ mm_bs σ ∧ ∀ q, K (pc + 2, lv, .inr (.inr (k, q)) :: st) (mm_make σ k n.toNatClampNeg q (fun _ => 0) (fun _ => 0))
  | _ => False
/-- calls: n arguments (the receiver among them), of the method y; what kind of answer -/
def mo_callI (y n len : Nat) (b : Bool) : mmOp := fun O c σ K Q => match c with
  | (pc, lv, st) => match mm_take n st [] with
    | some (as, r) => bif (b || mm_rc y as) && Nat.ble (mm_wt r) 8 then mm_ci O y as σ (fun x u => K (pc + len, lv, .inl x :: r) u) (fun e u => Q (.inr e) u) else False
    | none => False
def mo_callL (y n len : Nat) (b : Bool) : mmOp := fun O c σ K Q => match c with
  | (pc, lv, st) => match mm_take n st [] with
    | some (as, r) => bif (b || mm_rc y as) && Nat.ble (mm_wt r) 8 then mm_cl O y as σ (fun x u => K (pc + len, lv, .inr (.inl x) :: r) u) (fun e u => Q (.inr e) u) else False
    | none => False
def mo_callR (y n len : Nat) (b : Bool) : mmOp := fun O c σ K Q => match c with
  | (pc, lv, st) => match mm_take n st [] with
    | some (as, r) => bif (b || mm_rc y as) && Nat.ble (mm_wt r) 8 then mm_cr O y as σ (fun k q u => K (pc + len, lv, .inr (.inr (k, q)) :: r) u) (fun e u => Q (.inr e) u) else False
    | none => False
def mo_callV (y n len : Nat) (b : Bool) : mmOp := fun O c σ K Q => match c with
  | (pc, lv, st) => match mm_take n st [] with
    | some (as, r) => bif (b || mm_rc y as) && Nat.ble (mm_wt r) 8 then mm_cv O y as σ (fun u => K (pc + len, lv, r) u) (fun e u => Q (.inr e) u) else False
    | none => False
def mo_retI : mmOp := fun _ c σ _ Q => match c with
  | (_, _, [.inl x]) => Q (.inl (some (.inl x))) σ
  | _ => False
def mo_retZ : mmOp := fun _ c σ _ Q => match c with
  | (_, _, [.inl x]) => (x = 0 ∨ x = 1) ∧ Q (.inl (some (.inl x))) σ
  | _ => False
def mo_retC : mmOp := fun _ c σ _ Q => match c with
  | (_, _, [.inl x]) => (0 ≤ x ∧ x < 65536) ∧ Q (.inl (some (.inl x))) σ
  | _ => False
def mo_retB : mmOp := fun _ c σ _ Q => match c with
  | (_, _, [.inl x]) => (-128 ≤ x ∧ x < 128) ∧ Q (.inl (some (.inl x))) σ
  | _ => False
def mo_retL : mmOp := fun _ c σ _ Q => match c with
  | (_, _, [.inr (.inl x)]) => Q (.inl (some (.inr (.inl x)))) σ
  | _ => False
def mo_retR : mmOp := fun _ c σ _ Q => match c with
  | (_, _, [.inr (.inr x)]) => Q (.inl (some (.inr (.inr x)))) σ
  | _ => False
def mo_retV : mmOp := fun _ c σ _ Q => match c with
  | (_, _, []) => Q (.inl none) σ
  | _ => False
/-- throw what lies on the stack: the object of slot k -/
def mo_throw (k : Nat) : mmOp := fun _ c σ _ Q => match c with
  | (_, _, .inr (.inr (j, _)) :: _) => j = k ∧ Q (.inr k) σ
  | _ => False
def mo_bad : mmOp := fun _ _ _ _ _ => False
/-- calls under handlers: which exceptions are caught, and where -/
def mm_hx (K : Nat → Prop) (D : Prop) (e : Nat) : List (Nat × Nat) → Prop
  | [] => D
  | (x, t) :: l => mm_br (e = x) (K t) (mm_hx K D e l)
def mo_callIh (y n len : Nat) (b : Bool) (hs : List (Nat × Nat)) : mmOp := fun O c σ K Q => match c with
  | (pc, lv, st) => match mm_take n st [] with
    | some (as, r) => bif (b || mm_rc y as) && Nat.ble (mm_wt r) 8 then mm_ci O y as σ (fun x u => K (pc + len, lv, .inl x :: r) u) (fun e u => mm_hx (fun t => ∀ q, K (t, lv, [.inr (.inr (e, q))]) u) False e hs) else False
    | none => False
def mo_callVh (y n len : Nat) (b : Bool) (hs : List (Nat × Nat)) : mmOp := fun O c σ K Q => match c with
  | (pc, lv, st) => match mm_take n st [] with
    | some (as, r) => bif (b || mm_rc y as) && Nat.ble (mm_wt r) 8 then mm_cv O y as σ (fun u => K (pc + len, lv, r) u) (fun e u => mm_hx (fun t => ∀ q, K (t, lv, [.inr (.inr (e, q))]) u) False e hs) else False
    | none => False
/-! the functions of the instructions -/
def mf_iadd (x y : Int32) : Int32 := x + y
def mf_isub (x y : Int32) : Int32 := x - y
def mf_imul (x y : Int32) : Int32 := x * y
def mf_iand (x y : Int32) : Int32 := x &&& y
def mf_ior (x y : Int32) : Int32 := x ||| y
def mf_ishl (x y : Int32) : Int32 := x <<< (y &&& 31)
def mf_ishr (x y : Int32) : Int32 := x >>> (y &&& 31)
def mf_iushr (x y : Int32) : Int32 := (x.toUInt32 >>> (y.toUInt32 &&& Int32.toUInt32 31)).toInt32
def mf_idiv (x y : Int32) : Int32 := x / y
def mf_irem (x y : Int32) : Int32 := x - x / y * y
def mf_ineg (x : Int32) : Int32 := -x
def mf_i2b (x : Int32) : Int32 := x.toInt8.toInt32
def mf_i2c (x : Int32) : Int32 := (x.toUInt32 % 65536).toInt32
def mf_ladd (x y : Int64) : Int64 := x + y
def mf_lmul (x y : Int64) : Int64 := x * y
def mf_land (x y : Int64) : Int64 := x &&& y
def mf_lor (x y : Int64) : Int64 := x ||| y
def mf_lshl (x : Int64) (y : Int32) : Int64 := x <<< (y.toInt64 &&& 63)
def mf_lshr (x : Int64) (y : Int32) : Int64 := x >>> (y.toInt64 &&& 63)
def mf_lushr (x : Int64) (y : Int32) : Int64 := (x.toUInt64 >>> (y.toInt64.toUInt64 &&& Int64.toUInt64 63)).toInt64
def mc_eq (x y : Int32) : Prop := x = y
def mc_ne (x y : Int32) : Prop := ¬ x = y
def mc_lt (x y : Int32) : Prop := x < y
def mc_ge (x y : Int32) : Prop := y ≤ x
def mc_gt (x y : Int32) : Prop := y < x
def mc_le (x y : Int32) : Prop := x ≤ y
/-! the run of one method -/
/-- a method: its instructions by their places -/
abbrev mmM : Type := Nat → mmOp
/-- one step, closed upwards -/
def mm_stp (P : mmM) (O : mmCall) (c : mmC) (σ : mmS) (K : mmK) (Q : mmQ) : Prop := ∃ K0 : mmK, P c.1 O c σ K0 Q ∧ ∀ c' u, K0 c' u → K c' u
/-- the least predicate closed under steps: from here the method comes to an end with Q -/
def mm_W (P : mmM) (O : mmCall) (Q : mmQ) (c : mmC) (σ : mmS) : Prop := ∀ I : mmK, (∀ c u, mm_stp P O c u I Q → I c u) → I c σ
theorem mm_W_step {P : mmM} {O : mmCall} {Q : mmQ} {c : mmC} {σ : mmS} (h : P c.1 O c σ (mm_W P O Q) Q) : mm_W P O Q c σ :=
  fun I hI => hI c σ ⟨mm_W P O Q, h, fun _ _ hw => hw I hI⟩
theorem mm_W_ind {P : mmM} {O : mmCall} {Q : mmQ} {c : mmC} {σ : mmS} (I : mmK) (hI : ∀ c u K, P c.1 O c u K Q → (∀ c' u', K c' u' → I c' u') → I c u) (h : mm_W P O Q c σ) : I c σ :=
  h I fun c u ⟨K0, h1, h2⟩ => hI c u K0 h1 h2
/-- steps on until a place of the list is come to again -/
def mm_run (P : mmM) (O : mmCall) (Q : mmQ) (cut : List Nat) : Nat → mmC → mmS → Prop
  | 0, c, σ => mm_W P O Q c σ
  | n + 1, c, σ => P c.1 O c σ (fun c' u => bif cut.any (Nat.beq c'.1) then mm_W P O Q c' u else mm_run P O Q cut n c' u) Q
theorem mm_run_W {P : mmM} {O : mmCall} {Q : mmQ} {cut : List Nat} : ∀ (n : Nat) (c : mmC) (σ : mmS), mm_run P O Q cut n c σ → mm_W P O Q c σ
  | 0, _, _, h => h
  | n + 1, c, σ, h => fun I hI => hI c σ ⟨_, h, fun c' u hk => by
      revert hk
      cases hc : cut.any (Nat.beq c'.1) with
      | true => exact fun hk => hk I hI
      | false => exact fun hk => mm_run_W n c' u hk I hI⟩
/-- a method's entry: arguments into locals, n of them in all -/
def mm_args : Nat → List mmV → List (Option mmV)
  | 0, _ => []
  | n + 1, [] => none :: mm_args n []
  | n + 1, v :: t => match v with
    | .inr (.inl x) => match n with
      | 0 => [some (.inr (.inl x))]
      | n + 1 => some (.inr (.inl x)) :: none :: mm_args n t
    | v => some v :: mm_args n t
/-- the calls, by depth: P the methods, L how many locals they have -/
def mm_call (P : Nat → mmM) (L : Nat → Nat) : Nat → mmCall
  | 0, _, _, _, _ => False
  | d + 1, y, as, σ, Q => (0 < L y ∧ mm_wt as ≤ L y) ∧ ∃ Q0 : mmQ, mm_W (P y) (mm_call P L d) Q0 (0, mm_args (L y) as, []) σ ∧ ∀ o u, Q0 o u → Q o u
theorem mm_call_mono {P : Nat → mmM} {L : Nat → Nat} {d y : Nat} {as : List mmV} {σ : mmS} {Q Q' : mmQ} (h : mm_call P L d y as σ Q) (hQ : ∀ o u, Q o u → Q' o u) : mm_call P L d y as σ Q' := by
  cases d with
  | zero => exact h.elim
  | succ d =>
    obtain ⟨hw, Q0, h1, h2⟩ := h
    exact ⟨hw, Q0, h1, fun o u q => hQ o u (h2 o u q)⟩
