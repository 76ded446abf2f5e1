/-! the run of a program, in plain Lean: what both sides come to -/
set_option maxRecDepth 100000
/-- one act of an exp: its code (1 number, 2 letter, 3 minus, a sign), its letter, its number -/
abbrev xAct : Type := Nat × Nat × Int64
/-- a statement: kind (0 if 2 while 3 retry 4 throw 5 either 7 try 9 always 20 set), letter, exp, next, first body, second body, parent, which -/
abbrev xRec : Type := Nat × Nat × List xAct × Option Nat × Option Nat × Option Nat × Option Nat × Nat
def rK (r : xRec) : Nat := r.1
def rL (r : xRec) : Nat := r.2.1
def rX (r : xRec) : List xAct := r.2.2.1
def rN (r : xRec) : Option Nat := r.2.2.2.1
def rF (r : xRec) : Option Nat := r.2.2.2.2.1
def rS (r : xRec) : Option Nat := r.2.2.2.2.2.1
def rP (r : xRec) : Option Nat := r.2.2.2.2.2.2.1
def rW (r : xRec) : Nat := r.2.2.2.2.2.2.2
/-- what a run has read: bits, values, versions -/
abbrev xRd : Type := Int32 × (Nat → Int64) × (Nat → Int32)
/-- what a run has written: bits, values, locals, how many always -/
abbrev xSn : Type := Int32 × (Nat → Int64) × (Nat → Int64) × Nat
/-- a run: where it stands, what it has written, its always, what was kept at a statement -/
abbrev xRun : Type := Option Nat × xSn × (Nat → Nat) × (Nat → xSn)
def bit (x : Int32) (l : Nat) : Bool := decide ((x >>> (nI l &&& 31)) &&& 1 = 1)
def setb (x : Int32) (l : Nat) : Int32 := x ||| ((1 : Int32) <<< (nI l &&& 31))
def fup {α : Type} (f : Nat → α) (k : Nat) (v : α) : Nat → α := fun j => if j = k then v else f j
/-- some cell that was read is another one now -/
def chg (cn : Nat → Int32) (rd : xRd) : Bool := (List.range 16).any (fun i => bit rd.1 i && rd.2.2 i != cn i)
def valOf (cv : Nat → Int64) (cn : Nat → Int32) (sn : xSn) (l : Nat) (rd : xRd) : Option Int64 × xRd :=
  if 16 ≤ l then (some (sn.2.2.1 (l - 16)), rd)
  else if bit sn.1 l = true then (some (sn.2.1 l), rd)
  else if bit rd.1 l = true then (some (rd.2.1 l), rd)
  else if chg cn rd = true then (none, rd)
  else (some (cv l), (setb rd.1 l, fup rd.2.1 l (cv l), fup rd.2.2 l (cn l)))
/-- an operation on two longs; none: division by zero -/
def two2 (c : Nat) (x y : Int64) : Option Int64 :=
  if c = 60 then some (if x < y then 1 else 0) else if c = 61 then some (if x = y then 1 else 0) else if c = 35 then some (if x = y then 0 else 1)
  else if c = 43 then some (x + y) else if c = 45 then some (x - y) else if c = 42 then some (x * y)
  else if y = 0 then none else if c = 47 then some (x / y) else some (x - x / y * y)
/-- an exp worked: a value, or 1 (a throw), 2 (a cut) -/
def evl (lf : Nat → xRd → Option Int64 × xRd) : List xAct → List Int64 → xRd → (Int64 ⊕ Nat) × xRd
  | [], v :: _, rd => (.inl v, rd)
  | [], [], rd => (.inr 3, rd)
  | a :: L, st, rd =>
    if a.1 = 1 then evl lf L (a.2.2 :: st) rd
    else if a.1 = 2 then (match lf a.2.1 rd with
      | (none, rd') => (.inr 2, rd')
      | (some v, rd') => evl lf L (v :: st) rd')
    else if a.1 = 3 then (match st with
      | v :: st' => evl lf L (-v :: st') rd
      | [] => (.inr 3, rd))
    else (match st with
      | y :: x :: st' => (match two2 a.1 x y with
        | none => (.inr 1, rd)
        | some z => evl lf L (z :: st') rd)
      | _ => (.inr 3, rd))
/-- behind a statement -/
def bhd (T : Nat → xRec) : Nat → Nat → Option Nat
  | 0, _ => none
  | f + 1, x => match rN (T x) with
    | some y => some y
    | none => match rP (T x) with
      | none => none
      | some p => if rK (T p) = 2 then some p else bhd T f p
/-- the innermost statement of a kind in whose first body one is -/
def arnd (T : Nat → xRec) (kd : Nat) : Nat → Nat → Option Nat
  | 0, _ => none
  | f + 1, x => match rP (T x) with
    | none => none
    | some p => if rK (T p) = kd ∧ rW (T x) = 0 then some p else arnd T kd f p
def beh (T : Nat → xRec) (x : Nat) : Option Nat := bhd T (x + 1) x
def arn (T : Nat → xRec) (kd x : Nat) : Option Nat := arnd T kd (x + 1) x
def goI (T : Nat → xRec) (s : Nat) (first : Option Nat) : Option Nat := match first with
  | some f => some f
  | none => if rK (T s) = 2 then some s else beh T s
/-- one step: 0 a step, 1 cut, 2 thrown (its value), 3 waits, 4 at the end -/
abbrev xCame : Type := Nat × Int64 × xRun × xRd
def thrF (T : Nat → xRec) (s : Nat) (v : Int64) (r : xRun) (rd : xRd) : xCame := match arn T 7 s with
  | none => (2, v, r, rd)
  | some t => (0, 0, (goI T t (rS (T t)), ((r.2.2.2 t).1, (r.2.2.2 t).2.1, fup (r.2.2.2 t).2.2.1 (rL (T t) - 16) v, (r.2.2.2 t).2.2.2), r.2.2.1, r.2.2.2), rd)
def stpV (T : Nat → xRec) (s : Nat) (v : Int64) (r : xRun) (rd : xRd) : xCame :=
  if rK (T s) = 20 then (0, 0, (beh T s, (if 16 ≤ rL (T s) then (r.2.1.1, r.2.1.2.1, fup r.2.1.2.2.1 (rL (T s) - 16) v, r.2.1.2.2.2) else (setb r.2.1.1 (rL (T s)), fup r.2.1.2.1 (rL (T s)) v, r.2.1.2.2.1, r.2.1.2.2.2)), r.2.2.1, r.2.2.2), rd)
  else if rK (T s) = 0 then (0, 0, (goI T s (if v = 0 then rS (T s) else rF (T s)), r.2.1, r.2.2.1, r.2.2.2), rd)
  else if rK (T s) = 2 then (0, 0, ((if v = 0 then beh T s else goI T s (rF (T s))), r.2.1, r.2.2.1, r.2.2.2), rd)
  else if rK (T s) = 4 then thrF T s v r rd
  else if rK (T s) = 3 then (match arn T 5 s with
    | none => (3, 0, r, rd)
    | some t => (0, 0, (goI T t (rS (T t)), r.2.2.2 t, r.2.2.1, r.2.2.2), rd))
  else if rK (T s) = 9 then (0, 0, (beh T s, (r.2.1.1, r.2.1.2.1, r.2.1.2.2.1, r.2.1.2.2.2 + 1), fup r.2.2.1 r.2.1.2.2.2 s, r.2.2.2), rd)
  else (0, 0, (goI T s (rF (T s)), r.2.1, r.2.2.1, fup r.2.2.2 s r.2.1), rd)
def stp (T : Nat → xRec) (cv : Nat → Int64) (cn : Nat → Int32) (r : xRun) (rd : xRd) : xCame := match r.1 with
  | none => (4, 0, r, rd)
  | some s =>
    if rX (T s) = [] ∨ rK (T s) = 9 then stpV T s 0 r rd
    else match evl (valOf cv cn r.2.1) (rX (T s)) [] rd with
      | (.inl v, rd') => stpV T s v r rd'
      | (.inr 1, rd') => thrF T s (-1) r rd'
      | (.inr _, rd') => (1, 0, r, rd')
