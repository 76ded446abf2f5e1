/-! the machine that reads a text, in plain Lean -/
set_option maxRecDepth 100000
def itG {α : Type} (f : α → α) : Nat → α → α
  | 0, x => x
  | k + 1, x => itG f k (f x)
def RG {α : Type} (f : α → α) (x y : α) : Prop := ∃ k, itG f k x = y
theorem itG_add {α : Type} {f : α → α} : ∀ (k j : Nat) (x : α), itG f (k + j) x = itG f j (itG f k x) := by
  intro k
  induction k with
  | zero => intro j x; rw [Nat.zero_add]; rfl
  | succ k ih => intro j x; rw [show k + 1 + j = (k + j) + 1 by omega]; exact ih j _
theorem RG.rf {α : Type} {f : α → α} {x : α} : RG f x x := ⟨0, rfl⟩
theorem RG.tr {α : Type} {f : α → α} {x y z : α} (h1 : RG f x y) (h2 : RG f y z) : RG f x z := by
  obtain ⟨k, rfl⟩ := h1
  obtain ⟨j, rfl⟩ := h2
  exact ⟨k + j, itG_add k j x⟩
theorem RG.st {α : Type} {f : α → α} {x y : α} (h : f x = y) : RG f x y := ⟨1, h⟩
theorem itG_fix {α : Type} {f : α → α} {x : α} (h : f x = x) : ∀ k, itG f k x = x := by
  intro k
  induction k with
  | zero => rfl
  | succ k ih => show itG f k (f x) = x; rw [h]; exact ih
theorem RG.det {α : Type} {f : α → α} {x y z : α} (h1 : RG f x y) (h2 : RG f x z) (f1 : f y = y) (f2 : f z = z) : y = z := by
  obtain ⟨k, rfl⟩ := h1
  obtain ⟨j, rfl⟩ := h2
  have e1 := itG_fix f1 j
  have e2 := itG_fix f2 k
  rw [← itG_add] at e1 e2
  rw [← e1, ← e2, Nat.add_comm]
/-- an open body: whose, which, its latest statement -/
abbrev xSk : Type := Option Nat × Nat × Option Nat
/-- place, statements, unaries, deepest, first statement, statements' table, open bodies (innermost first) -/
abbrev xPi : Type := Nat × Nat × Nat × Nat × Option Nat × (Nat → xRec) × List xSk
/-- mode (0 reads, 1 done, 2 fault: its place stands for the place) and the rest -/
abbrev xPs : Type := Nat × xPi
def setK (r : xRec) (v : Nat) : xRec := (v, r.2)
def setLt (r : xRec) (v : Nat) : xRec := (r.1, v, r.2.2)
def setX (r : xRec) (v : List xAct) : xRec := (r.1, r.2.1, v, r.2.2.2)
def setN (r : xRec) (v : Option Nat) : xRec := (r.1, r.2.1, r.2.2.1, v, r.2.2.2.2)
def setF (r : xRec) (v : Option Nat) : xRec := (r.1, r.2.1, r.2.2.1, r.2.2.2.1, v, r.2.2.2.2.2)
def setS (r : xRec) (v : Option Nat) : xRec := (r.1, r.2.1, r.2.2.1, r.2.2.2.1, r.2.2.2.2.1, v, r.2.2.2.2.2.2)
/-- where a new statement c is linked -/
def nwT (T : Nat → xRec) (c : Nat) (sk : xSk) : Nat → xRec := match sk with
  | (_, _, some z) => fup T z (setN (T z) (some c))
  | (none, _, none) => T
  | (some o, w, none) => if w = 0 then fup T o (setF (T o) (some c)) else fup T o (setS (T o) (some c))
def nwF (fs : Option Nat) (c : Nat) (sk : xSk) : Option Nat := match sk with
  | (none, _, none) => some c
  | _ => fs
def nwR (k l : Nat) (sk : xSk) : xRec := (k, l, [], none, none, none, sk.1, sk.2.1)
def topK (stk : List xSk) : xSk := stk.headD (none, 0, none)
def flt (b : Nat → Nat) (n q : Nat) (z : xPi) : xPs := (2, (tS b n q, z.2))
def opB (b : Nat → Nat) (n : Nat) (s w : Nat) (z : xPi) : xPs := match z with
  | (p, c, u, dp, fs, T, stk) => if tC b n p = 223 ∧ stk.length ≠ 9 then (0, (tE b n p, c, u, max dp stk.length, fs, T, (some s, w, none) :: stk)) else flt b n p z
/-- a sign c is taken -/
def tkS (b : Nat → Nat) (n c : Nat) (z : xPi) : xPs := if tC b n z.1 = c then (0, (tE b n z.1, z.2)) else flt b n z.1 z
def thn (r : xPs) (f : xPi → xPs) : xPs := if r.1 = 0 then f r.2 else r
/-- the exp of statement s -/
noncomputable def rdX (b : Nat → Nat) (n : Nat) (nl : Bool) (s : Nat) (z : xPi) : xPs := match z with
  | (p, c, u, dp, fs, T, stk) => match expF b n nl p u with
    | .inl q => (2, (q, c, u, dp, fs, T, stk))
    | .inr (p', u', L) => (0, (p', c, u', dp, fs, fup T s (setX (T s) L), stk))
def isSt (k : Nat) : Bool := decide (k = 2) || decide (k = 10) || decide (k = 12) || decide (k = 13) || decide (k = 14) || decide (k = 15) || decide (k = 17) || decide (k = 19)
/-- behind the first token of statement s -/
noncomputable def stB (b : Nat → Nat) (n k s : Nat) (z : xPi) : xPs :=
  if k = 2 then thn (thn (tkS b n 161 z) (rdX b n false s)) (tkS b n 159)
  else if k = 10 ∨ k = 12 then thn (thn (thn (tkS b n 140 z) (rdX b n false s)) (tkS b n 141)) (opB b n s 0)
  else if k = 13 then tkS b n 159 z
  else if k = 14 then thn (rdX b n false s z) (tkS b n 159)
  else if k = 19 then thn (rdX b n true s z) (tkS b n 159)
  else opB b n s 0 z
def stA (b : Nat → Nat) (n : Nat) (z : xPi) : xPi := match z with
  | (p, c, u, dp, fs, T, stk) => (tE b n p, c + 1, u, dp, nwF fs c (topK stk), fup (nwT T c (topK stk)) c (nwR (if tC b n p = 2 then 20 else tC b n p - 10) (if tC b n p = 2 then tLt b n p else 0) (topK stk)), ((topK stk).1, (topK stk).2.1, some c) :: stk.tail)
noncomputable def stS (b : Nat → Nat) (n : Nat) (z : xPi) : xPs := if isSt (tC b n z.1) = true ∧ z.2.1 ≠ 40 then stB b n (tC b n z.1) z.2.1 (stA b n z) else flt b n z.1 z
def piT (z : xPi) : Nat → xRec := z.2.2.2.2.2.1
def piK (z : xPi) : List xSk := z.2.2.2.2.2.2
/-- the letter of catch -/
def ctL (b : Nat → Nat) (n s : Nat) (z : xPi) : xPs := match z with
  | (p, c, u, dp, fs, T, stk) => if tC b n p = 2 ∧ 16 ≤ tLt b n p then (0, (tE b n p, c, u, dp, fs, fup T s (setLt (T s) (tLt b n p)), stk)) else flt b n p z
/-- behind the } of a body of statement s, the which-th -/
def clB (b : Nat → Nat) (n s w : Nat) (z : xPi) : xPs :=
  if w = 1 ∨ rK (piT z s) = 2 then (0, z)
  else if rK (piT z s) = 0 then (if tC b n z.1 = 11 then opB b n s 1 (tE b n z.1, z.2) else (0, z))
  else if rK (piT z s) = 5 then thn (tkS b n 16 z) (opB b n s 1)
  else thn (thn (tkS b n 18 z) (ctL b n s)) (opB b n s 1)
def clA (b : Nat → Nat) (n : Nat) (z : xPi) : xPi := match z with
  | (p, c, u, dp, fs, T, stk) => (tE b n p, c, u, dp, fs, T, stk.tail)
def clS (b : Nat → Nat) (n : Nat) (z : xPi) : xPs := clB b n ((topK (piK z)).1.getD 0) (topK (piK z)).2.1 (clA b n z)
noncomputable def pst (b : Nat → Nat) (n : Nat) (r : xPs) : xPs :=
  if r.1 ≠ 0 then r
  else if tC b n r.2.1 = 0 ∧ (piK r.2).length = 1 then (1, r.2)
  else if tC b n r.2.1 = 0 ∨ (tC b n r.2.1 = 225 ∧ (piK r.2).length = 1) then flt b n r.2.1 r.2
  else if tC b n r.2.1 = 225 then clS b n r.2
  else stS b n r.2
theorem pst_fix {b : Nat → Nat} {n : Nat} {r : xPs} (h : r.1 ≠ 0) : pst b n r = r := if_pos h
def pi0 : xPi := (0, 0, 0, 0, none, fun _ => (0, 0, [], none, none, none, none, 0), [(none, 0, none)])
/-- a text read: the fault's place, or what came of it -/
def txtR (b : Nat → Nat) (n : Nat) (r : xPs) : Prop := RG (pst b n) (0, pi0) r ∧ r.1 ≠ 0
theorem txtR.det {b : Nat → Nat} {n : Nat} {r r' : xPs} (h : txtR b n r) (h' : txtR b n r') : r = r' := h.1.det h'.1 (pst_fix h.2) (pst_fix h'.2)
/-! what holds of the statements' table -/
def dpF (T : Nat → xRec) : Nat → Nat → Nat
  | 0, _ => 0
  | f + 1, y => match rP (T y) with
    | none => 0
    | some s => dpF T f s + 1
def hasX (k : Nat) : Bool := decide (k = 20) || decide (k = 0) || decide (k = 2) || decide (k = 4) || decide (k = 9)
def hasB (k : Nat) : Bool := decide (k = 0) || decide (k = 2) || decide (k = 5) || decide (k = 7)
/-- a statement's row among c statements -/
def rOk (T : Nat → xRec) (c s : Nat) : Prop :=
  (∀ y, rN (T s) = some y → s < y ∧ y < c ∧ rP (T y) = rP (T s) ∧ rW (T y) = rW (T s)) ∧
  (∀ y, rF (T s) = some y → y < c ∧ rP (T y) = some s ∧ rW (T y) = 0 ∧ hasB (rK (T s)) = true) ∧
  (∀ y, rS (T s) = some y → y < c ∧ rP (T y) = some s ∧ rW (T y) = 1 ∧ hasB (rK (T s)) = true ∧ rK (T s) ≠ 2) ∧
  (∀ y, rP (T s) = some y → y < s ∧ hasB (rK (T y)) = true ∧ (rW (T s) = 0 ∨ (rW (T s) = 1 ∧ rK (T y) ≠ 2))) ∧ (rP (T s) = none → rW (T s) = 0) ∧
  (hasX (rK (T s)) = true ∨ hasB (rK (T s)) = true ∨ rK (T s) = 3) ∧ (rK (T s) = 20 → rL (T s) < 26) ∧ rL (T s) < 26
def xOk (r : xRec) : Prop := (hasX (rK r) = true → wfX (decide (rK r = 9)) (rX r)) ∧ (hasX (rK r) = false → rX r = [])
def fOk (T : Nat → xRec) (s : Nat) : Prop := xOk (T s) ∧ (hasB (rK (T s)) = true → dpF T (s + 1) s ≤ 7)
/-- the open bodies: each one's owner, and how many lie around it -/
def kOk (T : Nat → xRec) (c : Nat) : List xSk → Prop
  | [] => True
  | e :: R => (match e.1 with
    | none => R = [] ∧ e.2.1 = 0
    | some s => s < c ∧ hasB (rK (T s)) = true ∧ (e.2.1 = 0 ∨ (e.2.1 = 1 ∧ rK (T s) ≠ 2)) ∧ dpF T (s + 1) s + 1 = R.length) ∧ (∀ z, e.2.2 = some z → z < c ∧ rP (T z) = e.1 ∧ rW (T z) = e.2.1) ∧ kOk T c R
def pI (n : Nat) (ex el : Option Nat) (z : xPi) : Prop := match z with
  | (p, c, u, dp, fs, T, stk) => p ≤ n ∧ c ≤ 40 ∧ u ≤ 60 ∧ dp ≤ 8 ∧ stk.length ≤ 9 ∧ stk ≠ [] ∧ kOk T c stk ∧ (∀ y, fs = some y → y < c ∧ rP (T y) = none) ∧
    ∀ s, s < c → rOk T c s ∧ dpF T (s + 1) s ≤ 8 ∧ (ex ≠ some s → fOk T s) ∧ (el ≠ some s → rK (T s) = 7 → 16 ≤ rL (T s) ∨ ∃ e ∈ stk, e.1 = some s ∧ e.2.1 = 0)
theorem dpF_fuel {T : Nat → xRec} {c : Nat} (h : ∀ s, s < c → ∀ y, rP (T s) = some y → y < s) : ∀ (k s : Nat), s < k → s < c → ∀ f g, s < f → s < g → dpF T f s = dpF T g s := by
  intro k
  induction k with
  | zero => intro s hk; omega
  | succ k ih =>
    intro s hk hc f g hf hg
    cases f with
    | zero => omega
    | succ f =>
      cases g with
      | zero => omega
      | succ g =>
        simp only [dpF]
        cases e : rP (T s) with
        | none => rfl
        | some y =>
          have hy := h s hc y e
          simp only
          rw [ih y (by omega) (by omega) f g (by omega) (by omega)]
theorem dpF_up {T : Nat → xRec} {c s y : Nat} (h : ∀ s, s < c → ∀ y, rP (T s) = some y → y < s) (hs : s < c) (e : rP (T s) = some y) : dpF T (s + 1) s = dpF T (y + 1) y + 1 := by
  have hy := h s hs y e
  show (match rP (T s) with | none => 0 | some s' => dpF T s s' + 1) = _
  rw [e]
  simp only
  rw [dpF_fuel h (y + 1) y (by omega) (by omega) s (y + 1) hy (by omega)]
theorem dpF_cg {T T' : Nat → xRec} {c : Nat} (h : ∀ s, s < c → ∀ y, rP (T s) = some y → y < s) (he : ∀ s, s < c → rP (T' s) = rP (T s)) : ∀ (f s : Nat), s < c → dpF T' f s = dpF T f s := by
  intro f
  induction f with
  | zero => intro s _; rfl
  | succ f ih =>
    intro s hs
    simp only [dpF]
    rw [he s hs]
    cases e : rP (T s) with
    | none => rfl
    | some y => simp only; rw [ih y (by have := h s hs y e; omega)]
theorem kOk_cg {T T' : Nat → xRec} {c c' : Nat} (hc : c ≤ c') (h : ∀ s, s < c → ∀ y, rP (T s) = some y → y < s) (he : ∀ s, s < c → rP (T' s) = rP (T s) ∧ rW (T' s) = rW (T s) ∧ rK (T' s) = rK (T s)) : ∀ R, kOk T c R → kOk T' c' R := by
  intro R
  induction R with
  | nil => intro _; trivial
  | cons e R ih =>
    intro q
    obtain ⟨o, w, l⟩ := e
    obtain ⟨q1, q2, q3⟩ := q
    refine ⟨?_, fun z hz => ?_, ih q3⟩
    · cases o with
      | none => exact q1
      | some s =>
        obtain ⟨a1, a2, a3, a4⟩ := q1
        obtain ⟨e1, e2, e3⟩ := he s a1
        refine ⟨by omega, by rw [e3]; exact a2, by rw [e3]; exact a3, ?_⟩
        rw [dpF_cg h (fun s hs => (he s hs).1) (s + 1) s a1]
        exact a4
    · obtain ⟨b1, b2, b3⟩ := q2 z hz
      obtain ⟨e1, e2, e3⟩ := he z b1
      exact ⟨by omega, by rw [e1]; exact b2, by rw [e2]; exact b3⟩
theorem fup_s {α : Type} {f : Nat → α} {k : Nat} {v : α} : fup f k v k = v := if_pos rfl
theorem fup_n {α : Type} {f : Nat → α} {k j : Nat} {v : α} (h : j ≠ k) : fup f k v j = f j := if_neg h
/-- a change of T that keeps kinds, parents, whiches, and links -/
theorem rOk_cg {T T' : Nat → xRec} {c s : Nat} (hs : s < c) (he : ∀ s, s < c → rP (T' s) = rP (T s) ∧ rW (T' s) = rW (T s) ∧ rK (T' s) = rK (T s) ∧ rN (T' s) = rN (T s) ∧ rF (T' s) = rF (T s) ∧ rS (T' s) = rS (T s)) (hl : rL (T' s) < 26) (h : rOk T c s) : rOk T' c s := by
  obtain ⟨e1, e2, e3, e4, e5, e6⟩ := he s hs
  obtain ⟨h1, h2, h3, h4, h5, h6, h7, h8⟩ := h
  refine ⟨fun y hy => ?_, fun y hy => ?_, fun y hy => ?_, fun y hy => ?_, fun q => ?_, by rw [e3]; exact h6, fun _ => hl, hl⟩
  · rw [e4] at hy
    obtain ⟨a1, a2, a3, a4⟩ := h1 y hy
    obtain ⟨z1, z2, -⟩ := he y a2
    exact ⟨a1, a2, by rw [z1, e1]; exact a3, by rw [z2, e2]; exact a4⟩
  · rw [e5] at hy
    obtain ⟨a1, a2, a3, a4⟩ := h2 y hy
    obtain ⟨z1, z2, -⟩ := he y a1
    exact ⟨a1, by rw [z1]; exact a2, by rw [z2]; exact a3, by rw [e3]; exact a4⟩
  · rw [e6] at hy
    obtain ⟨a1, a2, a3, a4⟩ := h3 y hy
    obtain ⟨z1, z2, -⟩ := he y a1
    exact ⟨a1, by rw [z1]; exact a2, by rw [z2]; exact a3, by rw [e3]; exact a4⟩
  · rw [e1] at hy
    obtain ⟨a1, a2, a3⟩ := h4 y hy
    obtain ⟨z1, z2, z3, -⟩ := he y (by omega)
    exact ⟨a1, by rw [z3]; exact a2, by rw [e2, z3]; exact a3⟩
  · rw [e2]; exact h5 (by rw [← e1]; exact q)
theorem pI.par {n p c u dp : Nat} {fs ex el : Option Nat} {T : Nat → xRec} {stk : List xSk} (h : pI n ex el (p, c, u, dp, fs, T, stk)) : ∀ s, s < c → ∀ y, rP (T s) = some y → y < s := fun s hs y hy => ((h.2.2.2.2.2.2.2.2 s hs).1.2.2.2.1 y hy).1
/-- a sign is taken -/
theorem pI.tk {b : Nat → Nat} {n c : Nat} {ex el : Option Nat} {z : xPi} (h : pI n ex el z) (h0 : (tkS b n c z).1 = 0) : pI n ex el (tkS b n c z).2 ∧ (tkS b n c z).2.2 = z.2 ∧ tC b n z.1 = c ∧ (tkS b n c z).2.1 = tE b n z.1 := by
  obtain ⟨p, cc, u, dp, fs, T, stk⟩ := z
  unfold tkS at h0 ⊢
  by_cases e : tC b n p = c
  · rw [if_pos e] at h0 ⊢
    obtain ⟨h1, h2⟩ := h
    exact ⟨⟨tE_le h1, h2⟩, rfl, e, rfl⟩
  · rw [if_neg e] at h0
    exact absurd h0 (by show ¬ (2 : Nat) = 0; decide)
theorem pI.op {b : Nat → Nat} {n s w : Nat} {ex el : Option Nat} {p c u dp : Nat} {fs : Option Nat} {T : Nat → xRec} {stk : List xSk} (h : pI n ex el (p, c, u, dp, fs, T, stk)) (hs : s < c) (hB : hasB (rK (T s)) = true) (hw : w = 0 ∨ (w = 1 ∧ rK (T s) ≠ 2)) (hd : dpF T (s + 1) s + 1 = stk.length) (h0 : (opB b n s w (p, c, u, dp, fs, T, stk)).1 = 0) :
    pI n ex el (opB b n s w (p, c, u, dp, fs, T, stk)).2 ∧ opB b n s w (p, c, u, dp, fs, T, stk) = (0, (tE b n p, c, u, max dp stk.length, fs, T, (some s, w, none) :: stk)) ∧ tC b n p = 223 ∧ dpF T (s + 1) s ≤ 7 := by
  unfold opB at h0 ⊢
  simp only at h0 ⊢
  by_cases e : tC b n p = 223 ∧ stk.length ≠ 9
  · rw [if_pos e] at h0 ⊢
    obtain ⟨h1, h2, h3, h4, h5, h6, h7, h8, h9⟩ := h
    refine ⟨⟨tE_le h1, h2, h3, by omega, by simp only [List.length_cons]; omega, by simp, ⟨⟨hs, hB, hw, hd⟩, (fun z hz => by cases hz), h7⟩, h8, fun x hx => ?_⟩, rfl, e.1, by omega⟩
    obtain ⟨a1, a2, a3, a4⟩ := h9 x hx
    refine ⟨a1, a2, a3, fun z1 z2 => ?_⟩
    rcases a4 z1 z2 with q | ⟨e, q1, q2⟩
    · exact Or.inl q
    · exact Or.inr ⟨e, List.mem_cons_of_mem _ q1, q2⟩
  · rw [if_neg e] at h0
    exact absurd h0 (by show ¬ (2 : Nat) = 0; decide)
theorem pI.rx {b : Nat → Nat} {n s : Nat} {nl : Bool} {el : Option Nat} {p c u dp : Nat} {fs : Option Nat} {T : Nat → xRec} {stk : List xSk} (h : pI n (some s) el (p, c, u, dp, fs, T, stk)) (hs : s < c) (h0 : (rdX b n nl s (p, c, u, dp, fs, T, stk)).1 = 0) :
    ∃ p' u' L, expF b n nl p u = .inr (p', u', L) ∧ rdX b n nl s (p, c, u, dp, fs, T, stk) = (0, (p', c, u', dp, fs, fup T s (setX (T s) L), stk)) ∧ pI n (some s) el (p', c, u', dp, fs, fup T s (setX (T s) L), stk) ∧ p ≤ p' ∧ u ≤ u' ∧ wfX nl L ∧ L.length + 1 ≤ 2 * (u' - u) := by
  obtain ⟨t1, t2⟩ := expR_tot (b := b) (n := n) (nl := nl) (p := p) (u := u) h.1
  unfold rdX at h0 ⊢
  simp only at h0 ⊢
  cases e : expF b n nl p u with
  | inl q => rw [e] at h0; exact absurd h0 (by show ¬ (2 : Nat) = 0; decide)
  | inr r =>
    obtain ⟨p', u', L⟩ := r
    rw [e] at t1
    have w := t1.wf h.1 h.2.2.1
    refine ⟨p', u', L, rfl, rfl, ?_, t2 p' u' L e, w.2.2.1, w.1, w.2.2.2.2⟩
    have he : ∀ x, rP (fup T s (setX (T s) L) x) = rP (T x) ∧ rW (fup T s (setX (T s) L) x) = rW (T x) ∧ rK (fup T s (setX (T s) L) x) = rK (T x) ∧ rN (fup T s (setX (T s) L) x) = rN (T x) ∧ rF (fup T s (setX (T s) L) x) = rF (T x) ∧ rS (fup T s (setX (T s) L) x) = rS (T x) ∧ rL (fup T s (setX (T s) L) x) = rL (T x) := fun x => by
      by_cases q : x = s
      · subst q; rw [fup_s]; exact ⟨rfl, rfl, rfl, rfl, rfl, rfl, rfl⟩
      · rw [fup_n q]; exact ⟨rfl, rfl, rfl, rfl, rfl, rfl, rfl⟩
    have hpar := h.par
    obtain ⟨h1, h2, h3, h4, h5, h6, h7, h8, h9⟩ := h
    have hd : ∀ x, x < c → dpF (fup T s (setX (T s) L)) (x + 1) x = dpF T (x + 1) x := fun x hx => dpF_cg hpar (fun y _ => (he y).1) (x + 1) x hx
    refine ⟨w.2.1, h2, w.2.2.2.1, h4, h5, h6, kOk_cg (Nat.le_refl c) hpar (fun x _ => ⟨(he x).1, (he x).2.1, (he x).2.2.1⟩) stk h7, fun y hy => ?_, fun x hx => ?_⟩
    · rw [(he y).1]; exact h8 y hy
    · obtain ⟨a1, a2, a3, a4⟩ := h9 x hx
      refine ⟨rOk_cg hx (fun y _ => ⟨(he y).1, (he y).2.1, (he y).2.2.1, (he y).2.2.2.1, (he y).2.2.2.2.1, (he y).2.2.2.2.2.1⟩) (by rw [(he x).2.2.2.2.2.2]; exact a1.2.2.2.2.2.2.2) a1, by rw [hd x hx]; exact a2, fun z => ?_, fun z1 z2 => ?_⟩
      · have hxs : x ≠ s := fun q => z (by rw [q])
        have := a3 z
        unfold fOk
        rw [fup_n hxs, hd x hx]
        exact this
      · rw [(he x).2.2.1] at z2
        rw [(he x).2.2.2.2.2.2]
        exact a4 z1 z2
theorem nwT_same (T : Nat → xRec) (c : Nat) (sk : xSk) (s : Nat) : rP (nwT T c sk s) = rP (T s) ∧ rW (nwT T c sk s) = rW (T s) ∧ rK (nwT T c sk s) = rK (T s) ∧ rL (nwT T c sk s) = rL (T s) ∧ rX (nwT T c sk s) = rX (T s) := by
  have g : ∀ (a : Nat) (r : xRec), (rP r = rP (T a) ∧ rW r = rW (T a) ∧ rK r = rK (T a) ∧ rL r = rL (T a) ∧ rX r = rX (T a)) → rP (fup T a r s) = rP (T s) ∧ rW (fup T a r s) = rW (T s) ∧ rK (fup T a r s) = rK (T s) ∧ rL (fup T a r s) = rL (T s) ∧ rX (fup T a r s) = rX (T s) := fun a r h => by
    by_cases q : s = a
    · subst q; rw [fup_s]; exact h
    · rw [fup_n q]; exact ⟨rfl, rfl, rfl, rfl, rfl⟩
  obtain ⟨o, w, l⟩ := sk
  cases l with
  | some z => exact g z _ ⟨rfl, rfl, rfl, rfl, rfl⟩
  | none =>
    cases o with
    | none => exact ⟨rfl, rfl, rfl, rfl, rfl⟩
    | some a =>
      simp only [nwT]
      split
      · exact g a _ ⟨rfl, rfl, rfl, rfl, rfl⟩
      · exact g a _ ⟨rfl, rfl, rfl, rfl, rfl⟩
theorem nwT_lk (T : Nat → xRec) (c : Nat) (sk : xSk) (s : Nat) : (rN (nwT T c sk s) = rN (T s) ∨ (rN (nwT T c sk s) = some c ∧ sk.2.2 = some s)) ∧ (rF (nwT T c sk s) = rF (T s) ∨ (rF (nwT T c sk s) = some c ∧ sk.1 = some s ∧ sk.2.1 = 0)) ∧ (rS (nwT T c sk s) = rS (T s) ∨ (rS (nwT T c sk s) = some c ∧ sk.1 = some s ∧ sk.2.1 ≠ 0)) := by
  obtain ⟨o, w, l⟩ := sk
  cases l with
  | some z =>
    simp only [nwT]
    by_cases q : s = z
    · subst q; rw [fup_s]; exact ⟨Or.inr ⟨rfl, rfl⟩, Or.inl rfl, Or.inl rfl⟩
    · rw [fup_n q]; exact ⟨Or.inl rfl, Or.inl rfl, Or.inl rfl⟩
  | none =>
    cases o with
    | none => exact ⟨Or.inl rfl, Or.inl rfl, Or.inl rfl⟩
    | some a =>
      simp only [nwT]
      split
      · next e =>
        by_cases q : s = a
        · subst q; rw [fup_s]; exact ⟨Or.inl rfl, Or.inr ⟨rfl, rfl, e⟩, Or.inl rfl⟩
        · rw [fup_n q]; exact ⟨Or.inl rfl, Or.inl rfl, Or.inl rfl⟩
      · next e =>
        by_cases q : s = a
        · subst q; rw [fup_s]; exact ⟨Or.inl rfl, Or.inl rfl, Or.inr ⟨rfl, rfl, e⟩⟩
        · rw [fup_n q]; exact ⟨Or.inl rfl, Or.inl rfl, Or.inl rfl⟩
theorem isSt_kd {k : Nat} (h : isSt k = true) : let kd := if k = 2 then 20 else k - 10; (hasX kd = true ∨ hasB kd = true ∨ kd = 3) ∧ (kd = 7 ↔ k = 17) ∧ (hasX kd = true ↔ (k = 2 ∨ k = 10 ∨ k = 12 ∨ k = 14 ∨ k = 19)) ∧ (hasB kd = true ↔ (k = 10 ∨ k = 12 ∨ k = 15 ∨ k = 17)) ∧ (kd = 9 ↔ k = 19) ∧ (kd = 2 ↔ k = 12) ∧ k ≠ 0 := by
  unfold isSt at h
  simp only [Bool.or_eq_true, decide_eq_true_eq] at h
  rcases h with ((((((h | h) | h) | h) | h) | h) | h) | h <;> subst h <;> simp [hasX, hasB]
theorem pI.add {b : Nat → Nat} {n p c u dp : Nat} {fs : Option Nat} {T : Nat → xRec} {stk : List xSk} (h : pI n none none (p, c, u, dp, fs, T, stk)) (hk : isSt (tC b n p) = true) (h40 : c ≠ 40) :
    pI n (some c) (some c) (stA b n (p, c, u, dp, fs, T, stk)) ∧ dpF (piT (stA b n (p, c, u, dp, fs, T, stk))) (c + 1) c + 1 = stk.length := by
  have hpar := h.par
  obtain ⟨h1, h2, h3, h4, h5, h6, h7, h8, h9⟩ := h
  cases stk with
  | nil => exact absurd rfl h6
  | cons sk R =>
    obtain ⟨o, w, l⟩ := sk
    obtain ⟨k1, k2, k3⟩ := h7
    simp only at k1 k2
    have hkd := isSt_kd hk
    simp only at hkd
    simp only [stA, topK, List.headD_cons, List.tail_cons, piT]
    generalize hkdv : (if tC b n p = 2 then 20 else tC b n p - 10) = kd at hkd ⊢
    have hlt : (if tC b n p = 2 then tLt b n p else 0) < 26 := by
      split
      · next e => exact tLt_lt e
      · omega
    generalize (if tC b n p = 2 then tLt b n p else 0) = lt at hlt ⊢
    obtain ⟨T1, hT1⟩ : ∃ T1, fup (nwT T c (o, w, l)) c (nwR kd lt (o, w, l)) = T1 := ⟨_, rfl⟩
    rw [hT1]
    have ec : T1 c = nwR kd lt (o, w, l) := by rw [← hT1]; exact fup_s
    have es : ∀ s, s < c → T1 s = nwT T c (o, w, l) s := fun s hs => by rw [← hT1]; exact fup_n (by omega)
    have he : ∀ s, s < c → rP (T1 s) = rP (T s) ∧ rW (T1 s) = rW (T s) ∧ rK (T1 s) = rK (T s) := fun s hs => by
      rw [es s hs]
      have := nwT_same T c (o, w, l) s
      exact ⟨this.1, this.2.1, this.2.2.1⟩
    have hd : ∀ s, s < c → dpF T1 (s + 1) s = dpF T (s + 1) s := fun s hs => dpF_cg hpar (fun y hy => (he y hy).1) (s + 1) s hs
    have hdc : dpF T1 (c + 1) c = R.length := by
      have hrp : rP (T1 c) = o := by rw [ec]; rfl
      show (match rP (T1 c) with | none => 0 | some s' => dpF T1 c s' + 1) = _
      rw [hrp]
      cases o with
      | none => rw [k1.1]; rfl
      | some a =>
        obtain ⟨a1, a2, a3, a4⟩ := k1
        simp only
        rw [dpF_cg hpar (fun y hy => (he y hy).1) c a a1, dpF_fuel hpar (a + 1) a (by omega) a1 c (a + 1) a1 (by omega)]
        exact a4
    have hR : R.length ≤ 8 := by simp only [List.length_cons] at h5; omega
    refine ⟨⟨tE_le h1, by omega, h3, h4, h5, by simp, ⟨?_, fun z hz => ?_, kOk_cg (by omega) hpar he R k3⟩, fun y hy => ?_, fun s hs => ?_⟩, by rw [hdc]; rfl⟩
    · cases o with
      | none => exact k1
      | some a =>
        obtain ⟨a1, a2, a3, a4⟩ := k1
        obtain ⟨e1, e2, e3⟩ := he a a1
        exact ⟨by omega, by rw [e3]; exact a2, by rw [e3]; exact a3, by rw [hd a a1]; exact a4⟩
    · simp only [Option.some.injEq] at hz
      subst hz
      rw [ec]
      exact ⟨by omega, rfl, rfl⟩
    · have : (o = none ∧ l = none ∧ y = c) ∨ fs = some y := by
        cases l with
        | some z => cases o <;> exact Or.inr hy
        | none =>
          cases o with
          | none => simp only [nwF, Option.some.injEq] at hy; exact Or.inl ⟨rfl, rfl, hy.symm⟩
          | some a => exact Or.inr hy
      rcases this with ⟨q1, q2, q3⟩ | q
      · subst q3; rw [ec]; exact ⟨by omega, q1⟩
      · obtain ⟨a1, a2⟩ := h8 y q
        exact ⟨by omega, by rw [(he y a1).1]; exact a2⟩
    · by_cases hsc : s = c
      · subst hsc
        refine ⟨⟨?_, ?_, ?_, ?_, ?_, ?_, ?_, ?_⟩, by rw [hdc]; exact hR, fun z => absurd rfl z, fun z => absurd rfl z⟩
        · intro y hy; rw [ec] at hy; cases hy
        · intro y hy; rw [ec] at hy; cases hy
        · intro y hy; rw [ec] at hy; cases hy
        · intro y hy
          rw [ec] at hy ⊢
          have hy' : o = some y := hy
          subst hy'
          obtain ⟨a1, a2, a3, a4⟩ := k1
          obtain ⟨e1, e2, e3⟩ := he y a1
          exact ⟨a1, by rw [e3]; exact a2, by rw [e3]; exact a3⟩
        · intro q
          rw [ec] at q ⊢
          have q' : o = none := q
          subst q'
          exact k1.2
        · rw [ec]; exact hkd.1
        · intro _; rw [ec]; exact hlt
        · rw [ec]; exact hlt
      · have hs' : s < c := by omega
        obtain ⟨a1, a2, a3, a4⟩ := h9 s hs'
        obtain ⟨r1, r2, r3, r4, r5, r6, r7, r8⟩ := a1
        obtain ⟨e1, e2, e3⟩ := he s hs'
        have sm := nwT_same T c (o, w, l) s
        have lk := nwT_lk T c (o, w, l) s
        rw [← es s hs'] at sm lk
        refine ⟨⟨fun y hy => ?_, fun y hy => ?_, fun y hy => ?_, fun y hy => ?_, fun q => ?_, by rw [e3]; exact r6, fun q => by rw [sm.2.2.2.1]; exact r8, by rw [sm.2.2.2.1]; exact r8⟩, by rw [hd s hs']; exact a2, fun _ => ?_, fun _ z2 => ?_⟩
        · rcases lk.1 with q | ⟨q, q2⟩
          · rw [q] at hy
            obtain ⟨b1, b2, b3, b4⟩ := r1 y hy
            obtain ⟨g1, g2, g3⟩ := he y b2
            exact ⟨b1, by omega, by rw [g1, e1]; exact b3, by rw [g2, e2]; exact b4⟩
          · rw [q] at hy
            cases hy
            obtain ⟨b1, b2, b3⟩ := k2 s q2
            rw [ec, e1, e2, b2, b3]
            exact ⟨hs', by omega, rfl, rfl⟩
        · rcases lk.2.1 with q | ⟨q, q2, q3⟩
          · rw [q] at hy
            obtain ⟨b1, b2, b3, b4⟩ := r2 y hy
            obtain ⟨g1, g2, g3⟩ := he y b1
            exact ⟨by omega, by rw [g1]; exact b2, by rw [g2]; exact b3, by rw [e3]; exact b4⟩
          · rw [q] at hy
            cases hy
            simp only at q2 q3
            subst q2
            rw [ec, e3]
            exact ⟨by omega, rfl, q3, k1.2.1⟩
        · rcases lk.2.2 with q | ⟨q, q2, q3⟩
          · rw [q] at hy
            obtain ⟨b1, b2, b3, b4⟩ := r3 y hy
            obtain ⟨g1, g2, g3⟩ := he y b1
            exact ⟨by omega, by rw [g1]; exact b2, by rw [g2]; exact b3, by rw [e3]; exact b4⟩
          · rw [q] at hy
            cases hy
            simp only at q2 q3
            subst q2
            have q4 := k1.2.2.1.resolve_left q3
            rw [ec, e3]
            exact ⟨by omega, rfl, q4.1, k1.2.1, q4.2⟩
        · rw [e1] at hy
          obtain ⟨b1, b2, b3⟩ := r4 y hy
          obtain ⟨g1, g2, g3⟩ := he y (by omega)
          exact ⟨b1, by rw [g3]; exact b2, by rw [e2, g3]; exact b3⟩
        · rw [e2]; exact r5 (by rw [← e1]; exact q)
        · have f := a3 (by simp)
          unfold fOk xOk at f ⊢
          rw [e3, sm.2.2.2.2, hd s hs']
          exact f
        · rw [e3] at z2
          rw [sm.2.2.2.1]
          rcases a4 (by simp) z2 with q | ⟨e, q1, q2, q3⟩
          · exact Or.inl q
          · rcases List.mem_cons.mp q1 with rfl | q1
            · exact Or.inr ⟨_, List.mem_cons_self, q2, q3⟩
            · exact Or.inr ⟨e, List.mem_cons_of_mem _ q1, q2, q3⟩
theorem kOk_own {T : Nat → xRec} {c s : Nat} : ∀ (R : List xSk), kOk T c R → ∀ e ∈ R, e.1 = some s → dpF T (s + 1) s + 1 < R.length := by
  intro R
  induction R with
  | nil => intro _ e he; cases he
  | cons a R ih =>
    intro h e he h1
    simp only [List.length_cons]
    rcases List.mem_cons.mp he with rfl | he
    · have := h.1
      rw [h1] at this
      have := this.2.2.2
      omega
    · have := ih h.2.2 e he h1
      omega
theorem thn0 {r : xPs} {f : xPi → xPs} (h : (thn r f).1 = 0) : r.1 = 0 ∧ thn r f = f r.2 := by
  unfold thn at h ⊢
  by_cases e : r.1 = 0
  · rw [if_pos e]; exact ⟨e, rfl⟩
  · rw [if_neg e] at h; exact absurd h e
theorem pI.fin {n p c u dp s : Nat} {fs : Option Nat} {T : Nat → xRec} {stk : List xSk} (h : pI n (some s) (some s) (p, c, u, dp, fs, T, stk)) (hf : fOk T s) (hl : rK (T s) = 7 → 16 ≤ rL (T s) ∨ ∃ e ∈ stk, e.1 = some s ∧ e.2.1 = 0) : pI n none none (p, c, u, dp, fs, T, stk) := by
  obtain ⟨h1, h2, h3, h4, h5, h6, h7, h8, h9⟩ := h
  refine ⟨h1, h2, h3, h4, h5, h6, h7, h8, fun x hx => ?_⟩
  obtain ⟨a1, a2, a3, a4⟩ := h9 x hx
  refine ⟨a1, a2, fun _ => ?_, fun _ z => ?_⟩
  · by_cases q : x = s
    · rw [q]; exact hf
    · exact a3 (fun z => q (by injection z with z; exact z.symm))
  · by_cases q : x = s
    · rw [q] at z ⊢; exact hl z
    · exact a4 (fun y => q (by injection y with y; exact y.symm)) z
theorem pI.weak {n s : Nat} {ex el : Option Nat} {z : xPi} (h : pI n none el z) : pI n ex el z := by
  obtain ⟨p, c, u, dp, fs, T, stk⟩ := z
  obtain ⟨h1, h2, h3, h4, h5, h6, h7, h8, h9⟩ := h
  exact ⟨h1, h2, h3, h4, h5, h6, h7, h8, fun x hx => ⟨(h9 x hx).1, (h9 x hx).2.1, fun _ => (h9 x hx).2.2.1 (by simp), (h9 x hx).2.2.2⟩⟩
set_option maxHeartbeats 4000000 in
theorem pI.sts {b : Nat → Nat} {n : Nat} {z : xPi} (h : pI n none none z) (h0 : (stS b n z).1 = 0) : pI n none none (stS b n z).2 ∧ z.1 < (stS b n z).2.1 := by
  obtain ⟨p, c, u, dp, fs, T, stk⟩ := z
  unfold stS at h0 ⊢
  by_cases hc : isSt (tC b n p) = true ∧ c ≠ 40
  · have hkd := isSt_kd hc.1
    simp only at hkd
    rw [if_pos hc] at h0 ⊢
    obtain ⟨hA, hD⟩ := h.add (b := b) hc.1 hc.2
    have hpA : p < tE b n p := tE_gt hkd.2.2.2.2.2.2
    generalize hzA : stA b n (p, c, u, dp, fs, T, stk) = zA at hA hD h0 ⊢
    have hK : rK (piT zA c) = if tC b n p = 2 then 20 else tC b n p - 10 := by rw [← hzA]; simp only [stA, piT, fup_s]; rfl
    have hX : rX (piT zA c) = [] := by rw [← hzA]; simp only [stA, piT, fup_s]; rfl
    have hcc : zA.2.1 = c + 1 := by rw [← hzA]; rfl
    have hpz : zA.1 = tE b n p := by rw [← hzA]; rfl
    have hsk : (piK zA).length = stk.length := by
      rw [← hzA]
      simp only [stA, piK, List.length_cons, List.length_tail]
      have : stk ≠ [] := h.2.2.2.2.2.1
      have := List.length_pos_iff.mpr this
      omega
    obtain ⟨p1, c1, u1, dp1, fs1, T1, stk1⟩ := zA
    simp only [piT, piK] at hK hX hsk hD hA h0 ⊢
    simp only at hcc hpz
    subst hcc hpz
    rw [← hK] at hkd
    have e1 : tC b n p ≠ 2 → tC b n p ≠ 17 → rK (T1 c) ≠ 7 := fun _ q z => q (hkd.2.1.mp z)
    unfold stB at h0 ⊢
    by_cases k2 : tC b n p = 2
    · rw [if_pos k2] at h0 ⊢
      obtain ⟨i1, j1⟩ := thn0 h0
      rw [j1] at h0 ⊢
      obtain ⟨i2, j2⟩ := thn0 i1
      rw [j2] at i1 h0 ⊢
      obtain ⟨a1, a2, a3, a4⟩ := hA.tk i2
      generalize tkS b n 161 (tE b n p, c + 1, u1, dp1, fs1, T1, stk1) = t1 at *
      obtain ⟨m1, p2, r2⟩ := t1
      simp only at a1 a2 a3 a4 i1 h0
      subst a2 a4
      obtain ⟨p', u', L, b1, b2, b3, b4, b5, b6, b7⟩ := a1.rx (by omega) i1
      rw [b2] at h0 ⊢
      obtain ⟨d1, d2, d3, d4⟩ := b3.tk h0
      generalize tkS b n 159 (p', c + 1, u', dp1, fs1, fup T1 c (setX (T1 c) L), stk1) = t2 at *
      obtain ⟨m2, p3, r3⟩ := t2
      simp only at d1 d2 d3 d4 ⊢
      subst d2 d4
      have hx9 : rK (T1 c) ≠ 9 := fun q => by have := hkd.2.2.2.2.1.mp q; omega
      refine ⟨d1.fin ⟨⟨fun _ => ?_, fun q => ?_⟩, fun q => ?_⟩ (fun q => ?_), ?_⟩
      · rw [fup_s]; show wfX (decide (rK (T1 c) = 9)) L; rw [decide_eq_false hx9]; exact b6
      · rw [fup_s] at q; have : hasX (rK (T1 c)) = true := hkd.2.2.1.mpr (Or.inl k2); rw [show rK (setX (T1 c) L) = rK (T1 c) from rfl, this] at q; cases q
      · rw [fup_s] at q; have := hkd.2.2.2.1.mp q; omega
      · rw [fup_s] at q; have := hkd.2.1.mp q; omega
      · have := tE_gt (b := b) (n := n) (p := tE b n p) (by omega); have := tE_gt (b := b) (n := n) (p := p') (by omega); omega
    rw [if_neg k2] at h0 ⊢
    by_cases k10 : tC b n p = 10 ∨ tC b n p = 12
    · rw [if_pos k10] at h0 ⊢
      obtain ⟨i0, j0⟩ := thn0 h0
      rw [j0] at h0 ⊢
      obtain ⟨i1, j1⟩ := thn0 i0
      rw [j1] at i0 h0 ⊢
      obtain ⟨i2, j2⟩ := thn0 i1
      rw [j2] at i1 i0 h0 ⊢
      obtain ⟨a1, a2, a3, a4⟩ := hA.tk i2
      generalize tkS b n 140 (tE b n p, c + 1, u1, dp1, fs1, T1, stk1) = t1 at *
      obtain ⟨m1, p2, r2⟩ := t1
      simp only at a1 a2 a3 a4 i1 i0 h0
      subst a2 a4
      obtain ⟨p', u', L, b1, b2, b3, b4, b5, b6, b7⟩ := a1.rx (by omega) i1
      rw [b2] at i0 h0 ⊢
      obtain ⟨d1, d2, d3, d4⟩ := b3.tk i0
      generalize tkS b n 141 (p', c + 1, u', dp1, fs1, fup T1 c (setX (T1 c) L), stk1) = t2 at *
      obtain ⟨m2, p3, r3⟩ := t2
      simp only at d1 d2 d3 d4 h0 ⊢
      subst d2 d4
      have hB : hasB (rK (fup T1 c (setX (T1 c) L) c)) = true := by rw [fup_s]; exact hkd.2.2.2.1.mpr (by omega)
      have hdd : dpF (fup T1 c (setX (T1 c) L)) (c + 1) c = dpF T1 (c + 1) c := dpF_cg hA.par (fun y _ => by
        by_cases q : y = c
        · rw [q, fup_s]; rfl
        · rw [fup_n q]) (c + 1) c (by omega)
      obtain ⟨g1, g2, g3, g4⟩ := d1.op (s := c) (w := 0) (by omega) hB (Or.inl rfl) (by rw [hdd, hsk]; exact hD) h0
      rw [g2] at g1 ⊢
      have hx9 : rK (T1 c) ≠ 9 := fun q => by have := hkd.2.2.2.2.1.mp q; omega
      refine ⟨g1.fin ⟨⟨fun _ => ?_, fun q => ?_⟩, fun q => g4⟩ (fun q => ?_), ?_⟩
      · rw [fup_s]; show wfX (decide (rK (T1 c) = 9)) L; rw [decide_eq_false hx9]; exact b6
      · rw [fup_s] at q; have : hasX (rK (T1 c)) = true := hkd.2.2.1.mpr (by omega); rw [show rK (setX (T1 c) L) = rK (T1 c) from rfl, this] at q; cases q
      · rw [fup_s] at q; have := hkd.2.1.mp q; omega
      · have := tE_gt (b := b) (n := n) (p := tE b n p) (by omega); have := tE_gt (b := b) (n := n) (p := p') (by omega); have := tE_gt (b := b) (n := n) (p := tE b n p') (by omega); show p < tE b n (tE b n p'); omega
    rw [if_neg k10] at h0 ⊢
    by_cases k13 : tC b n p = 13
    · rw [if_pos k13] at h0 ⊢
      obtain ⟨a1, a2, a3, a4⟩ := hA.tk h0
      generalize tkS b n 159 (tE b n p, c + 1, u1, dp1, fs1, T1, stk1) = t1 at *
      obtain ⟨m1, p2, r2⟩ := t1
      simp only at a1 a2 a3 a4 ⊢
      subst a2 a4
      refine ⟨a1.fin ⟨⟨fun q => ?_, fun _ => hX⟩, fun q => ?_⟩ (fun q => ?_), ?_⟩
      · have := hkd.2.2.1.mp q; omega
      · have := hkd.2.2.2.1.mp q; omega
      · have := hkd.2.1.mp q; omega
      · have := tE_gt (b := b) (n := n) (p := tE b n p) (by omega); omega
    rw [if_neg k13] at h0 ⊢
    by_cases k14 : tC b n p = 14
    · rw [if_pos k14] at h0 ⊢
      obtain ⟨i1, j1⟩ := thn0 h0
      rw [j1] at h0 ⊢
      obtain ⟨p', u', L, b1, b2, b3, b4, b5, b6, b7⟩ := hA.rx (by omega) i1
      rw [b2] at h0 ⊢
      obtain ⟨d1, d2, d3, d4⟩ := b3.tk h0
      generalize tkS b n 159 (p', c + 1, u', dp1, fs1, fup T1 c (setX (T1 c) L), stk1) = t2 at *
      obtain ⟨m2, p3, r3⟩ := t2
      simp only at d1 d2 d3 d4 ⊢
      subst d2 d4
      have hx9 : rK (T1 c) ≠ 9 := fun q => by have := hkd.2.2.2.2.1.mp q; omega
      refine ⟨d1.fin ⟨⟨fun _ => ?_, fun q => ?_⟩, fun q => ?_⟩ (fun q => ?_), ?_⟩
      · rw [fup_s]; show wfX (decide (rK (T1 c) = 9)) L; rw [decide_eq_false hx9]; exact b6
      · rw [fup_s] at q; have : hasX (rK (T1 c)) = true := hkd.2.2.1.mpr (by omega); rw [show rK (setX (T1 c) L) = rK (T1 c) from rfl, this] at q; cases q
      · rw [fup_s] at q; have := hkd.2.2.2.1.mp q; omega
      · rw [fup_s] at q; have := hkd.2.1.mp q; omega
      · have := tE_gt (b := b) (n := n) (p := p') (by omega); omega
    rw [if_neg k14] at h0 ⊢
    by_cases k19 : tC b n p = 19
    · rw [if_pos k19] at h0 ⊢
      obtain ⟨i1, j1⟩ := thn0 h0
      rw [j1] at h0 ⊢
      obtain ⟨p', u', L, b1, b2, b3, b4, b5, b6, b7⟩ := hA.rx (by omega) i1
      rw [b2] at h0 ⊢
      obtain ⟨d1, d2, d3, d4⟩ := b3.tk h0
      generalize tkS b n 159 (p', c + 1, u', dp1, fs1, fup T1 c (setX (T1 c) L), stk1) = t2 at *
      obtain ⟨m2, p3, r3⟩ := t2
      simp only at d1 d2 d3 d4 ⊢
      subst d2 d4
      have hx9 : rK (T1 c) = 9 := hkd.2.2.2.2.1.mpr k19
      refine ⟨d1.fin ⟨⟨fun _ => ?_, fun q => ?_⟩, fun q => ?_⟩ (fun q => ?_), ?_⟩
      · rw [fup_s]; show wfX (decide (rK (T1 c) = 9)) L; rw [decide_eq_true hx9]; exact b6
      · rw [fup_s] at q; have : hasX (rK (T1 c)) = true := hkd.2.2.1.mpr (by omega); rw [show rK (setX (T1 c) L) = rK (T1 c) from rfl, this] at q; cases q
      · rw [fup_s] at q; have := hkd.2.2.2.1.mp q; omega
      · rw [fup_s] at q; have := hkd.2.1.mp q; omega
      · have := tE_gt (b := b) (n := n) (p := p') (by omega); omega
    rw [if_neg k19] at h0 ⊢
    have k15 : tC b n p = 15 ∨ tC b n p = 17 := by
      have := hc.1
      unfold isSt at this
      simp only [Bool.or_eq_true, decide_eq_true_eq] at this
      omega
    have hB : hasB (rK (T1 c)) = true := hkd.2.2.2.1.mpr (by omega)
    obtain ⟨g1, g2, g3, g4⟩ := hA.op (s := c) (w := 0) (by omega) hB (Or.inl rfl) (by rw [hsk]; exact hD) h0
    rw [g2] at g1 ⊢
    refine ⟨g1.fin ⟨⟨fun q => ?_, fun _ => hX⟩, fun q => g4⟩ (fun q => Or.inr ⟨_, List.mem_cons_self, rfl, rfl⟩), ?_⟩
    · have := hkd.2.2.1.mp q; omega
    · have := tE_gt (b := b) (n := n) (p := tE b n p) (by omega); show p < tE b n (tE b n p); omega
  · rw [if_neg hc] at h0
    exact absurd h0 (by show ¬ (2 : Nat) = 0; decide)
theorem pI.cla {b : Nat → Nat} {n p c u dp : Nat} {fs : Option Nat} {T : Nat → xRec} {stk : List xSk} (h : pI n none none (p, c, u, dp, fs, T, stk)) (hl : stk.length ≠ 1) :
    ∃ s w l R, stk = (some s, w, l) :: R ∧ R ≠ [] ∧ s < c ∧ hasB (rK (T s)) = true ∧ (w = 0 ∨ (w = 1 ∧ rK (T s) ≠ 2)) ∧ dpF T (s + 1) s + 1 = R.length ∧ (w = 1 → rK (T s) = 7 → 16 ≤ rL (T s)) ∧ pI n none (some s) (tE b n p, c, u, dp, fs, T, R) := by
  obtain ⟨h1, h2, h3, h4, h5, h6, h7, h8, h9⟩ := h
  cases stk with
  | nil => exact absurd rfl h6
  | cons e R =>
    obtain ⟨o, w, l⟩ := e
    obtain ⟨k1, k2, k3⟩ := h7
    simp only at k1 k2
    cases o with
    | none => rw [k1.1] at hl; exact absurd rfl hl
    | some s =>
      obtain ⟨a1, a2, a3, a4⟩ := k1
      have hR : R ≠ [] := by
        intro q
        rw [q] at a4
        simp at a4
      refine ⟨s, w, l, R, rfl, hR, a1, a2, a3, a4, fun hw hk => ?_, ⟨tE_le h1, h2, h3, h4, by simp only [List.length_cons] at h5; omega, hR, k3, h8, fun x hx => ?_⟩⟩
      · rcases (h9 s a1).2.2.2 (by simp) hk with q | ⟨e, q1, q2, q3⟩
        · exact q
        · rcases List.mem_cons.mp q1 with rfl | q1
          · rw [hw] at q3; cases q3
          · have := kOk_own R k3 e q1 q2; omega
      · obtain ⟨b1, b2, b3, b4⟩ := h9 x hx
        refine ⟨b1, b2, b3, fun z1 z2 => ?_⟩
        rcases b4 (by simp) z2 with q | ⟨e, q1, q2, q3⟩
        · exact Or.inl q
        · rcases List.mem_cons.mp q1 with rfl | q1
          · exact absurd q2 z1
          · exact Or.inr ⟨e, q1, q2, q3⟩
theorem pI.ct {b : Nat → Nat} {n s p c u dp : Nat} {fs : Option Nat} {T : Nat → xRec} {stk : List xSk} (h : pI n none (some s) (p, c, u, dp, fs, T, stk)) (hs : s < c) (h0 : (ctL b n s (p, c, u, dp, fs, T, stk)).1 = 0) :
    ctL b n s (p, c, u, dp, fs, T, stk) = (0, (tE b n p, c, u, dp, fs, fup T s (setLt (T s) (tLt b n p)), stk)) ∧ tC b n p = 2 ∧ 16 ≤ tLt b n p ∧ pI n none none (tE b n p, c, u, dp, fs, fup T s (setLt (T s) (tLt b n p)), stk) := by
  unfold ctL at h0 ⊢
  simp only at h0 ⊢
  by_cases e : tC b n p = 2 ∧ 16 ≤ tLt b n p
  · rw [if_pos e] at h0 ⊢
    have hlt := tLt_lt e.1
    have he : ∀ x, rP (fup T s (setLt (T s) (tLt b n p)) x) = rP (T x) ∧ rW (fup T s (setLt (T s) (tLt b n p)) x) = rW (T x) ∧ rK (fup T s (setLt (T s) (tLt b n p)) x) = rK (T x) ∧ rN (fup T s (setLt (T s) (tLt b n p)) x) = rN (T x) ∧ rF (fup T s (setLt (T s) (tLt b n p)) x) = rF (T x) ∧ rS (fup T s (setLt (T s) (tLt b n p)) x) = rS (T x) ∧ rX (fup T s (setLt (T s) (tLt b n p)) x) = rX (T x) := fun x => by
      by_cases q : x = s
      · subst q; rw [fup_s]; exact ⟨rfl, rfl, rfl, rfl, rfl, rfl, rfl⟩
      · rw [fup_n q]; exact ⟨rfl, rfl, rfl, rfl, rfl, rfl, rfl⟩
    have hpar := h.par
    obtain ⟨h1, h2, h3, h4, h5, h6, h7, h8, h9⟩ := h
    have hd : ∀ x, x < c → dpF (fup T s (setLt (T s) (tLt b n p))) (x + 1) x = dpF T (x + 1) x := fun x hx => dpF_cg hpar (fun y _ => (he y).1) (x + 1) x hx
    refine ⟨rfl, e.1, e.2, ⟨tE_le h1, h2, h3, h4, h5, h6, kOk_cg (Nat.le_refl c) hpar (fun x _ => ⟨(he x).1, (he x).2.1, (he x).2.2.1⟩) stk h7, fun y hy => ?_, fun x hx => ?_⟩⟩
    · rw [(he y).1]; exact h8 y hy
    · obtain ⟨a1, a2, a3, a4⟩ := h9 x hx
      refine ⟨rOk_cg hx (fun y _ => ⟨(he y).1, (he y).2.1, (he y).2.2.1, (he y).2.2.2.1, (he y).2.2.2.2.1, (he y).2.2.2.2.2.1⟩) ?_ a1, by rw [hd x hx]; exact a2, fun z => ?_, fun z1 z2 => ?_⟩
      · by_cases q : x = s
        · rw [q, fup_s]; exact hlt
        · rw [fup_n q]; exact a1.2.2.2.2.2.2.2
      · have := a3 (by simp)
        unfold fOk xOk at this ⊢
        rw [(he x).2.2.1, (he x).2.2.2.2.2.2, hd x hx]
        exact this
      · by_cases q : x = s
        · rw [q, fup_s]; exact Or.inl e.2
        · rw [fup_n q] at z2 ⊢
          exact a4 (fun y => q (by injection y with y; exact y.symm)) z2
  · rw [if_neg e] at h0
    exact absurd h0 (by show ¬ (2 : Nat) = 0; decide)
theorem pI.el {n s p c u dp : Nat} {fs : Option Nat} {T : Nat → xRec} {stk : List xSk} (h : pI n none (some s) (p, c, u, dp, fs, T, stk)) (hl : rK (T s) = 7 → 16 ≤ rL (T s)) : pI n none none (p, c, u, dp, fs, T, stk) := by
  obtain ⟨h1, h2, h3, h4, h5, h6, h7, h8, h9⟩ := h
  refine ⟨h1, h2, h3, h4, h5, h6, h7, h8, fun x hx => ?_⟩
  obtain ⟨a1, a2, a3, a4⟩ := h9 x hx
  refine ⟨a1, a2, a3, fun _ z => ?_⟩
  by_cases q : x = s
  · rw [q] at z ⊢; exact Or.inl (hl z)
  · exact a4 (fun y => q (by injection y with y; exact y.symm)) z
theorem pI.cls {b : Nat → Nat} {n : Nat} {z : xPi} (h : pI n none none z) (hk : tC b n z.1 = 225) (hl : (piK z).length ≠ 1) (h0 : (clS b n z).1 = 0) : pI n none none (clS b n z).2 ∧ z.1 < (clS b n z).2.1 := by
  obtain ⟨p, c, u, dp, fs, T, stk⟩ := z
  obtain ⟨s, w, l, R, rfl, hR, hs, hB, hw, hd, hl7, hA⟩ := h.cla (b := b) hl
  have hpA : p < tE b n p := tE_gt (by simp only at hk; omega)
  have eS : clS b n (p, c, u, dp, fs, T, (some s, w, l) :: R) = (if w = 1 ∨ rK (T s) = 2 then (0, (tE b n p, c, u, dp, fs, T, R)) else if rK (T s) = 0 then (if tC b n (tE b n p) = 11 then opB b n s 1 (tE b n (tE b n p), c, u, dp, fs, T, R) else (0, (tE b n p, c, u, dp, fs, T, R))) else if rK (T s) = 5 then thn (tkS b n 16 (tE b n p, c, u, dp, fs, T, R)) (opB b n s 1) else thn (thn (tkS b n 18 (tE b n p, c, u, dp, fs, T, R)) (ctL b n s)) (opB b n s 1)) := rfl
  rw [eS] at h0 ⊢
  by_cases k1 : w = 1 ∨ rK (T s) = 2
  · rw [if_pos k1]
    refine ⟨hA.el (fun q => ?_), hpA⟩
    rcases k1 with k1 | k1
    · exact hl7 k1 q
    · omega
  rw [if_neg k1] at h0 ⊢
  by_cases k0 : rK (T s) = 0
  · rw [if_pos k0] at h0 ⊢
    have hA' := hA.el (fun q => by omega)
    by_cases ke : tC b n (tE b n p) = 11
    · rw [if_pos ke] at h0 ⊢
      have hA2 : pI n none none (tE b n (tE b n p), c, u, dp, fs, T, R) := ⟨tE_le hA'.1, hA'.2⟩
      obtain ⟨g1, g2, g3, g4⟩ := hA2.op (s := s) (w := 1) hs hB (Or.inr ⟨rfl, by omega⟩) hd h0
      refine ⟨g1, ?_⟩
      rw [g2]
      have := tE_gt (b := b) (n := n) (p := tE b n p) (by omega)
      have := tE_gt (b := b) (n := n) (p := tE b n (tE b n p)) (by omega)
      show p < tE b n (tE b n (tE b n p))
      omega
    · rw [if_neg ke]
      exact ⟨hA', hpA⟩
  rw [if_neg k0] at h0 ⊢
  by_cases k5 : rK (T s) = 5
  · rw [if_pos k5] at h0 ⊢
    obtain ⟨i1, j1⟩ := thn0 h0
    rw [j1] at h0 ⊢
    obtain ⟨a1, a2, a3, a4⟩ := (hA.el (fun q => by omega)).tk i1
    generalize tkS b n 16 (tE b n p, c, u, dp, fs, T, R) = t1 at *
    obtain ⟨m1, p2, r2⟩ := t1
    simp only at a1 a2 a3 a4 h0 ⊢
    subst a2 a4
    obtain ⟨g1, g2, g3, g4⟩ := a1.op (s := s) (w := 1) hs hB (Or.inr ⟨rfl, by omega⟩) hd h0
    refine ⟨g1, ?_⟩
    rw [g2]
    have := tE_gt (b := b) (n := n) (p := tE b n p) (by omega)
    have := tE_gt (b := b) (n := n) (p := tE b n (tE b n p)) (by omega)
    show p < tE b n (tE b n (tE b n p))
    omega
  rw [if_neg k5] at h0 ⊢
  obtain ⟨i1, j1⟩ := thn0 h0
  rw [j1] at h0 ⊢
  obtain ⟨i2, j2⟩ := thn0 i1
  rw [j2] at i1 h0 ⊢
  obtain ⟨a1, a2, a3, a4⟩ := hA.tk i2
  generalize tkS b n 18 (tE b n p, c, u, dp, fs, T, R) = t1 at *
  obtain ⟨m1, p2, r2⟩ := t1
  simp only at a1 a2 a3 a4 i1 h0 ⊢
  subst a2 a4
  obtain ⟨b1, b2, b3, b4⟩ := a1.ct hs i1
  rw [b1] at h0 ⊢
  simp only at h0 ⊢
  have eK : rK (fup T s (setLt (T s) (tLt b n (tE b n (tE b n p)))) s) = rK (T s) := by rw [fup_s]; rfl
  have hdd : dpF (fup T s (setLt (T s) (tLt b n (tE b n (tE b n p))))) (s + 1) s = dpF T (s + 1) s := dpF_cg hA.par (fun y _ => by
    by_cases q : y = s
    · rw [q, fup_s]; rfl
    · rw [fup_n q]) (s + 1) s hs
  obtain ⟨g1, g2, g3, g4⟩ := b4.op (s := s) (w := 1) hs (by rw [eK]; exact hB) (Or.inr ⟨rfl, by rw [eK]; omega⟩) (by rw [hdd]; exact hd) h0
  refine ⟨g1, ?_⟩
  rw [g2]
  have := tE_gt (b := b) (n := n) (p := tE b n p) (by omega)
  have := tE_gt (b := b) (n := n) (p := tE b n (tE b n p)) (by omega)
  have := tE_gt (b := b) (n := n) (p := tE b n (tE b n (tE b n p))) (by omega)
  show p < tE b n (tE b n (tE b n (tE b n p)))
  omega
theorem tkS_md (b : Nat → Nat) (n c : Nat) (z : xPi) : (tkS b n c z).1 = 0 ∨ (tkS b n c z).1 = 2 := by
  unfold tkS
  split
  · exact Or.inl rfl
  · exact Or.inr rfl
theorem opB_md (b : Nat → Nat) (n s w : Nat) (z : xPi) : (opB b n s w z).1 = 0 ∨ (opB b n s w z).1 = 2 := by
  unfold opB
  simp only
  split
  · exact Or.inl rfl
  · exact Or.inr rfl
theorem rdX_md (b : Nat → Nat) (n : Nat) (nl : Bool) (s : Nat) (z : xPi) : (rdX b n nl s z).1 = 0 ∨ (rdX b n nl s z).1 = 2 := by
  unfold rdX
  simp only
  split
  · exact Or.inr rfl
  · exact Or.inl rfl
theorem ctL_md (b : Nat → Nat) (n s : Nat) (z : xPi) : (ctL b n s z).1 = 0 ∨ (ctL b n s z).1 = 2 := by
  unfold ctL
  simp only
  split
  · exact Or.inl rfl
  · exact Or.inr rfl
theorem thn_md {r : xPs} {f : xPi → xPs} (h : r.1 = 0 ∨ r.1 = 2) (hf : ∀ z, (f z).1 = 0 ∨ (f z).1 = 2) : (thn r f).1 = 0 ∨ (thn r f).1 = 2 := by
  unfold thn
  split
  · exact hf _
  · exact h
theorem stS_md (b : Nat → Nat) (n : Nat) (z : xPi) : (stS b n z).1 = 0 ∨ (stS b n z).1 = 2 := by
  unfold stS stB
  split
  · split
    · exact thn_md (thn_md (tkS_md _ _ _ _) (rdX_md _ _ _ _)) (tkS_md _ _ _)
    · split
      · exact thn_md (thn_md (thn_md (tkS_md _ _ _ _) (rdX_md _ _ _ _)) (tkS_md _ _ _)) (opB_md _ _ _ _)
      · split
        · exact tkS_md _ _ _ _
        · split
          · exact thn_md (rdX_md _ _ _ _ _) (tkS_md _ _ _)
          · split
            · exact thn_md (rdX_md _ _ _ _ _) (tkS_md _ _ _)
            · exact opB_md _ _ _ _ _
  · exact Or.inr rfl
theorem clS_md (b : Nat → Nat) (n : Nat) (z : xPi) : (clS b n z).1 = 0 ∨ (clS b n z).1 = 2 := by
  unfold clS clB
  split
  · exact Or.inl rfl
  · split
    · split
      · exact opB_md _ _ _ _ _
      · exact Or.inl rfl
    · split
      · exact thn_md (tkS_md _ _ _ _) (opB_md _ _ _ _)
      · exact thn_md (thn_md (tkS_md _ _ _ _) (ctL_md _ _ _)) (opB_md _ _ _ _)
theorem pI.step {b : Nat → Nat} {n : Nat} {r : xPs} (h : pI n none none r.2) (h1 : r.1 = 0) (h0 : (pst b n r).1 ≠ 2) : pI n none none (pst b n r).2 ∧ ((pst b n r).1 = 0 → r.2.1 < (pst b n r).2.1) := by
  unfold pst at h0 ⊢
  rw [if_neg (by omega)] at h0 ⊢
  by_cases k1 : tC b n r.2.1 = 0 ∧ (piK r.2).length = 1
  · rw [if_pos k1]
    exact ⟨h, fun q => absurd q (by show ¬ (1 : Nat) = 0; decide)⟩
  rw [if_neg k1] at h0 ⊢
  by_cases k2 : tC b n r.2.1 = 0 ∨ (tC b n r.2.1 = 225 ∧ (piK r.2).length = 1)
  · rw [if_pos k2] at h0
    exact absurd rfl h0
  rw [if_neg k2] at h0 ⊢
  by_cases k3 : tC b n r.2.1 = 225
  · rw [if_pos k3] at h0 ⊢
    have hz : (clS b n r.2).1 = 0 ∨ (clS b n r.2).1 = 2 := clS_md b n r.2
    have := h.cls k3 (fun q => k2 (Or.inr ⟨k3, q⟩)) (hz.resolve_right h0)
    exact ⟨this.1, fun _ => this.2⟩
  · rw [if_neg k3] at h0 ⊢
    have hz : (stS b n r.2).1 = 0 ∨ (stS b n r.2).1 = 2 := stS_md b n r.2
    have := h.sts (hz.resolve_right h0)
    exact ⟨this.1, fun _ => this.2⟩
