/-! the picture of the heap: typed, total functions of (address, place); what a machine heap has to do with it -/
set_option maxRecDepth 100000
abbrev xH : Type := Nat × Nat × (Nat → Nat × Nat) × (Nat → Nat → Int32) × (Nat → Nat → Int64) × (Nat → Nat → Option Nat)
/-- the number of cells; the slots made since the law's start; the shapes (0: none; c + 1: an object of class c; 100 + t: an array of kind t with its length); ints; longs; references -/
def hN (h : xH) : Nat := h.1
def hK (h : xH) : Nat := h.2.1
def hS (h : xH) : Nat → Nat × Nat := h.2.2.1
def hI (h : xH) : Nat → Nat → Int32 := h.2.2.2.1
def hL (h : xH) : Nat → Nat → Int64 := h.2.2.2.2.1
def hR (h : xH) : Nat → Nat → Option Nat := h.2.2.2.2.2
def upd2 {α : Type} (f : Nat → Nat → α) (a k : Nat) (v : α) : Nat → Nat → α := fun x j => if x = a ∧ j = k then v else f x j
def setI (h : xH) (a k : Nat) (v : Int32) : xH := (h.1, h.2.1, h.2.2.1, upd2 h.2.2.2.1 a k v, h.2.2.2.2.1, h.2.2.2.2.2)
def setL (h : xH) (a k : Nat) (v : Int64) : xH := (h.1, h.2.1, h.2.2.1, h.2.2.2.1, upd2 h.2.2.2.2.1 a k v, h.2.2.2.2.2)
def setR (h : xH) (a k : Nat) (v : Option Nat) : xH := (h.1, h.2.1, h.2.2.1, h.2.2.2.1, h.2.2.2.2.1, upd2 h.2.2.2.2.2 a k v)
def newO (h : xH) (kd : Nat × Nat) (sl : Nat) : xH := (h.1 + 1, h.2.1 + sl, (fun a => if a = h.1 then kd else h.2.2.1 a), h.2.2.2.1, h.2.2.2.2.1, h.2.2.2.2.2)
/-- a stretch of an array copied -/
def cpy2 {α : Type} (f : Nat → Nat → α) (s sp d dp n : Nat) : Nat → Nat → α := fun x j => if x = d ∧ dp ≤ j ∧ j < dp + n then f s (sp + (j - dp)) else f x j
def cpyI (h : xH) (s sp d dp n : Nat) : xH := (h.1, h.2.1, h.2.2.1, cpy2 h.2.2.2.1 s sp d dp n, h.2.2.2.2.1, h.2.2.2.2.2)
def cpyL (h : xH) (s sp d dp n : Nat) : xH := (h.1, h.2.1, h.2.2.1, h.2.2.2.1, cpy2 h.2.2.2.2.1 s sp d dp n, h.2.2.2.2.2)
theorem upd2_s {α : Type} {f : Nat → Nat → α} {a k : Nat} {v : α} : upd2 f a k v a k = v := by simp [upd2]
theorem upd2_a {α : Type} {f : Nat → Nat → α} {a k x j : Nat} {v : α} (h : x ≠ a) : upd2 f a k v x j = f x j := by simp [upd2, h]
theorem upd2_k {α : Type} {f : Nat → Nat → α} {a k x j : Nat} {v : α} (h : j ≠ k) : upd2 f a k v x j = f x j := by simp [upd2, h]
theorem upd2_n {α : Type} {f : Nat → Nat → α} {a k x j : Nat} {v : α} (h : ¬ (x = a ∧ j = k)) : upd2 f a k v x j = f x j := by simp only [upd2, if_neg h]
def fv (ty : FieldType) (h : xH) (a k : Nat) : Value := match ty with
  | .long => .long (hL h a k)
  | .object _ => va_rf (hR h a k)
  | .array _ => va_rf (hR h a k)
  | _ => .int (hI h a k)
/-- which part of the picture a type lies in: 0 ints, 1 longs, 2 references, 3 none of them -/
def fk (ty : FieldType) : Nat := match ty with
  | .long => 1
  | .object _ => 2
  | .array _ => 2
  | .float => 3
  | .double => 3
  | _ => 0
theorem fv_0 {ty : FieldType} (h : fk ty = 0) (x : xH) (a k : Nat) : fv ty x a k = .int (hI x a k) := by cases ty <;> simp [fk] at h <;> rfl
theorem fv_1 {ty : FieldType} (h : fk ty = 1) (x : xH) (a k : Nat) : fv ty x a k = .long (hL x a k) := by cases ty <;> simp [fk] at h <;> rfl
theorem fv_2 {ty : FieldType} (h : fk ty = 2) (x : xH) (a k : Nat) : fv ty x a k = va_rf (hR x a k) := by cases ty <;> simp [fk] at h <;> rfl
theorem fv_def {ty : FieldType} (h : fk ty < 3) {x : xH} {a k : Nat} (hz : hI x a k = 0 ∧ hL x a k = 0 ∧ hR x a k = none) : fv ty x a k = defaultValue ty := by
  cases ty <;> simp [fk] at h <;> simp [fv, hz.1, hz.2.1, hz.2.2, defaultValue, va_rf]
theorem fv_same {ty : FieldType} {x y : xH} {a k b j : Nat} (h1 : hI x a k = hI y b j) (h2 : hL x a k = hL y b j) (h3 : hR x a k = hR y b j) : fv ty x a k = fv ty y b j := by
  cases ty <;> simp only [fv, h1, h2, h3]
theorem fv_setI_n {ty : FieldType} {h : xH} {a k x j : Nat} {v : Int32} (n : ¬ (x = a ∧ j = k)) : fv ty (setI h a k v) x j = fv ty h x j := fv_same (by show upd2 _ _ _ _ _ _ = _; rw [upd2_n n]; rfl) rfl rfl
theorem fv_setL_n {ty : FieldType} {h : xH} {a k x j : Nat} {v : Int64} (n : ¬ (x = a ∧ j = k)) : fv ty (setL h a k v) x j = fv ty h x j := fv_same rfl (by show upd2 _ _ _ _ _ _ = _; rw [upd2_n n]; rfl) rfl
theorem fv_setR_n {ty : FieldType} {h : xH} {a k x j : Nat} {v : Option Nat} (n : ¬ (x = a ∧ j = k)) : fv ty (setR h a k v) x j = fv ty h x j := fv_same rfl rfl (by show upd2 _ _ _ _ _ _ = _; rw [upd2_n n]; rfl)
/-! the classes by number, the kinds of arrays -/
def xcl : List vw_C := [(RX0, TX0, 10), (RX1, TX1, 11), (RX2, TX2, 6), (RX3, TX3, 5), (RX4, TX4, 1), (RX5, TX5, 7), (RX6, TX6, 7), (RX7, TX7, 15), (RX8, TX8, 6), (RX9, TX9, 4), (RX10, TX10, 1), (RX11, TX11, 3), (RX12, TX12, 6), (RX13, TX13, 76), (RX14, TX14, 4), (RX15, TX15, 6), (RX16, TX16, 5)]
def xtys : List (Nat → FieldType) := [tyX0, tyX1, tyX2, tyX3, tyX4, tyX5, tyX6, tyX7, tyX8, tyX9, tyX10, tyX11, tyX12, tyX13, tyX14, tyX15, tyX16]
def xty (c k : Nat) : FieldType := (xtys.getD c tyX0) k
/-- arrays: 0 int, 1 long, 2 byte, 3 boolean, 4 Program, 5 Exp, 6 Client, 7 Row, 8 Level -/
def xat (t : Nat) : FieldType := match t with
  | 0 => .int
  | 1 => .long
  | 2 => .byte
  | 3 => .boolean
  | 4 => .object "MemoryTransactions$Program"
  | 5 => .object "MemoryTransactions$Exp"
  | 6 => .object "MemoryTransactions$Client"
  | 7 => .object "MemoryTransactions$Row"
  | _ => .object "MemoryTransactions$Level"
def xCok (c : Nat) (r : vw_C) : Prop := (∀ w ∈ u_ws r.1 r.2.1 r.2.2, w ∈ lw_all) ∧ (∀ k, k < r.2.2 → parseFieldDescriptor (r.2.1 k).2.2.1 = some (xty c k)) ∧ (∀ a, a < r.2.2 → ∀ b, b < r.2.2 → a ≠ b → (r.2.1 a).2.1 ≠ (r.2.1 b).2.1) ∧ ∀ k, k < r.2.2 → fk (xty c k) < 3
theorem xCok_0 : xCok 0 (RX0, TX0, 10) := ⟨in_X0, tyX0_ok, nmX0, by decide +kernel⟩
theorem xCok_1 : xCok 1 (RX1, TX1, 11) := ⟨in_X1, tyX1_ok, nmX1, by decide +kernel⟩
theorem xCok_2 : xCok 2 (RX2, TX2, 6) := ⟨in_X2, tyX2_ok, nmX2, by decide +kernel⟩
theorem xCok_3 : xCok 3 (RX3, TX3, 5) := ⟨in_X3, tyX3_ok, nmX3, by decide +kernel⟩
theorem xCok_4 : xCok 4 (RX4, TX4, 1) := ⟨in_X4, tyX4_ok, nmX4, by decide +kernel⟩
theorem xCok_5 : xCok 5 (RX5, TX5, 7) := ⟨in_X5, tyX5_ok, nmX5, by decide +kernel⟩
theorem xCok_6 : xCok 6 (RX6, TX6, 7) := ⟨in_X6, tyX6_ok, nmX6, by decide +kernel⟩
theorem xCok_7 : xCok 7 (RX7, TX7, 15) := ⟨in_X7, tyX7_ok, nmX7, by decide +kernel⟩
theorem xCok_8 : xCok 8 (RX8, TX8, 6) := ⟨in_X8, tyX8_ok, nmX8, by decide +kernel⟩
theorem xCok_9 : xCok 9 (RX9, TX9, 4) := ⟨in_X9, tyX9_ok, nmX9, by decide +kernel⟩
theorem xCok_10 : xCok 10 (RX10, TX10, 1) := ⟨in_X10, tyX10_ok, nmX10, by decide +kernel⟩
theorem xCok_11 : xCok 11 (RX11, TX11, 3) := ⟨in_X11, tyX11_ok, nmX11, by decide +kernel⟩
theorem xCok_12 : xCok 12 (RX12, TX12, 6) := ⟨in_X12, tyX12_ok, nmX12, by decide +kernel⟩
theorem xCok_13 : xCok 13 (RX13, TX13, 76) := ⟨in_X13, tyX13_ok, nmX13, by decide +kernel⟩
theorem xCok_14 : xCok 14 (RX14, TX14, 4) := ⟨in_X14, tyX14_ok, nmX14, by decide +kernel⟩
theorem xCok_15 : xCok 15 (RX15, TX15, 6) := ⟨in_X15, tyX15_ok, nmX15, by decide +kernel⟩
theorem xCok_16 : xCok 16 (RX16, TX16, 5) := ⟨in_X16, tyX16_ok, nmX16, by decide +kernel⟩
theorem xcl_ok {c : Nat} {r : vw_C} (h : xcl[c]? = some r) : xCok c r := by
  match c, h with
  | 0, h => cases h; exact xCok_0
  | 1, h => cases h; exact xCok_1
  | 2, h => cases h; exact xCok_2
  | 3, h => cases h; exact xCok_3
  | 4, h => cases h; exact xCok_4
  | 5, h => cases h; exact xCok_5
  | 6, h => cases h; exact xCok_6
  | 7, h => cases h; exact xCok_7
  | 8, h => cases h; exact xCok_8
  | 9, h => cases h; exact xCok_9
  | 10, h => cases h; exact xCok_10
  | 11, h => cases h; exact xCok_11
  | 12, h => cases h; exact xCok_12
  | 13, h => cases h; exact xCok_13
  | 14, h => cases h; exact xCok_14
  | 15, h => cases h; exact xCok_15
  | 16, h => cases h; exact xCok_16
  | n + 17, h => simp [xcl] at h
theorem xcl_lt {c : Nat} {r : vw_C} (h : xcl[c]? = some r) : c < 17 := (List.getElem?_eq_some_iff.mp h).1
/-! what is fixed all through the run: launch, the first free address, the heap at the start, class numbers, slots, array classes, the enum constants, the String constants and their bytes, other statics -/
abbrev xG : Type := Launch × Nat × Heap × (Nat → ClassId) × (Nat → Nat → Nat) × (Nat → ClassId) × (Nat → Nat) × (Nat → Nat) × (Nat → Nat) × (Nat → Option Nat)
def gL (G : xG) : Launch := G.1
def gB (G : xG) : Nat := G.2.1
def gH (G : xG) : Heap := G.2.2.1
def gC (G : xG) : Nat → ClassId := G.2.2.2.1
def gI (G : xG) : Nat → Nat → Nat := G.2.2.2.2.1
def gA (G : xG) : Nat → ClassId := G.2.2.2.2.2.1
def gE (G : xG) : Nat → Nat := G.2.2.2.2.2.2.1
def gK (G : xG) : Nat → Nat := G.2.2.2.2.2.2.2.1
def gV (G : xG) : Nat → Nat := G.2.2.2.2.2.2.2.2.1
def gO (G : xG) : Nat → Option Nat := G.2.2.2.2.2.2.2.2.2
def xOb (G : xG) (H : Heap) (h : xH) (a : Nat) : Prop := ∀ (c : Nat) (r : vw_C), (hS h a).1 = c + 1 → xcl[c]? = some r → t_OB a (gC G c) r.2.2 (gI G c) H (fun k => fv (xty c k) h a k)
def xAr (G : xG) (H : Heap) (h : xH) (a : Nat) : Prop := ∀ t : Nat, (hS h a).1 = 100 + t → t < 9 ∧ H[a]? = some (arrV (gA G t) (hS h a).2 (fun j => fv (xat t) h a j)) ∧ (hS h a).2 < 2 ^ 31
def xReal (G : xG) (H : Heap) (h : xH) : Prop :=
  H.size = hN h ∧ gB G ≤ hN h ∧ (∀ a : Nat, a < gB G → H[a]? = (gH G)[a]? ∧ hS h a = (0, 0)) ∧ (∀ a : Nat, hN h ≤ a → hS h a = (0, 0) ∧ ∀ k, hI h a k = 0 ∧ hL h a k = 0 ∧ hR h a k = none) ∧ ∀ a : Nat, xOb G H h a ∧ xAr G H h a
theorem xReal.dom {G : xG} {H : Heap} {h : xH} {a : Nat} (R : xReal G H h) (hs : (hS h a).1 ≠ 0) : gB G ≤ a ∧ a < hN h := by
  refine ⟨Nat.not_lt.mp fun q => hs ?_, Nat.not_le.mp fun q => hs ?_⟩
  · rw [(R.2.2.1 a q).2]
  · rw [(R.2.2.2.1 a q).1]
/-- one place of one cell is written -/
theorem xReal.upd {G : xG} {H H1 : Heap} {h h1 : xH} {a k : Nat} (R : xReal G H h) (hs : (hS h a).1 ≠ 0) (e2 : H1.size = H.size) (e3 : ∀ q : Nat, q ≠ a → H1[q]? = H[q]?)
    (f1 : hN h1 = hN h) (f2 : hS h1 = hS h) (f3 : ∀ x j, ¬ (x = a ∧ j = k) → hI h1 x j = hI h x j ∧ hL h1 x j = hL h x j ∧ hR h1 x j = hR h x j)
    (ho : xOb G H1 h1 a) (ha : xAr G H1 h1 a) : xReal G H1 h1 := by
  obtain ⟨g1, g2⟩ := R.dom hs
  obtain ⟨r1, r2, r3, r4, r5⟩ := R
  refine ⟨by rw [e2, f1]; exact r1, by rw [f1]; exact r2, fun x hx => ?_, fun x hx => ?_, fun x => ?_⟩
  · rw [e3 x (by omega), f2]
    exact r3 x hx
  · rw [f1] at hx
    refine ⟨by rw [f2]; exact (r4 x hx).1, fun j => ?_⟩
    obtain ⟨z1, z2, z3⟩ := f3 x j (fun q => by omega)
    rw [z1, z2, z3]
    exact (r4 x hx).2 j
  · by_cases hx : x = a
    · subst hx
      exact ⟨ho, ha⟩
    · refine ⟨fun c r q1 q2 => ?_, fun t q1 => ?_⟩
      · rw [f2] at q1
        refine ((r5 x).1 c r q1 q2).kept (e3 x hx) |>.to fun j _ => ?_
        obtain ⟨z1, z2, z3⟩ := f3 x j (fun q => hx q.1)
        exact (fv_same z1 z2 z3).symm
      · rw [f2] at q1 ⊢
        obtain ⟨p0, p1, p2⟩ := (r5 x).2 t q1
        refine ⟨p0, ?_, p2⟩
        rw [e3 x hx, p1]
        congr 2
        funext j
        obtain ⟨z1, z2, z3⟩ := f3 x j (fun q => hx q.1)
        exact (fv_same z1 z2 z3).symm
/-- a field of an object is written -/
theorem xReal.putO {G : xG} {H H1 : Heap} {h h1 : xH} {a c k : Nat} {r : vw_C} {cell : Cell} {v : Value} (R : xReal G H h) (hs : (hS h a).1 = c + 1) (hc : xcl[c]? = some r) (hk : k < r.2.2)
    (hap : ∀ x y, x < r.2.2 → y < r.2.2 → x ≠ y → gI G c x ≠ gI G c y) (q1 : H[a]? = some cell) (e1 : H1[a]? = some (cell.setSlot (gI G c k) v)) (e2 : H1.size = H.size) (e3 : ∀ q : Nat, q ≠ a → H1[q]? = H[q]?)
    (f1 : hN h1 = hN h) (f2 : hS h1 = hS h) (f3 : ∀ x j, ¬ (x = a ∧ j = k) → hI h1 x j = hI h x j ∧ hL h1 x j = hL h x j ∧ hR h1 x j = hR h x j) (f4 : fv (xty c k) h1 a k = v) : xReal G H1 h1 := by
  refine R.upd (k := k) (by rw [hs]; omega) e2 e3 f1 f2 f3 (fun c' r' p1 p2 => ?_) (fun t p1 => ?_)
  · rw [f2, hs] at p1
    have hcc : c' = c := by omega
    subst hcc
    have hrr : r' = r := Option.some.inj (p2.symm.trans hc)
    subst hrr
    obtain ⟨cell', z1, z2, z3, z4⟩ := (R.2.2.2.2 a).1 c' r' hs hc
    have hcell : cell' = cell := Option.some.inj (z1.symm.trans q1)
    subst hcell
    refine t_OB.to (V := updV (fun j => fv (xty c' j) h a j) k v) ⟨_, e1, z2, z3, t_set z4 hap hk v⟩ (fun j _ => ?_)
    by_cases hj : j = k
    · subst hj
      simp only [updV, if_true]
      exact f4.symm
    · simp only [updV, if_neg hj]
      obtain ⟨w1, w2, w3⟩ := f3 a j (fun q => hj q.2)
      exact (fv_same w1 w2 w3).symm
  · rw [f2, hs] at p1
    have := xcl_lt hc
    omega
/-- a place of an array is written -/
theorem xReal.putA {G : xG} {H H1 : Heap} {h h1 : xH} {a t k n : Nat} {cell : Cell} {v : Value} (R : xReal G H h) (hs : hS h a = (100 + t, n)) (q1 : H[a]? = some cell) (e1 : H1[a]? = some (cell.setSlot k v)) (e2 : H1.size = H.size) (e3 : ∀ q : Nat, q ≠ a → H1[q]? = H[q]?)
    (f1 : hN h1 = hN h) (f2 : hS h1 = hS h) (f3 : ∀ x j, ¬ (x = a ∧ j = k) → hI h1 x j = hI h x j ∧ hL h1 x j = hL h x j ∧ hR h1 x j = hR h x j) (f4 : fv (xat t) h1 a k = v) : xReal G H1 h1 := by
  refine R.upd (k := k) (by rw [hs]; show 100 + t ≠ 0; omega) e2 e3 f1 f2 f3 (fun c' r' p1 p2 => ?_) (fun t' p1 => ?_)
  · rw [f2, hs] at p1
    have := xcl_lt p2
    simp only at p1
    omega
  · rw [f2] at p1 ⊢
    obtain ⟨p0, p2, p3⟩ := (R.2.2.2.2 a).2 t' p1
    refine ⟨p0, ?_, p3⟩
    have htt : t' = t := by rw [hs] at p1; simp only at p1; omega
    subst htt
    have hcell : cell = _ := Option.some.inj (q1.symm.trans p2)
    rw [e1, hcell, arrV_store]
    congr 2
    funext j
    by_cases hj : j = k
    · subst hj
      simp only [updV, if_true]
      exact f4.symm
    · simp only [updV, if_neg hj]
      obtain ⟨w1, w2, w3⟩ := f3 a j (fun q => hj q.2)
      exact (fv_same w1 w2 w3).symm
/-- a new cell -/
theorem xReal.newC {G : xG} {H H1 : Heap} {h : xH} {kd : Nat × Nat} {sl : Nat} (R : xReal G H h) (e2 : H1.size = H.size + 1) (e3 : ∀ q : Nat, q < H.size → H1[q]? = H[q]?)
    (ho : xOb G H1 (newO h kd sl) (hN h)) (ha : xAr G H1 (newO h kd sl) (hN h)) : xReal G H1 (newO h kd sl) := by
  obtain ⟨r1, r2, r3, r4, r5⟩ := R
  have n0 : hN (newO h kd sl) = hN h + 1 := rfl
  have n1 : ∀ x, x ≠ hN h → hS (newO h kd sl) x = hS h x := fun x hx => if_neg hx
  refine ⟨by rw [e2, n0, r1], by rw [n0]; omega, fun x hx => ?_, fun x hx => ?_, fun x => ?_⟩
  · rw [e3 x (by omega), n1 x (by omega)]
    exact r3 x hx
  · rw [n0] at hx
    rw [n1 x (by omega)]
    exact r4 x (by omega)
  · by_cases hx : x = hN h
    · subst hx
      exact ⟨ho, ha⟩
    · by_cases hl : x < hN h
      · refine ⟨fun c r q1 q2 => ?_, fun t q1 => ?_⟩
        · rw [n1 x hx] at q1
          exact ((r5 x).1 c r q1 q2).kept (e3 x (by omega))
        · rw [n1 x hx] at q1 ⊢
          obtain ⟨p0, p1, p2⟩ := (r5 x).2 t q1
          exact ⟨p0, by rw [e3 x (by omega)]; exact p1, p2⟩
      · have hz := (r4 x (by omega)).1
        refine ⟨fun c r q1 q2 => ?_, fun t q1 => ?_⟩
        · rw [n1 x hx, hz] at q1
          simp at q1
        · rw [n1 x hx, hz] at q1
          simp only at q1
          omega
