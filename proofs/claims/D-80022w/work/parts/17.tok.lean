/-! tokens, in plain numbers: b the bytes, n how many -/
set_option maxRecDepth 100000
def isLt (x : Nat) : Bool := decide (97 ≤ x) && decide (x ≤ 122)
def isDg (x : Nat) : Bool := decide (48 ≤ x) && decide (x ≤ 57)
def isWs (x : Nat) : Bool := decide (x = 32) || decide (x = 10)
def isSg (x : Nat) : Bool := [59, 61, 40, 41, 123, 125, 60, 35, 43, 45, 42, 47, 37].contains x
def scanF (f : Nat → Bool) (b : Nat → Nat) (n : Nat) : Nat → Nat → Nat
  | 0, p => p
  | k + 1, p => if p < n ∧ f (b p) = true then scanF f b n k (p + 1) else p
/-- the first place from p on that isn't f, or n -/
def scan (f : Nat → Bool) (b : Nat → Nat) (n p : Nat) : Nat := scanF f b n (n - p) p
theorem scan_go {f : Nat → Bool} {b : Nat → Nat} {n p : Nat} (h : p < n) (hf : f (b p) = true) : scan f b n p = scan f b n (p + 1) := by
  unfold scan
  rw [show n - p = (n - (p + 1)) + 1 by omega]
  simp [scanF, h, hf]
theorem scan_stop {f : Nat → Bool} {b : Nat → Nat} {n p : Nat} (h : ¬ (p < n ∧ f (b p) = true)) : scan f b n p = p := by
  unfold scan
  cases hk : n - p with
  | zero => rfl
  | succ k => simp [scanF, h]
theorem scanF_ge (f : Nat → Bool) (b : Nat → Nat) (n : Nat) : ∀ k p, p ≤ scanF f b n k p := by
  intro k
  induction k with
  | zero => intro p; exact Nat.le_refl _
  | succ k ih =>
    intro p
    simp only [scanF]
    split
    · exact Nat.le_trans (Nat.le_succ p) (ih (p + 1))
    · exact Nat.le_refl _
theorem scan_ge {f : Nat → Bool} {b : Nat → Nat} {n p : Nat} : p ≤ scan f b n p := scanF_ge f b n _ p
theorem scanF_le (f : Nat → Bool) (b : Nat → Nat) (n : Nat) : ∀ k p, p ≤ n → scanF f b n k p ≤ n := by
  intro k
  induction k with
  | zero => intro p hp; exact hp
  | succ k ih =>
    intro p hp
    simp only [scanF]
    split
    · next h => exact ih (p + 1) h.1
    · exact hp
theorem scan_le {f : Nat → Bool} {b : Nat → Nat} {n p : Nat} (h : p ≤ n) : scan f b n p ≤ n := scanF_le f b n _ p h
theorem scanF_end (f : Nat → Bool) (b : Nat → Nat) (n : Nat) : ∀ k p, n - p ≤ k → ¬ (scanF f b n k p < n ∧ f (b (scanF f b n k p)) = true) := by
  intro k
  induction k with
  | zero => intro p hp; simp only [scanF]; omega
  | succ k ih =>
    intro p hp
    simp only [scanF]
    split
    · exact ih (p + 1) (by omega)
    · next h => exact h
theorem scan_end {f : Nat → Bool} {b : Nat → Nat} {n p : Nat} : ¬ (scan f b n p < n ∧ f (b (scan f b n p)) = true) := scanF_end f b n _ p (Nat.le_refl _)
theorem scanF_in (f : Nat → Bool) (b : Nat → Nat) (n : Nat) : ∀ k p q, p ≤ q → q < scanF f b n k p → q < n ∧ f (b q) = true := by
  intro k
  induction k with
  | zero => intro p q h1 h2; simp only [scanF] at h2; omega
  | succ k ih =>
    intro p q h1 h2
    simp only [scanF] at h2
    split at h2
    · next h =>
      by_cases e : p = q
      · subst e; exact h
      · exact ih (p + 1) q (by omega) h2
    · omega
theorem scan_in {f : Nat → Bool} {b : Nat → Nat} {n p q : Nat} (h1 : p ≤ q) (h2 : q < scan f b n p) : q < n ∧ f (b q) = true := scanF_in f b n _ p q h1 h2
/-! a word of letters, packed -/
def pkn (b : Nat → Nat) (s : Nat) : Nat → Nat
  | 0 => 0
  | k + 1 => pkn b s k * 256 + b (s + k)
/-- digits -/
def dgn (b : Nat → Nat) (s : Nat) : Nat → Nat
  | 0 => 0
  | k + 1 => 10 * dgn b s k + (b (s + k) - 48)
def wOf (v : Int64) : Int32 := if v = 26982 then 0 else if v = 1701606245 then 1 else if v = 512852847717 then 2 else if v = 491328402041 then 3 else if v = 499968536439 then 4 else if v = 111503598970226 then 5 else if v = 28530 then 6 else if v = 7631481 then 7 else if v = 426836779880 then 8 else if v = 107118487239027 then 9 else -1
/-- the words by number -/
def wBy (w : Nat) : List Nat := [[105, 102], [101, 108, 115, 101], [119, 104, 105, 108, 101], [114, 101, 116, 114, 121], [116, 104, 114, 111, 119], [101, 105, 116, 104, 101, 114], [111, 114], [116, 114, 121], [99, 97, 116, 99, 104], [97, 108, 119, 97, 121, 115]].getD w []
def isWd (b : Nat → Nat) (s k w : Nat) : Prop := k = (wBy w).length ∧ ∀ i, i < (wBy w).length → b (s + i) = (wBy w).getD i 0
/-- which word stands at s, of k letters: 10 + its number; 1 for none -/
def wCd (b : Nat → Nat) (s k : Nat) : Nat :=
  if k = 2 ∧ b s = 105 ∧ b (s + 1) = 102 then 10
  else if k = 4 ∧ b s = 101 ∧ b (s + 1) = 108 ∧ b (s + 2) = 115 ∧ b (s + 3) = 101 then 11
  else if k = 5 ∧ b s = 119 ∧ b (s + 1) = 104 ∧ b (s + 2) = 105 ∧ b (s + 3) = 108 ∧ b (s + 4) = 101 then 12
  else if k = 5 ∧ b s = 114 ∧ b (s + 1) = 101 ∧ b (s + 2) = 116 ∧ b (s + 3) = 114 ∧ b (s + 4) = 121 then 13
  else if k = 5 ∧ b s = 116 ∧ b (s + 1) = 104 ∧ b (s + 2) = 114 ∧ b (s + 3) = 111 ∧ b (s + 4) = 119 then 14
  else if k = 6 ∧ b s = 101 ∧ b (s + 1) = 105 ∧ b (s + 2) = 116 ∧ b (s + 3) = 104 ∧ b (s + 4) = 101 ∧ b (s + 5) = 114 then 15
  else if k = 2 ∧ b s = 111 ∧ b (s + 1) = 114 then 16
  else if k = 3 ∧ b s = 116 ∧ b (s + 1) = 114 ∧ b (s + 2) = 121 then 17
  else if k = 5 ∧ b s = 99 ∧ b (s + 1) = 97 ∧ b (s + 2) = 116 ∧ b (s + 3) = 99 ∧ b (s + 4) = 104 then 18
  else if k = 6 ∧ b s = 97 ∧ b (s + 1) = 108 ∧ b (s + 2) = 119 ∧ b (s + 3) = 97 ∧ b (s + 4) = 121 ∧ b (s + 5) = 115 then 19
  else 1
/-- the token read from p on: where it begins, where it ends, its code (0 end, 1 none, 2 letter, 3 number, 10.. word, 100 + a sign), its letter, its number -/
def tS (b : Nat → Nat) (n p : Nat) : Nat := scan isWs b n p
def tE (b : Nat → Nat) (n p : Nat) : Nat := if n ≤ tS b n p then tS b n p else if isLt (b (tS b n p)) = true then scan isLt b n (tS b n p) else if isDg (b (tS b n p)) = true then scan isDg b n (tS b n p) else tS b n p + 1
def tC (b : Nat → Nat) (n p : Nat) : Nat := if n ≤ tS b n p then 0 else if isLt (b (tS b n p)) = true then (if scan isLt b n (tS b n p) - tS b n p = 1 then 2 else wCd b (tS b n p) (scan isLt b n (tS b n p) - tS b n p)) else if isDg (b (tS b n p)) = true then (if scan isDg b n (tS b n p) - tS b n p ≤ 9 then 3 else 1) else if isSg (b (tS b n p)) = true then 100 + b (tS b n p) else 1
def tLt (b : Nat → Nat) (n p : Nat) : Nat := b (tS b n p) - 97
def tNm (b : Nat → Nat) (n p : Nat) : Nat := dgn b (tS b n p) (tE b n p - tS b n p)
theorem tS_ge {b : Nat → Nat} {n p : Nat} : p ≤ tS b n p := scan_ge
theorem tS_le {b : Nat → Nat} {n p : Nat} (h : p ≤ n) : tS b n p ≤ n := scan_le h
theorem tE_ge {b : Nat → Nat} {n p : Nat} : tS b n p ≤ tE b n p := by
  unfold tE
  split
  · exact Nat.le_refl _
  · split
    · exact scan_ge
    · split
      · exact scan_ge
      · omega
theorem tE_le {b : Nat → Nat} {n p : Nat} (h : p ≤ n) : tE b n p ≤ n := by
  have h0 := tS_le (b := b) h
  unfold tE
  split
  · exact h0
  · split
    · exact scan_le h0
    · split
      · exact scan_le h0
      · omega
theorem tE_gt {b : Nat → Nat} {n p : Nat} (h : tC b n p ≠ 0) : p < tE b n p := by
  have h0 := tS_ge (b := b) (n := n) (p := p)
  unfold tC at h
  unfold tE
  split
  · next q => rw [if_pos q] at h; exact absurd rfl h
  · next q =>
    split
    · next l => rw [scan_go (by omega) l]; have := scan_ge (f := isLt) (b := b) (n := n) (p := tS b n p + 1); omega
    · split
      · next l => rw [scan_go (by omega) l]; have := scan_ge (f := isDg) (b := b) (n := n) (p := tS b n p + 1); omega
      · omega
theorem tC_0 {b : Nat → Nat} {n p : Nat} : tC b n p = 0 ↔ n ≤ tS b n p := by
  unfold tC
  constructor
  · intro h
    split at h
    · assumption
    · split at h
      · split at h
        · omega
        · exfalso; revert h; unfold wCd; repeat' split
          all_goals omega
      · split at h
        · split at h <;> omega
        · split at h <;> omega
  · intro h; rw [if_pos h]
/-! the packed letters tell the word -/
theorem pkn_lt {b : Nat → Nat} {s : Nat} : ∀ k, (∀ i, i < k → b (s + i) < 256) → pkn b s k < 256 ^ k := by
  intro k
  induction k with
  | zero => intro _; simp [pkn]
  | succ k ih =>
    intro h
    have h1 := ih (fun i hi => h i (by omega))
    have h2 := h k (by omega)
    simp only [pkn, Nat.pow_succ]
    omega
theorem wOf_lN {x : Nat} (h : x < 2 ^ 63) : wOf (lN x) = if x = 26982 then 0 else if x = 1701606245 then 1 else if x = 512852847717 then 2 else if x = 491328402041 then 3 else if x = 499968536439 then 4 else if x = 111503598970226 then 5 else if x = 28530 then 6 else if x = 7631481 then 7 else if x = 426836779880 then 8 else if x = 107118487239027 then 9 else (-1 : Int32) := by
  have e : ∀ (c : Nat) (z : Int64), z = lN c → c < 2 ^ 63 → (lN x = z ↔ x = c) := fun c z hz hc => by rw [hz]; exact pk_lEQ h hc
  unfold wOf
  simp only [e 26982 26982 rfl (by decide), e 1701606245 1701606245 rfl (by decide), e 512852847717 512852847717 rfl (by decide), e 491328402041 491328402041 rfl (by decide), e 499968536439 499968536439 rfl (by decide), e 111503598970226 111503598970226 rfl (by decide), e 28530 28530 rfl (by decide), e 7631481 7631481 rfl (by decide), e 426836779880 426836779880 rfl (by decide), e 107118487239027 107118487239027 rfl (by decide)]
theorem wPk_0 {b : Nat → Nat} {s k : Nat} (hk : 2 ≤ k) (h7 : k < 7) (hl : ∀ i, i < k → 97 ≤ b (s + i) ∧ b (s + i) ≤ 122) : pkn b s k = 26982 ↔ (k = 2 ∧ b s = 105 ∧ b (s + 1) = 102) := by
  have h0 := hl 0 (by omega)
  have h1 := hl 1 (by omega)
  simp only [Nat.add_zero] at h0
  rcases (show k = 2 ∨ k = 3 ∨ k = 4 ∨ k = 5 ∨ k = 6 by omega) with rfl | rfl | rfl | rfl | rfl
  · simp only [pkn, Nat.add_zero, Nat.zero_mul, Nat.zero_add, true_and]; omega
  · have h2 := hl 2 (by omega)
    simp only [pkn, Nat.add_zero, Nat.zero_mul, Nat.zero_add, true_and]; omega
  · have h2 := hl 2 (by omega)
    have h3 := hl 3 (by omega)
    simp only [pkn, Nat.add_zero, Nat.zero_mul, Nat.zero_add, true_and]; omega
  · have h2 := hl 2 (by omega)
    have h3 := hl 3 (by omega)
    have h4 := hl 4 (by omega)
    simp only [pkn, Nat.add_zero, Nat.zero_mul, Nat.zero_add, true_and]; omega
  · have h2 := hl 2 (by omega)
    have h3 := hl 3 (by omega)
    have h4 := hl 4 (by omega)
    have h5 := hl 5 (by omega)
    simp only [pkn, Nat.add_zero, Nat.zero_mul, Nat.zero_add, true_and]; omega
theorem wPk_1 {b : Nat → Nat} {s k : Nat} (hk : 2 ≤ k) (h7 : k < 7) (hl : ∀ i, i < k → 97 ≤ b (s + i) ∧ b (s + i) ≤ 122) : pkn b s k = 1701606245 ↔ (k = 4 ∧ b s = 101 ∧ b (s + 1) = 108 ∧ b (s + 2) = 115 ∧ b (s + 3) = 101) := by
  have h0 := hl 0 (by omega)
  have h1 := hl 1 (by omega)
  simp only [Nat.add_zero] at h0
  rcases (show k = 2 ∨ k = 3 ∨ k = 4 ∨ k = 5 ∨ k = 6 by omega) with rfl | rfl | rfl | rfl | rfl
  · simp only [pkn, Nat.add_zero, Nat.zero_mul, Nat.zero_add, true_and]; omega
  · have h2 := hl 2 (by omega)
    simp only [pkn, Nat.add_zero, Nat.zero_mul, Nat.zero_add, true_and]; omega
  · have h2 := hl 2 (by omega)
    have h3 := hl 3 (by omega)
    simp only [pkn, Nat.add_zero, Nat.zero_mul, Nat.zero_add, true_and]; omega
  · have h2 := hl 2 (by omega)
    have h3 := hl 3 (by omega)
    have h4 := hl 4 (by omega)
    simp only [pkn, Nat.add_zero, Nat.zero_mul, Nat.zero_add, true_and]; omega
  · have h2 := hl 2 (by omega)
    have h3 := hl 3 (by omega)
    have h4 := hl 4 (by omega)
    have h5 := hl 5 (by omega)
    simp only [pkn, Nat.add_zero, Nat.zero_mul, Nat.zero_add, true_and]; omega
theorem wPk_2 {b : Nat → Nat} {s k : Nat} (hk : 2 ≤ k) (h7 : k < 7) (hl : ∀ i, i < k → 97 ≤ b (s + i) ∧ b (s + i) ≤ 122) : pkn b s k = 512852847717 ↔ (k = 5 ∧ b s = 119 ∧ b (s + 1) = 104 ∧ b (s + 2) = 105 ∧ b (s + 3) = 108 ∧ b (s + 4) = 101) := by
  have h0 := hl 0 (by omega)
  have h1 := hl 1 (by omega)
  simp only [Nat.add_zero] at h0
  rcases (show k = 2 ∨ k = 3 ∨ k = 4 ∨ k = 5 ∨ k = 6 by omega) with rfl | rfl | rfl | rfl | rfl
  · simp only [pkn, Nat.add_zero, Nat.zero_mul, Nat.zero_add, true_and]; omega
  · have h2 := hl 2 (by omega)
    simp only [pkn, Nat.add_zero, Nat.zero_mul, Nat.zero_add, true_and]; omega
  · have h2 := hl 2 (by omega)
    have h3 := hl 3 (by omega)
    simp only [pkn, Nat.add_zero, Nat.zero_mul, Nat.zero_add, true_and]; omega
  · have h2 := hl 2 (by omega)
    have h3 := hl 3 (by omega)
    have h4 := hl 4 (by omega)
    simp only [pkn, Nat.add_zero, Nat.zero_mul, Nat.zero_add, true_and]; omega
  · have h2 := hl 2 (by omega)
    have h3 := hl 3 (by omega)
    have h4 := hl 4 (by omega)
    have h5 := hl 5 (by omega)
    simp only [pkn, Nat.add_zero, Nat.zero_mul, Nat.zero_add, true_and]; omega
theorem wPk_3 {b : Nat → Nat} {s k : Nat} (hk : 2 ≤ k) (h7 : k < 7) (hl : ∀ i, i < k → 97 ≤ b (s + i) ∧ b (s + i) ≤ 122) : pkn b s k = 491328402041 ↔ (k = 5 ∧ b s = 114 ∧ b (s + 1) = 101 ∧ b (s + 2) = 116 ∧ b (s + 3) = 114 ∧ b (s + 4) = 121) := by
  have h0 := hl 0 (by omega)
  have h1 := hl 1 (by omega)
  simp only [Nat.add_zero] at h0
  rcases (show k = 2 ∨ k = 3 ∨ k = 4 ∨ k = 5 ∨ k = 6 by omega) with rfl | rfl | rfl | rfl | rfl
  · simp only [pkn, Nat.add_zero, Nat.zero_mul, Nat.zero_add, true_and]; omega
  · have h2 := hl 2 (by omega)
    simp only [pkn, Nat.add_zero, Nat.zero_mul, Nat.zero_add, true_and]; omega
  · have h2 := hl 2 (by omega)
    have h3 := hl 3 (by omega)
    simp only [pkn, Nat.add_zero, Nat.zero_mul, Nat.zero_add, true_and]; omega
  · have h2 := hl 2 (by omega)
    have h3 := hl 3 (by omega)
    have h4 := hl 4 (by omega)
    simp only [pkn, Nat.add_zero, Nat.zero_mul, Nat.zero_add, true_and]; omega
  · have h2 := hl 2 (by omega)
    have h3 := hl 3 (by omega)
    have h4 := hl 4 (by omega)
    have h5 := hl 5 (by omega)
    simp only [pkn, Nat.add_zero, Nat.zero_mul, Nat.zero_add, true_and]; omega
theorem wPk_4 {b : Nat → Nat} {s k : Nat} (hk : 2 ≤ k) (h7 : k < 7) (hl : ∀ i, i < k → 97 ≤ b (s + i) ∧ b (s + i) ≤ 122) : pkn b s k = 499968536439 ↔ (k = 5 ∧ b s = 116 ∧ b (s + 1) = 104 ∧ b (s + 2) = 114 ∧ b (s + 3) = 111 ∧ b (s + 4) = 119) := by
  have h0 := hl 0 (by omega)
  have h1 := hl 1 (by omega)
  simp only [Nat.add_zero] at h0
  rcases (show k = 2 ∨ k = 3 ∨ k = 4 ∨ k = 5 ∨ k = 6 by omega) with rfl | rfl | rfl | rfl | rfl
  · simp only [pkn, Nat.add_zero, Nat.zero_mul, Nat.zero_add, true_and]; omega
  · have h2 := hl 2 (by omega)
    simp only [pkn, Nat.add_zero, Nat.zero_mul, Nat.zero_add, true_and]; omega
  · have h2 := hl 2 (by omega)
    have h3 := hl 3 (by omega)
    simp only [pkn, Nat.add_zero, Nat.zero_mul, Nat.zero_add, true_and]; omega
  · have h2 := hl 2 (by omega)
    have h3 := hl 3 (by omega)
    have h4 := hl 4 (by omega)
    simp only [pkn, Nat.add_zero, Nat.zero_mul, Nat.zero_add, true_and]; omega
  · have h2 := hl 2 (by omega)
    have h3 := hl 3 (by omega)
    have h4 := hl 4 (by omega)
    have h5 := hl 5 (by omega)
    simp only [pkn, Nat.add_zero, Nat.zero_mul, Nat.zero_add, true_and]; omega
theorem wPk_5 {b : Nat → Nat} {s k : Nat} (hk : 2 ≤ k) (h7 : k < 7) (hl : ∀ i, i < k → 97 ≤ b (s + i) ∧ b (s + i) ≤ 122) : pkn b s k = 111503598970226 ↔ (k = 6 ∧ b s = 101 ∧ b (s + 1) = 105 ∧ b (s + 2) = 116 ∧ b (s + 3) = 104 ∧ b (s + 4) = 101 ∧ b (s + 5) = 114) := by
  have h0 := hl 0 (by omega)
  have h1 := hl 1 (by omega)
  simp only [Nat.add_zero] at h0
  rcases (show k = 2 ∨ k = 3 ∨ k = 4 ∨ k = 5 ∨ k = 6 by omega) with rfl | rfl | rfl | rfl | rfl
  · simp only [pkn, Nat.add_zero, Nat.zero_mul, Nat.zero_add, true_and]; omega
  · have h2 := hl 2 (by omega)
    simp only [pkn, Nat.add_zero, Nat.zero_mul, Nat.zero_add, true_and]; omega
  · have h2 := hl 2 (by omega)
    have h3 := hl 3 (by omega)
    simp only [pkn, Nat.add_zero, Nat.zero_mul, Nat.zero_add, true_and]; omega
  · have h2 := hl 2 (by omega)
    have h3 := hl 3 (by omega)
    have h4 := hl 4 (by omega)
    simp only [pkn, Nat.add_zero, Nat.zero_mul, Nat.zero_add, true_and]; omega
  · have h2 := hl 2 (by omega)
    have h3 := hl 3 (by omega)
    have h4 := hl 4 (by omega)
    have h5 := hl 5 (by omega)
    simp only [pkn, Nat.add_zero, Nat.zero_mul, Nat.zero_add, true_and]; omega
theorem wPk_6 {b : Nat → Nat} {s k : Nat} (hk : 2 ≤ k) (h7 : k < 7) (hl : ∀ i, i < k → 97 ≤ b (s + i) ∧ b (s + i) ≤ 122) : pkn b s k = 28530 ↔ (k = 2 ∧ b s = 111 ∧ b (s + 1) = 114) := by
  have h0 := hl 0 (by omega)
  have h1 := hl 1 (by omega)
  simp only [Nat.add_zero] at h0
  rcases (show k = 2 ∨ k = 3 ∨ k = 4 ∨ k = 5 ∨ k = 6 by omega) with rfl | rfl | rfl | rfl | rfl
  · simp only [pkn, Nat.add_zero, Nat.zero_mul, Nat.zero_add, true_and]; omega
  · have h2 := hl 2 (by omega)
    simp only [pkn, Nat.add_zero, Nat.zero_mul, Nat.zero_add, true_and]; omega
  · have h2 := hl 2 (by omega)
    have h3 := hl 3 (by omega)
    simp only [pkn, Nat.add_zero, Nat.zero_mul, Nat.zero_add, true_and]; omega
  · have h2 := hl 2 (by omega)
    have h3 := hl 3 (by omega)
    have h4 := hl 4 (by omega)
    simp only [pkn, Nat.add_zero, Nat.zero_mul, Nat.zero_add, true_and]; omega
  · have h2 := hl 2 (by omega)
    have h3 := hl 3 (by omega)
    have h4 := hl 4 (by omega)
    have h5 := hl 5 (by omega)
    simp only [pkn, Nat.add_zero, Nat.zero_mul, Nat.zero_add, true_and]; omega
theorem wPk_7 {b : Nat → Nat} {s k : Nat} (hk : 2 ≤ k) (h7 : k < 7) (hl : ∀ i, i < k → 97 ≤ b (s + i) ∧ b (s + i) ≤ 122) : pkn b s k = 7631481 ↔ (k = 3 ∧ b s = 116 ∧ b (s + 1) = 114 ∧ b (s + 2) = 121) := by
  have h0 := hl 0 (by omega)
  have h1 := hl 1 (by omega)
  simp only [Nat.add_zero] at h0
  rcases (show k = 2 ∨ k = 3 ∨ k = 4 ∨ k = 5 ∨ k = 6 by omega) with rfl | rfl | rfl | rfl | rfl
  · simp only [pkn, Nat.add_zero, Nat.zero_mul, Nat.zero_add, true_and]; omega
  · have h2 := hl 2 (by omega)
    simp only [pkn, Nat.add_zero, Nat.zero_mul, Nat.zero_add, true_and]; omega
  · have h2 := hl 2 (by omega)
    have h3 := hl 3 (by omega)
    simp only [pkn, Nat.add_zero, Nat.zero_mul, Nat.zero_add, true_and]; omega
  · have h2 := hl 2 (by omega)
    have h3 := hl 3 (by omega)
    have h4 := hl 4 (by omega)
    simp only [pkn, Nat.add_zero, Nat.zero_mul, Nat.zero_add, true_and]; omega
  · have h2 := hl 2 (by omega)
    have h3 := hl 3 (by omega)
    have h4 := hl 4 (by omega)
    have h5 := hl 5 (by omega)
    simp only [pkn, Nat.add_zero, Nat.zero_mul, Nat.zero_add, true_and]; omega
theorem wPk_8 {b : Nat → Nat} {s k : Nat} (hk : 2 ≤ k) (h7 : k < 7) (hl : ∀ i, i < k → 97 ≤ b (s + i) ∧ b (s + i) ≤ 122) : pkn b s k = 426836779880 ↔ (k = 5 ∧ b s = 99 ∧ b (s + 1) = 97 ∧ b (s + 2) = 116 ∧ b (s + 3) = 99 ∧ b (s + 4) = 104) := by
  have h0 := hl 0 (by omega)
  have h1 := hl 1 (by omega)
  simp only [Nat.add_zero] at h0
  rcases (show k = 2 ∨ k = 3 ∨ k = 4 ∨ k = 5 ∨ k = 6 by omega) with rfl | rfl | rfl | rfl | rfl
  · simp only [pkn, Nat.add_zero, Nat.zero_mul, Nat.zero_add, true_and]; omega
  · have h2 := hl 2 (by omega)
    simp only [pkn, Nat.add_zero, Nat.zero_mul, Nat.zero_add, true_and]; omega
  · have h2 := hl 2 (by omega)
    have h3 := hl 3 (by omega)
    simp only [pkn, Nat.add_zero, Nat.zero_mul, Nat.zero_add, true_and]; omega
  · have h2 := hl 2 (by omega)
    have h3 := hl 3 (by omega)
    have h4 := hl 4 (by omega)
    simp only [pkn, Nat.add_zero, Nat.zero_mul, Nat.zero_add, true_and]; omega
  · have h2 := hl 2 (by omega)
    have h3 := hl 3 (by omega)
    have h4 := hl 4 (by omega)
    have h5 := hl 5 (by omega)
    simp only [pkn, Nat.add_zero, Nat.zero_mul, Nat.zero_add, true_and]; omega
theorem wPk_9 {b : Nat → Nat} {s k : Nat} (hk : 2 ≤ k) (h7 : k < 7) (hl : ∀ i, i < k → 97 ≤ b (s + i) ∧ b (s + i) ≤ 122) : pkn b s k = 107118487239027 ↔ (k = 6 ∧ b s = 97 ∧ b (s + 1) = 108 ∧ b (s + 2) = 119 ∧ b (s + 3) = 97 ∧ b (s + 4) = 121 ∧ b (s + 5) = 115) := by
  have h0 := hl 0 (by omega)
  have h1 := hl 1 (by omega)
  simp only [Nat.add_zero] at h0
  rcases (show k = 2 ∨ k = 3 ∨ k = 4 ∨ k = 5 ∨ k = 6 by omega) with rfl | rfl | rfl | rfl | rfl
  · simp only [pkn, Nat.add_zero, Nat.zero_mul, Nat.zero_add, true_and]; omega
  · have h2 := hl 2 (by omega)
    simp only [pkn, Nat.add_zero, Nat.zero_mul, Nat.zero_add, true_and]; omega
  · have h2 := hl 2 (by omega)
    have h3 := hl 3 (by omega)
    simp only [pkn, Nat.add_zero, Nat.zero_mul, Nat.zero_add, true_and]; omega
  · have h2 := hl 2 (by omega)
    have h3 := hl 3 (by omega)
    have h4 := hl 4 (by omega)
    simp only [pkn, Nat.add_zero, Nat.zero_mul, Nat.zero_add, true_and]; omega
  · have h2 := hl 2 (by omega)
    have h3 := hl 3 (by omega)
    have h4 := hl 4 (by omega)
    have h5 := hl 5 (by omega)
    simp only [pkn, Nat.add_zero, Nat.zero_mul, Nat.zero_add, true_and]; omega
theorem wCd_of {b : Nat → Nat} {s k : Nat} (hk : 2 ≤ k) (h7 : k < 7) (hl : ∀ i, i < k → 97 ≤ b (s + i) ∧ b (s + i) ≤ 122) : (if pkn b s k = 26982 then 10 else if pkn b s k = 1701606245 then 11 else if pkn b s k = 512852847717 then 12 else if pkn b s k = 491328402041 then 13 else if pkn b s k = 499968536439 then 14 else if pkn b s k = 111503598970226 then 15 else if pkn b s k = 28530 then 16 else if pkn b s k = 7631481 then 17 else if pkn b s k = 426836779880 then 18 else if pkn b s k = 107118487239027 then 19 else 1) = wCd b s k := by
  unfold wCd
  simp only [wPk_0 hk h7 hl, wPk_1 hk h7 hl, wPk_2 hk h7 hl, wPk_3 hk h7 hl, wPk_4 hk h7 hl, wPk_5 hk h7 hl, wPk_6 hk h7 hl, wPk_7 hk h7 hl, wPk_8 hk h7 hl, wPk_9 hk h7 hl]
theorem wCd_big {b : Nat → Nat} {s k : Nat} (h : 7 ≤ k) : wCd b s k = 1 := by
  unfold wCd
  repeat' split
  all_goals omega
