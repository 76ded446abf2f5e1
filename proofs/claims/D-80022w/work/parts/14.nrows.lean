/-! rows of V for ints that are small naturals; answers -/
set_option maxRecDepth 100000
def bI (p : Prop) [Decidable p] : Int32 := if p then 1 else 0
theorem bI_t {p : Prop} [Decidable p] (h : p) : bI p = 1 := if_pos h
theorem bI_f {p : Prop} [Decidable p] (h : ¬ p) : bI p = 0 := if_neg h
theorem bI_eq0 {p : Prop} [Decidable p] : bI p = 0 ↔ ¬ p := by
  unfold bI
  split <;> simp_all
theorem bI_eq1 {p : Prop} [Decidable p] : bI p = 1 ↔ p := by
  unfold bI
  split <;> simp_all
theorem bI_nar {p : Prop} [Decidable p] : narrow .boolean (.int (bI p)) = .int (bI p) := by
  unfold bI
  split <;> rfl
theorem bI_fit {p : Prop} [Decidable p] : fits .boolean (.int (bI p)) = true := by
  unfold bI
  split <;> rfl
/-- an answer, the picture as it was -/
def xRet (r : Value) (h : xH) : xQ := (fun v u => v = some r ∧ u = h, fun _ _ => False)
/-- no answer; an int -/
def xVoid (R : xH → Prop) : xQ := (fun v u => v = none ∧ R u, fun _ _ => False)
def xInt (R : Int32 → xH → Prop) : xQ := (fun v u => ∃ r, v = some (.int r) ∧ R r u, fun _ _ => False)
def xLong (R : Int64 → xH → Prop) : xQ := (fun v u => ∃ r, v = some (.long r) ∧ R r u, fun _ _ => False)
section Rows
variable {G : xG} {Y : xY} {d : Nat} {Q : xQ} {X : xX} {h : xH} {pc : Nat} {ls : List (Option Value)} {st : List Value}
theorem V.iaddN (a b : Nat) {x y : Int32} (hx : x = nI a) (hy : y = nI b) (hd : decode (yC Y) pc = .ok (.iadd, 1)) (k : V G Y d Q X h (pc + 1) ls (.int (nI (a + b)) :: st)) : V G Y d Q X h pc ls (.int y :: .int x :: st) := V.iadd hd (by rw [hx, hy, nI_add]; exact k)
theorem V.imulN (a b : Nat) {x y : Int32} (hx : x = nI a) (hy : y = nI b) (hd : decode (yC Y) pc = .ok (.imul, 1)) (k : V G Y d Q X h (pc + 1) ls (.int (nI (a * b)) :: st)) : V G Y d Q X h pc ls (.int y :: .int x :: st) := V.imul hd (by rw [hx, hy, pk_mul]; exact k)
theorem V.isubN (a b : Nat) {x y : Int32} (hx : x = nI a) (hy : y = nI b) (hle : b ≤ a) (hd : decode (yC Y) pc = .ok (.isub, 1)) (k : V G Y d Q X h (pc + 1) ls (.int (nI (a - b)) :: st)) : V G Y d Q X h pc ls (.int y :: .int x :: st) := V.isub hd (by rw [hx, hy, pk_sub hle]; exact k)
theorem V.iincN {i : Nat} {n : Int} {x : Int32} (a b : Nat) (hd : decode (yC Y) pc = .ok (.iinc i n, 3)) (hl : ls[i]? = some (some (.int x))) (hx : x = nI a) (hc : Int32.ofInt n = nI b) (hi : i < yL Y) (kk : V G Y d Q X h (pc + 3) (lset ls i (.int (nI (a + b)))) st) : V G Y d Q X h pc ls st := V.iinc (nI b) hd hl hc hi (by rw [hx, nI_add]; exact kk)
theorem V.idecN {i : Nat} {n : Int} {x : Int32} (a : Nat) (hd : decode (yC Y) pc = .ok (.iinc i n, 3)) (hl : ls[i]? = some (some (.int x))) (hx : x = nI (a + 1)) (hc : Int32.ofInt n = -1) (hi : i < yL Y) (kk : V G Y d Q X h (pc + 3) (lset ls i (.int (nI a))) st) : V G Y d Q X h pc ls st := V.iinc (-1) hd hl hc hi (by rw [hx, pk_m1]; exact kk)
theorem V.icmp_ltN (a b : Nat) {x y : Int32} (hx : x = nI a) (hy : y = nI b) (ha : a < 2 ^ 31) (hb : b < 2 ^ 31) {off : Int} (tgt : Nat) (hd : decode (yC Y) pc = .ok (.if_icmp .lt off, 3)) (ht : (pc : Int) + off = (tgt : Int)) (kt : a < b → V G Y d Q X h tgt ls st) (kf : b ≤ a → V G Y d Q X h (pc + 3) ls st) : V G Y d Q X h pc ls (.int y :: .int x :: st) := by
  subst hx; subst hy
  exact V.icmp_lt tgt hd ht (fun q => kt ((nI_ltI ha hb).mp q)) (fun q => kf (Nat.not_lt.mp fun z => q ((nI_ltI ha hb).mpr z)))
theorem V.icmp_geN (a b : Nat) {x y : Int32} (hx : x = nI a) (hy : y = nI b) (ha : a < 2 ^ 31) (hb : b < 2 ^ 31) {off : Int} (tgt : Nat) (hd : decode (yC Y) pc = .ok (.if_icmp .ge off, 3)) (ht : (pc : Int) + off = (tgt : Int)) (kt : b ≤ a → V G Y d Q X h tgt ls st) (kf : a < b → V G Y d Q X h (pc + 3) ls st) : V G Y d Q X h pc ls (.int y :: .int x :: st) := by
  subst hx; subst hy
  exact V.icmp_ge tgt hd ht (fun q => kt ((nI_leI hb ha).mp q)) (fun q => kf (Nat.not_le.mp fun z => q ((nI_leI hb ha).mpr z)))
theorem V.icmp_gtN (a b : Nat) {x y : Int32} (hx : x = nI a) (hy : y = nI b) (ha : a < 2 ^ 31) (hb : b < 2 ^ 31) {off : Int} (tgt : Nat) (hd : decode (yC Y) pc = .ok (.if_icmp .gt off, 3)) (ht : (pc : Int) + off = (tgt : Int)) (kt : b < a → V G Y d Q X h tgt ls st) (kf : a ≤ b → V G Y d Q X h (pc + 3) ls st) : V G Y d Q X h pc ls (.int y :: .int x :: st) := by
  subst hx; subst hy
  exact V.icmp_gt tgt hd ht (fun q => kt ((nI_ltI hb ha).mp q)) (fun q => kf (Nat.not_lt.mp fun z => q ((nI_ltI hb ha).mpr z)))
theorem V.icmp_leN (a b : Nat) {x y : Int32} (hx : x = nI a) (hy : y = nI b) (ha : a < 2 ^ 31) (hb : b < 2 ^ 31) {off : Int} (tgt : Nat) (hd : decode (yC Y) pc = .ok (.if_icmp .le off, 3)) (ht : (pc : Int) + off = (tgt : Int)) (kt : a ≤ b → V G Y d Q X h tgt ls st) (kf : b < a → V G Y d Q X h (pc + 3) ls st) : V G Y d Q X h pc ls (.int y :: .int x :: st) := by
  subst hx; subst hy
  exact V.icmp_le tgt hd ht (fun q => kt ((nI_leI ha hb).mp q)) (fun q => kf (Nat.not_le.mp fun z => q ((nI_leI ha hb).mpr z)))
theorem V.icmp_eqN (a b : Nat) {x y : Int32} (hx : x = nI a) (hy : y = nI b) (ha : a < 2 ^ 31) (hb : b < 2 ^ 31) {off : Int} (tgt : Nat) (hd : decode (yC Y) pc = .ok (.if_icmp .eq off, 3)) (ht : (pc : Int) + off = (tgt : Int)) (kt : a = b → V G Y d Q X h tgt ls st) (kf : a ≠ b → V G Y d Q X h (pc + 3) ls st) : V G Y d Q X h pc ls (.int y :: .int x :: st) := by
  subst hx; subst hy
  exact V.icmp_eq tgt hd ht (fun q => kt ((nI_eq ha hb).mp q)) (fun q => kf (fun z => q ((nI_eq ha hb).mpr z)))
theorem V.icmp_neN (a b : Nat) {x y : Int32} (hx : x = nI a) (hy : y = nI b) (ha : a < 2 ^ 31) (hb : b < 2 ^ 31) {off : Int} (tgt : Nat) (hd : decode (yC Y) pc = .ok (.if_icmp .ne off, 3)) (ht : (pc : Int) + off = (tgt : Int)) (kt : a ≠ b → V G Y d Q X h tgt ls st) (kf : a = b → V G Y d Q X h (pc + 3) ls st) : V G Y d Q X h pc ls (.int y :: .int x :: st) := by
  subst hx; subst hy
  exact V.icmp_ne tgt hd ht (fun q => kt (fun z => q ((nI_eq ha hb).mpr z))) (fun q => kf ((nI_eq ha hb).mp q))
/-- a truth value is asked -/
theorem V.if_eqB {p : Prop} [Decidable p] {off : Int} (tgt : Nat) (hd : decode (yC Y) pc = .ok (.ifCond .eq off, 3)) (ht : (pc : Int) + off = (tgt : Int)) (kt : ¬ p → V G Y d Q X h tgt ls st) (kf : p → V G Y d Q X h (pc + 3) ls st) : V G Y d Q X h pc ls (.int (bI p) :: st) := V.if_eq tgt hd ht (fun q => kt (bI_eq0.mp q)) (fun q => kf (Decidable.of_not_not fun z => q (bI_eq0.mpr z)))
theorem V.if_neB {p : Prop} [Decidable p] {off : Int} (tgt : Nat) (hd : decode (yC Y) pc = .ok (.ifCond .ne off, 3)) (ht : (pc : Int) + off = (tgt : Int)) (kt : p → V G Y d Q X h tgt ls st) (kf : ¬ p → V G Y d Q X h (pc + 3) ls st) : V G Y d Q X h pc ls (.int (bI p) :: st) := V.if_ne tgt hd ht (fun q => kt (Decidable.of_not_not fun z => q (bI_eq0.mpr z))) (fun q => kf (bI_eq0.mp q))
/-- fields and places whose value is known -/
theorem V.getIe {c k idx a : Nat} {ty : FieldType} {fin : Bool} {v : Int32} (f : xFl Y.1.cls idx c k ty fin) (hs : (hS h a).1 = c + 1) (he : hI h a k = v) (hd : decode (yC Y) pc = .ok (.getfield idx, 3)) (ht : fk ty = 0) (kk : V G Y d Q X h (pc + 3) ls (.int v :: st)) : V G Y d Q X h pc ls (.ref a :: st) := V.getI f hs hd ht (by rw [he]; exact kk)
theorem V.getLe {c k idx a : Nat} {ty : FieldType} {fin : Bool} {v : Int64} (f : xFl Y.1.cls idx c k ty fin) (hs : (hS h a).1 = c + 1) (he : hL h a k = v) (hd : decode (yC Y) pc = .ok (.getfield idx, 3)) (ht : fk ty = 1) (kk : V G Y d Q X h (pc + 3) ls (.long v :: st)) : V G Y d Q X h pc ls (.ref a :: st) := V.getL f hs hd ht (by rw [he]; exact kk)
theorem V.ialde {a n j : Nat} {i v : Int32} (hs : hS h a = (100, n)) (hi : i = nI j) (hj : j < n) (he : hI h a j = v) (hd : decode (yC Y) pc = .ok (.iaload, 1)) (kk : V G Y d Q X h (pc + 1) ls (.int v :: st)) : V G Y d Q X h pc ls (.int i :: .ref a :: st) := V.iald hs hi hj hd (by rw [he]; exact kk)
theorem V.lalde {a n j : Nat} {i : Int32} {v : Int64} (hs : hS h a = (101, n)) (hi : i = nI j) (hj : j < n) (he : hL h a j = v) (hd : decode (yC Y) pc = .ok (.laload, 1)) (kk : V G Y d Q X h (pc + 1) ls (.long v :: st)) : V G Y d Q X h pc ls (.int i :: .ref a :: st) := V.lald hs hi hj hd (by rw [he]; exact kk)
end Rows
