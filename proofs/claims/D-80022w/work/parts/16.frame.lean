/-! what a stretch of code may change: Fr P h u -/
set_option maxRecDepth 100000
def Fr (P : Nat → Nat → Prop) (h u : xH) : Prop := hN u = hN h ∧ hK u = hK h ∧ hS u = hS h ∧ hR u = hR h ∧ ∀ a k, ¬ P a k → hI u a k = hI h a k ∧ hL u a k = hL h a k
theorem Fr.rf {P : Nat → Nat → Prop} {h : xH} : Fr P h h := ⟨rfl, rfl, rfl, rfl, fun _ _ _ => ⟨rfl, rfl⟩⟩
theorem Fr.tr {P : Nat → Nat → Prop} {h u w : xH} (a : Fr P h u) (b : Fr P u w) : Fr P h w := ⟨b.1.trans a.1, b.2.1.trans a.2.1, b.2.2.1.trans a.2.2.1, b.2.2.2.1.trans a.2.2.2.1, fun x k n => ⟨(b.2.2.2.2 x k n).1.trans (a.2.2.2.2 x k n).1, (b.2.2.2.2 x k n).2.trans (a.2.2.2.2 x k n).2⟩⟩
theorem Fr.mono {P P' : Nat → Nat → Prop} {h u : xH} (a : Fr P h u) (hp : ∀ x k, P x k → P' x k) : Fr P' h u := ⟨a.1, a.2.1, a.2.2.1, a.2.2.2.1, fun x k n => a.2.2.2.2 x k (fun z => n (hp x k z))⟩
theorem Fr.pI {P : Nat → Nat → Prop} {h u w : xH} {a k : Nat} {v : Int32} (f : Fr P h u) (e : w = setI u a k v) (hp : P a k) : Fr P h w := by
  subst e
  refine f.tr ⟨rfl, rfl, rfl, rfl, fun x j n => ⟨upd2_n fun q => n ?_, rfl⟩⟩
  rw [q.1, q.2]; exact hp
theorem Fr.pL {P : Nat → Nat → Prop} {h u w : xH} {a k : Nat} {v : Int64} (f : Fr P h u) (e : w = setL u a k v) (hp : P a k) : Fr P h w := by
  subst e
  refine f.tr ⟨rfl, rfl, rfl, rfl, fun x j n => ⟨rfl, upd2_n fun q => n ?_⟩⟩
  rw [q.1, q.2]; exact hp
theorem Fr.I {P : Nat → Nat → Prop} {h u : xH} {a k : Nat} {v : Int32} (f : Fr P h u) (n : ¬ P a k) (e : hI h a k = v) : hI u a k = v := (f.2.2.2.2 a k n).1.trans e
theorem Fr.L {P : Nat → Nat → Prop} {h u : xH} {a k : Nat} {v : Int64} (f : Fr P h u) (n : ¬ P a k) (e : hL h a k = v) : hL u a k = v := (f.2.2.2.2 a k n).2.trans e
theorem hI_ps {u h : xH} {a k : Nat} {v : Int32} (e : u = setI h a k v) : hI u a k = v := by subst e; exact upd2_s
theorem hL_ps {u h : xH} {a k : Nat} {v : Int64} (e : u = setL h a k v) : hL u a k = v := by subst e; exact upd2_s
theorem hR_ps {u h : xH} {a k : Nat} {v : Option Nat} (e : u = setR h a k v) : hR u a k = v := by subst e; exact upd2_s
theorem hI_pa {u h : xH} {a k x j : Nat} {v w : Int32} (e : u = setI h a k v) (n : x ≠ a) (f : hI h x j = w) : hI u x j = w := by subst e; exact (upd2_a n).trans f
theorem hI_pk {u h : xH} {a k x j : Nat} {v w : Int32} (e : u = setI h a k v) (n : j ≠ k) (f : hI h x j = w) : hI u x j = w := by subst e; exact (upd2_k n).trans f
theorem hL_pa {u h : xH} {a k x j : Nat} {v w : Int64} (e : u = setL h a k v) (n : x ≠ a) (f : hL h x j = w) : hL u x j = w := by subst e; exact (upd2_a n).trans f
theorem hL_pk {u h : xH} {a k x j : Nat} {v w : Int64} (e : u = setL h a k v) (n : j ≠ k) (f : hL h x j = w) : hL u x j = w := by subst e; exact (upd2_k n).trans f
theorem hI_pL {u h : xH} {a k x j : Nat} {v : Int64} {w : Int32} (e : u = setL h a k v) (f : hI h x j = w) : hI u x j = w := by subst e; exact f
theorem hL_pI {u h : xH} {a k x j : Nat} {v : Int32} {w : Int64} (e : u = setI h a k v) (f : hL h x j = w) : hL u x j = w := by subst e; exact f
theorem am_ne {m a b : Nat} (h : a ≠ b) : m + a ≠ m + b := fun q => h (Nat.add_left_cancel q)
theorem am_n0 {m a : Nat} (h : 0 < a) : m + a ≠ m := by omega
theorem am_0n {m a : Nat} (h : 0 < a) : m ≠ m + a := by omega
section Rows
variable {G : xG} {Y : xY} {d : Nat} {Q : xQ} {X : xX} {h : xH} {pc : Nat} {ls : List (Option Value)} {st : List Value}
theorem V.putIk {c k idx a : Nat} {ty : FieldType} {v : Int32} (f : xFl Y.1.cls idx c k ty false) (hs : (hS h a).1 = c + 1) (hd : decode (yC Y) pc = .ok (.putfield idx, 3)) (ht : fk ty = 0) (hnar : narrow ty (.int v) = .int v) (hfit : fits ty (.int v) = true) (kk : ∀ u, u = setI h a k v → V G Y d Q X u (pc + 3) ls st) : V G Y d Q X h pc ls (.int v :: .ref a :: st) := V.putI f hs hd ht hnar hfit (kk _ rfl)
theorem V.putLk {c k idx a : Nat} {v : Int64} (f : xFl Y.1.cls idx c k .long false) (hs : (hS h a).1 = c + 1) (hd : decode (yC Y) pc = .ok (.putfield idx, 3)) (kk : ∀ u, u = setL h a k v → V G Y d Q X u (pc + 3) ls st) : V G Y d Q X h pc ls (.long v :: .ref a :: st) := V.putL f hs hd (kk _ rfl)
theorem V.putRk {c k idx a : Nat} {ty : FieldType} {r : Option Nat} (f : xFl Y.1.cls idx c k ty false) (hs : (hS h a).1 = c + 1) (hd : decode (yC Y) pc = .ok (.putfield idx, 3)) (ht : fk ty = 2) (kk : ∀ u, u = setR h a k r → V G Y d Q X u (pc + 3) ls st) : V G Y d Q X h pc ls (va_rf r :: .ref a :: st) := V.putR f hs hd ht (kk _ rfl)
theorem V.iastk {a n j : Nat} {i x : Int32} (hs : hS h a = (100, n)) (hi : i = nI j) (hj : j < n) (hd : decode (yC Y) pc = .ok (.iastore, 1)) (kk : ∀ u, u = setI h a j x → V G Y d Q X u (pc + 1) ls st) : V G Y d Q X h pc ls (.int x :: .int i :: .ref a :: st) := V.iast hs hi hj hd (kk _ rfl)
theorem V.lastk {a n j : Nat} {i : Int32} {x : Int64} (hs : hS h a = (101, n)) (hi : i = nI j) (hj : j < n) (hd : decode (yC Y) pc = .ok (.lastore, 1)) (kk : ∀ u, u = setL h a j x → V G Y d Q X u (pc + 1) ls st) : V G Y d Q X h pc ls (.long x :: .int i :: .ref a :: st) := V.last hs hi hj hd (kk _ rfl)
theorem V.bastk {a n j : Nat} {i x : Int32} (hs : hS h a = (102, n)) (hi : i = nI j) (hj : j < n) (hd : decode (yC Y) pc = .ok (.bastore, 1)) (kk : ∀ u, u = setI h a j x.toInt8.toInt32 → V G Y d Q X u (pc + 1) ls st) : V G Y d Q X h pc ls (.int x :: .int i :: .ref a :: st) := V.bast hs hi hj hd (kk _ rfl)
theorem V.zastk {a n j : Nat} {i x : Int32} (hs : hS h a = (103, n)) (hi : i = nI j) (hj : j < n) (hz : narrow .boolean (.int x) = .int x) (hd : decode (yC Y) pc = .ok (.bastore, 1)) (kk : ∀ u, u = setI h a j x → V G Y d Q X u (pc + 1) ls st) : V G Y d Q X h pc ls (.int x :: .int i :: .ref a :: st) := V.zast hs hi hj hz hd (kk _ rfl)
end Rows
/-! the model's block: the object at m, its arrays behind it in the order of their making -/
def mtL : List (Nat × Nat) := [(14, 0), (102, 800), (100, 12), (100, 12), (100, 12), (100, 12), (100, 12), (100, 480), (100, 480), (100, 480), (100, 480), (100, 480), (100, 480), (100, 480), (100, 480), (100, 2400), (100, 2400), (101, 2400), (100, 64), (103, 16), (100, 10), (100, 10), (100, 10), (101, 32), (100, 32), (100, 2), (100, 64), (100, 128), (100, 8), (100, 8), (100, 8), (100, 8), (103, 8), (100, 8), (101, 128), (100, 128), (101, 16), (100, 16), (101, 16), (101, 10), (100, 400), (100, 480), (101, 7680), (101, 4800), (100, 480), (101, 64), (101, 16), (100, 300), (100, 300), (100, 300), (100, 300), (100, 300), (101, 300)]
def moL : List (Nat × Nat) := [(1, 1), (12, 2), (13, 3), (14, 4), (15, 5), (16, 6), (17, 7), (18, 8), (19, 9), (20, 10), (21, 11), (22, 12), (23, 13), (24, 14), (25, 15), (26, 16), (27, 17), (29, 18), (32, 19), (34, 20), (35, 21), (36, 22), (38, 23), (39, 24), (40, 25), (41, 26), (43, 27), (44, 28), (45, 29), (46, 30), (47, 31), (48, 32), (49, 33), (50, 34), (51, 35), (53, 36), (54, 37), (56, 38), (57, 39), (59, 40), (61, 41), (62, 42), (63, 43), (64, 44), (67, 45), (68, 46), (70, 47), (71, 48), (72, 49), (73, 50), (74, 51), (75, 52)]
def MS (m : Nat) (S : Nat → Nat × Nat) (R : Nat → Nat → Option Nat) : Prop := (S m).1 = 14 ∧ (∀ i, i < 53 → S (m + i) = mtL.getD i (0, 0)) ∧ ∀ q ∈ moL, R m q.1 = some (m + q.2)
theorem MS.fr {m : Nat} {P : Nat → Nat → Prop} {h u : xH} (a : MS m (hS h) (hR h)) (f : Fr P h u) : MS m (hS u) (hR u) := by rw [f.2.2.1, f.2.2.2.1]; exact a
