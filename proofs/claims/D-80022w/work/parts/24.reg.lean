/-! regions of the picture, frames over them, some more rows -/
set_option maxRecDepth 100000
def rG : List (Nat × Nat × Nat) → Nat → Nat → Prop
  | [], _, _ => False
  | q :: L, a, k => (a = q.1 ∧ q.2.1 ≤ k ∧ k < q.2.2) ∨ rG L a k
theorem rG_mn {R : List (Nat × Nat × Nat)} : ∀ a k, rG [] a k → rG R a k := fun _ _ z => z.elim
theorem rG_mc {R L : List (Nat × Nat × Nat)} {A lo hi : Nat} (h : ∀ k, lo ≤ k → k < hi → rG R A k) (hl : ∀ a k, rG L a k → rG R a k) : ∀ a k, rG ((A, lo, hi) :: L) a k → rG R a k := fun a k z => by
  rcases z with ⟨z1, z2, z3⟩ | z
  · rw [show a = A from z1]; exact h k z2 z3
  · exact hl a k z
theorem rG_hd {R : List (Nat × Nat × Nat)} {A lo hi k : Nat} (h1 : lo ≤ k) (h2 : k < hi) : rG ((A, lo, hi) :: R) A k := Or.inl ⟨rfl, h1, h2⟩
theorem rG_tl {R : List (Nat × Nat × Nat)} {q : Nat × Nat × Nat} {a k : Nat} (h : rG R a k) : rG (q :: R) a k := Or.inr h
theorem rG_nn {a k : Nat} : ¬ rG [] a k := fun z => z
theorem rG_na {R : List (Nat × Nat × Nat)} {A lo hi a k : Nat} (h : a ≠ A) (hn : ¬ rG R a k) : ¬ rG ((A, lo, hi) :: R) a k := fun z => z.elim (fun z => h z.1) hn
theorem rG_nl {R : List (Nat × Nat × Nat)} {A lo hi a k : Nat} (h : k < lo) (hn : ¬ rG R a k) : ¬ rG ((A, lo, hi) :: R) a k := fun z => z.elim (fun z => Nat.not_le.mpr h z.2.1) hn
theorem rG_nh {R : List (Nat × Nat × Nat)} {A lo hi a k : Nat} (h : hi ≤ k) (hn : ¬ rG R a k) : ¬ rG ((A, lo, hi) :: R) a k := fun z => z.elim (fun z => Nat.not_lt.mpr h z.2.2) hn
theorem rG_nk {R : List (Nat × Nat × Nat)} {A lo hi a k : Nat} (h : k < lo ∨ hi ≤ k) (hn : ¬ rG R a k) : ¬ rG ((A, lo, hi) :: R) a k := fun z => z.elim (fun z => by obtain ⟨-, z2, z3⟩ := z; simp only at z2 z3; omega) hn
theorem Fr1I {u h : xH} {a j : Nat} {v : Int32} (e : u = setI h a j v) : Fr (rG [(a, j, j + 1)]) h u := (Fr.rf).pI e (Or.inl ⟨rfl, Nat.le_refl _, Nat.lt_succ_self _⟩)
theorem Fr1L {u h : xH} {a j : Nat} {v : Int64} (e : u = setL h a j v) : Fr (rG [(a, j, j + 1)]) h u := (Fr.rf).pL e (Or.inl ⟨rfl, Nat.le_refl _, Nat.lt_succ_self _⟩)
theorem nI_z {a : Nat} (h : a < 2 ^ 31) : nI a = 0 ↔ a = 0 := by rw [show (0 : Int32) = nI 0 from rfl, nI_eq h (by omega)]
section Rows
variable {G : xG} {Y : xY} {d : Nat} {Q : xQ} {X : xX} {h : xH} {pc : Nat} {ls : List (Option Value)} {st : List Value}
theorem V.isubD (c b : Nat) {x y : Int32} (hx : x = nI (c + b)) (hy : y = nI b) (hd : decode (yC Y) pc = .ok (.isub, 1)) (k : V G Y d Q X h (pc + 1) ls (.int (nI c) :: st)) : V G Y d Q X h pc ls (.int y :: .int x :: st) := V.isubN (c + b) b hx hy (Nat.le_add_left b c) hd (by rw [Nat.add_sub_cancel]; exact k)
theorem V.if_eqN (a : Nat) {x : Int32} (hx : x = nI a) (ha : a < 2 ^ 31) {off : Int} (tgt : Nat) (hd : decode (yC Y) pc = .ok (.ifCond .eq off, 3)) (ht : (pc : Int) + off = (tgt : Int)) (kt : a = 0 → V G Y d Q X h tgt ls st) (kf : a ≠ 0 → V G Y d Q X h (pc + 3) ls st) : V G Y d Q X h pc ls (.int x :: st) := by
  subst hx
  exact V.if_eq tgt hd ht (fun q => kt ((nI_z ha).mp q)) (fun q => kf (fun z => q ((nI_z ha).mpr z)))
theorem V.if_neN (a : Nat) {x : Int32} (hx : x = nI a) (ha : a < 2 ^ 31) {off : Int} (tgt : Nat) (hd : decode (yC Y) pc = .ok (.ifCond .ne off, 3)) (ht : (pc : Int) + off = (tgt : Int)) (kt : a ≠ 0 → V G Y d Q X h tgt ls st) (kf : a = 0 → V G Y d Q X h (pc + 3) ls st) : V G Y d Q X h pc ls (.int x :: st) := by
  subst hx
  exact V.if_ne tgt hd ht (fun q => kt (fun z => q ((nI_z ha).mpr z))) (fun q => kf ((nI_z ha).mp q))
theorem nI_le0 {a : Nat} (h : a < 2 ^ 31) : nI a ≤ 0 ↔ a = 0 := by
  rw [show (0 : Int32) = nI 0 from rfl, nI_leI h (by omega)]; omega
theorem nI_gt0 {a : Nat} (h : a < 2 ^ 31) : 0 < nI a ↔ 0 < a := by
  rw [← Int32.not_le, nI_le0 h]; omega
theorem nI_ge0 {a : Nat} (h : a < 2 ^ 31) : 0 ≤ nI a := by
  rw [show (0 : Int32) = nI 0 from rfl, nI_leI (by omega) h]; omega
theorem V.if_leN (a : Nat) {x : Int32} (hx : x = nI a) (ha : a < 2 ^ 31) {off : Int} (tgt : Nat) (hd : decode (yC Y) pc = .ok (.ifCond .le off, 3)) (ht : (pc : Int) + off = (tgt : Int)) (kt : a = 0 → V G Y d Q X h tgt ls st) (kf : a ≠ 0 → V G Y d Q X h (pc + 3) ls st) : V G Y d Q X h pc ls (.int x :: st) := by
  subst hx
  exact V.if_le tgt hd ht (fun q => kt ((nI_le0 ha).mp q)) (fun q => kf (fun z => q ((nI_le0 ha).mpr z)))
theorem V.if_gtN (a : Nat) {x : Int32} (hx : x = nI a) (ha : a < 2 ^ 31) {off : Int} (tgt : Nat) (hd : decode (yC Y) pc = .ok (.ifCond .gt off, 3)) (ht : (pc : Int) + off = (tgt : Int)) (kt : a ≠ 0 → V G Y d Q X h tgt ls st) (kf : a = 0 → V G Y d Q X h (pc + 3) ls st) : V G Y d Q X h pc ls (.int x :: st) := by
  subst hx
  exact V.if_gt tgt hd ht (fun q => kt (by have := (nI_gt0 ha).mp q; omega)) (fun q => kf (by
    rcases Nat.eq_zero_or_pos a with z | z
    · exact z
    · exact absurd ((nI_gt0 ha).mpr z) q))
theorem V.if_ltN (a : Nat) {x : Int32} (hx : x = nI a) (ha : a < 2 ^ 31) {off : Int} (tgt : Nat) (hd : decode (yC Y) pc = .ok (.ifCond .lt off, 3)) (ht : (pc : Int) + off = (tgt : Int)) (kf : V G Y d Q X h (pc + 3) ls st) : V G Y d Q X h pc ls (.int x :: st) := by
  subst hx
  exact V.if_lt tgt hd ht (fun q => absurd (nI_ge0 ha) (Int32.not_le.mpr q)) (fun _ => kf)
theorem V.if_geN (a : Nat) {x : Int32} (hx : x = nI a) (ha : a < 2 ^ 31) {off : Int} (tgt : Nat) (hd : decode (yC Y) pc = .ok (.ifCond .ge off, 3)) (ht : (pc : Int) + off = (tgt : Int)) (kt : V G Y d Q X h tgt ls st) : V G Y d Q X h pc ls (.int x :: st) := by
  subst hx
  exact V.if_ge tgt hd ht (fun _ => kt) (fun q => absurd (nI_ge0 ha) q)
/-- -1 is below 0, and no nat -/
theorem V.if_ltM {off : Int} (tgt : Nat) (hd : decode (yC Y) pc = .ok (.ifCond .lt off, 3)) (ht : (pc : Int) + off = (tgt : Int)) (kt : V G Y d Q X h tgt ls st) : V G Y d Q X h pc ls (.int (-1) :: st) := V.if_lt tgt hd ht (fun _ => kt) (fun q => absurd (by decide) q)
theorem V.if_geM {off : Int} (tgt : Nat) (hd : decode (yC Y) pc = .ok (.ifCond .ge off, 3)) (ht : (pc : Int) + off = (tgt : Int)) (kf : V G Y d Q X h (pc + 3) ls st) : V G Y d Q X h pc ls (.int (-1) :: st) := V.if_ge tgt hd ht (fun q => absurd q (by decide)) (fun _ => kf)
end Rows
/-- codes of tokens -/
theorem tC_rng {b : Nat → Nat} {n p : Nat} (hb : ∀ j, j < n → b j < 256) : tC b n p ≤ 3 ∨ (10 ≤ tC b n p ∧ tC b n p ≤ 19) ∨ (100 < tC b n p ∧ tC b n p < 356) := by
  have hr := wCd_rng b (tS b n p) (scan isLt b n (tS b n p) - tS b n p)
  have hs : isSg 0 = false := by decide
  unfold tC
  split
  · omega
  · next q =>
    have := hb (tS b n p) (by omega)
    split
    · split <;> omega
    · split
      · split <;> omega
      · split
        · next z =>
          have : b (tS b n p) ≠ 0 := fun y => by rw [y, hs] at z; cases z
          omega
        · omega
theorem mtk_4 {c : Nat} (h : c ≤ 3 ∨ (10 ≤ c ∧ c ≤ 19) ∨ (100 < c ∧ c < 356)) : (mtk c = 4 ↔ 100 < c) ∧ mtk c < 2 ^ 31 ∧ (c < 100 → mtk c = c) := by
  unfold mtk
  split
  · exact ⟨⟨fun _ => by omega, fun _ => rfl⟩, by omega, fun _ => by omega⟩
  · exact ⟨⟨fun _ => by omega, fun _ => by omega⟩, by omega, fun _ => rfl⟩
/-- fewer locals known -/
def lwk : List (Option Value) → List (Option Value) → Prop
  | [], _ => True
  | none :: r', _ :: r => lwk r' r
  | some v :: r', x :: r => x = some v ∧ lwk r' r
  | _ :: _, [] => False
theorem lwk_get : ∀ (r' r : List (Option Value)), lwk r' r → ∀ (i : Nat) (v : Value), r'[i]? = some (some v) → r[i]? = some (some v) := by
  intro r'
  induction r' with
  | nil => intro r _ i v h; simp at h
  | cons a r' ih =>
    intro r h i v hi
    cases r with
    | nil => cases a <;> exact h.elim
    | cons b r =>
      cases a with
      | none =>
        cases i with
        | zero => simp at hi
        | succ i => simpa using ih r h i v (by simpa using hi)
      | some w =>
        cases i with
        | zero => simp only [List.getElem?_cons_zero, Option.some.injEq] at hi ⊢; rw [h.1, hi]
        | succ i => simpa using ih r h.2 i v (by simpa using hi)
theorem V.wk {G : xG} {Y : xY} {d : Nat} {Q : xQ} {X : xX} {h : xH} {pc : Nat} {ls ls' : List (Option Value)} {st : List Value} (k : V G Y d Q X h pc ls' st) (hl : lwk ls' ls) : V G Y d Q X h pc ls st := by
  obtain ⟨p, e, s, m, args, below, meth, c, n0, k0⟩ := X
  intro ok H locs lsA hR hL hl' hn hk
  exact k ok H locs lsA hR hL ⟨hl'.1, hl'.2.1, fun i v hi => hl'.2.2 i v (lwk_get _ _ hl i v hi)⟩ hn hk
