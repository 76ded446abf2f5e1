/-! the machine that reads an exp, in plain Lean: mode (0 an operand is wanted, 2 an operand is there, 1 behind an operand, 3 done, 4 fault), place, unaries, pile (top first), compared (innermost first), acts -/
set_option maxRecDepth 100000
abbrev xE : Type := Nat × Nat × Nat × List Nat × List Bool × List xAct
def sgs (c : Nat) : Nat := if c = 42 ∨ c = 47 ∨ c = 37 then 3 else if c = 43 ∨ c = 45 then 2 else if c = 60 ∨ c = 61 ∨ c = 35 then 1 else 0
def opn : List Nat → Nat
  | [] => 0
  | c :: P => opn P + (if c = 40 ∨ c = 1000 then 1 else 0)
def lvl : List Nat → Nat
  | [] => 0
  | c :: P => lvl P + (if c = 40 then 1 else 0)
def nop : List Nat → Nat
  | [] => 0
  | c :: P => nop P + (if c = 40 then 0 else 1)
def ops : List Nat → Nat
  | [] => 0
  | c :: P => ops P + (if c = 40 ∨ c = 1000 then 0 else 1)
def tps : List Nat → Nat
  | [] => 0
  | c :: _ => sgs c
def ndk (c : Nat) (cs : List Bool) (lv : Nat) : Nat := if c = 141 ∧ 0 < lv then 1 else if 2 ≤ sgs (c - 100) then sgs (c - 100) else if sgs (c - 100) = 1 ∧ cs.head? = some false then 2 else 1
def est (b : Nat → Nat) (n : Nat) (nl : Bool) (E : xE) : xE :=
  match E with
  | (md, p, u, P, cs, o) =>
    if md = 0 then
      if tC b n p = 140 ∨ tC b n p = 145 then
        if u = 60 ∨ opn P = 8 then (4, p, u, P, cs, o)
        else if tC b n p = 140 then (0, tE b n p, u + 1, 40 :: P, false :: cs, o) else (0, tE b n p, u + 1, 1000 :: P, cs, o)
      else if tC b n p = 3 ∨ (tC b n p = 2 ∧ ¬ (nl = true ∧ 16 ≤ tLt b n p)) then
        if u = 60 then (4, p, u, P, cs, o)
        else (2, tE b n p, u + 1, P, cs, o ++ [if tC b n p = 3 then (1, 0, lN (tNm b n p)) else (2, tLt b n p, 0)])
      else (4, p, u, P, cs, o)
    else if md = 2 then
      if P.head? = some 1000 then (2, p, u, P.tail, cs, o ++ [(3, 0, 0)]) else (1, p, u, P, cs, o)
    else if md = 1 then
      if ndk (tC b n p) cs (lvl P) ≤ tps P then (1, p, u, P.tail, cs, o ++ [(P.headD 0, 0, 0)])
      else if tC b n p = 141 ∧ 0 < lvl P then (2, tE b n p, u, P.tail, cs.tail, o)
      else if 2 ≤ sgs (tC b n p - 100) ∨ (sgs (tC b n p - 100) = 1 ∧ cs.head? = some false) then (0, tE b n p, u, (tC b n p - 100) :: P, (if sgs (tC b n p - 100) = 1 then true :: cs.tail else cs), o)
      else if 0 < lvl P then (4, p, u, P, cs, o) else (3, p, u, P, cs, o)
    else (md, p, u, P, cs, o)
def itE (b : Nat → Nat) (n : Nat) (nl : Bool) : Nat → xE → xE
  | 0, E => E
  | k + 1, E => itE b n nl k (est b n nl E)
def Rc (b : Nat → Nat) (n : Nat) (nl : Bool) (E F : xE) : Prop := ∃ k, itE b n nl k E = F
theorem itE_add {b : Nat → Nat} {n : Nat} {nl : Bool} : ∀ (k j : Nat) (E : xE), itE b n nl (k + j) E = itE b n nl j (itE b n nl k E) := by
  intro k
  induction k with
  | zero => intro j E; rw [Nat.zero_add]; rfl
  | succ k ih => intro j E; rw [show k + 1 + j = (k + j) + 1 by omega]; exact ih j _
theorem Rc.rf {b : Nat → Nat} {n : Nat} {nl : Bool} {E : xE} : Rc b n nl E E := ⟨0, rfl⟩
theorem Rc.tr {b : Nat → Nat} {n : Nat} {nl : Bool} {E F H : xE} (h1 : Rc b n nl E F) (h2 : Rc b n nl F H) : Rc b n nl E H := by
  obtain ⟨k, rfl⟩ := h1
  obtain ⟨j, rfl⟩ := h2
  exact ⟨k + j, itE_add k j E⟩
theorem Rc.st {b : Nat → Nat} {n : Nat} {nl : Bool} {E F : xE} (h : est b n nl E = F) : Rc b n nl E F := ⟨1, h⟩
theorem itE_fix {b : Nat → Nat} {n : Nat} {nl : Bool} {E : xE} (h : est b n nl E = E) : ∀ k, itE b n nl k E = E := by
  intro k
  induction k with
  | zero => rfl
  | succ k ih => show itE b n nl k (est b n nl E) = E; rw [h]; exact ih
theorem est_fix {b : Nat → Nat} {n : Nat} {nl : Bool} {E : xE} (h : 3 ≤ E.1) : est b n nl E = E := by
  obtain ⟨md, p, u, P, cs, o⟩ := E
  have h' : 3 ≤ md := h
  unfold est
  simp only
  rw [if_neg (by omega), if_neg (by omega), if_neg (by omega)]
theorem Rc.det {b : Nat → Nat} {n : Nat} {nl : Bool} {E F H : xE} (h1 : Rc b n nl E F) (h2 : Rc b n nl E H) (f1 : 3 ≤ F.1) (f2 : 3 ≤ H.1) : F = H := by
  obtain ⟨k, rfl⟩ := h1
  obtain ⟨j, rfl⟩ := h2
  have e1 := itE_fix (b := b) (n := n) (nl := nl) (est_fix f1) j
  have e2 := itE_fix (b := b) (n := n) (nl := nl) (est_fix f2) k
  rw [← itE_add] at e1 e2
  rw [← e1, ← e2, Nat.add_comm]
/-! pops -/
def red (k : Nat) : List Nat → List Nat × List xAct
  | [] => ([], [])
  | c :: P => if k ≤ sgs c then ((red k P).1, (c, 0, 0) :: (red k P).2) else (c :: P, [])
def pmn : List Nat → List Nat × List xAct
  | [] => ([], [])
  | c :: P => if c = 1000 then ((pmn P).1, (3, 0, 0) :: (pmn P).2) else (c :: P, [])
theorem sgs_40 : sgs 40 = 0 := by decide
theorem sgs_op {c : Nat} (h : 1 ≤ sgs c) : c ≠ 40 ∧ c ≠ 1000 ∧ c ≠ 0 ∧ c ≠ 1 ∧ c ≠ 2 ∧ c ≠ 3 ∧ c ≠ 4 ∧ c < 100 := by
  unfold sgs at h
  split at h
  · omega
  · split at h
    · omega
    · split at h <;> omega
theorem sgs_le (c : Nat) : sgs c ≤ 3 := by
  unfold sgs
  split
  · omega
  · split
    · omega
    · split <;> omega
theorem ndk_ge (c : Nat) (cs : List Bool) (lv : Nat) : 1 ≤ ndk c cs lv := by
  unfold ndk
  split
  · omega
  · split
    · omega
    · split <;> omega
theorem Rc_red {b : Nat → Nat} {n p u : Nat} {nl : Bool} {cs : List Bool} {k : Nat} : ∀ (P : List Nat) (o : List xAct), ndk (tC b n p) cs (lvl P) = k → Rc b n nl (1, p, u, P, cs, o) (1, p, u, (red k P).1, cs, o ++ (red k P).2) := by
  intro P
  induction P with
  | nil => intro o h; simp only [red, List.append_nil]; exact Rc.rf
  | cons c P ih =>
    intro o h
    by_cases hk : k ≤ sgs c
    · have hop := sgs_op (c := c) (by have := ndk_ge (tC b n p) cs (lvl (c :: P)); omega)
      have hl : lvl (c :: P) = lvl P := by simp [lvl, hop.1]
      have h2 := ih (o ++ [(c, 0, 0)]) (by rw [← hl]; exact h)
      simp only [red, if_pos hk]
      rw [List.append_assoc, List.singleton_append] at h2
      refine Rc.tr (Rc.st ?_) h2
      unfold est
      simp only
      rw [if_neg (by omega), if_neg (by omega), if_pos trivial, if_pos (by rw [h]; exact hk)]
      rfl
    · simp only [red, if_neg hk, List.append_nil]
      exact Rc.rf
theorem Rc_pmn {b : Nat → Nat} {n p u : Nat} {nl : Bool} {cs : List Bool} : ∀ (P : List Nat) (o : List xAct), Rc b n nl (2, p, u, P, cs, o) (1, p, u, (pmn P).1, cs, o ++ (pmn P).2) := by
  intro P
  induction P with
  | nil => intro o; simp only [pmn, List.append_nil]; exact Rc.st rfl
  | cons c P ih =>
    intro o
    by_cases hk : c = 1000
    · have h2 := ih (o ++ [(3, 0, 0)])
      simp only [pmn, if_pos hk]
      rw [List.append_assoc, List.singleton_append] at h2
      refine Rc.tr (Rc.st ?_) h2
      unfold est
      simp only
      rw [if_neg (by omega), if_pos trivial, if_pos (by rw [hk]; rfl)]
      rfl
    · simp only [pmn, if_neg hk, List.append_nil]
      refine Rc.st ?_
      unfold est
      simp only
      rw [if_neg (by omega), if_pos trivial, if_neg (by simpa using hk)]
/-! heights -/
def hgt : List xAct → Nat → Option Nat
  | [], k => some k
  | a :: L, k => if a.1 = 1 ∨ a.1 = 2 then hgt L (k + 1) else if a.1 = 3 then (if k = 0 then none else hgt L k) else (if k < 2 then none else hgt L (k - 1))
theorem hgt_app : ∀ (L M : List xAct) (k : Nat), hgt (L ++ M) k = (hgt L k).bind (fun j => hgt M j) := by
  intro L
  induction L with
  | nil => intro M k; rfl
  | cons a L ih =>
    intro M k
    simp only [List.cons_append, hgt]
    split
    · exact ih M _
    · split
      · split
        · rfl
        · exact ih M _
      · split
        · rfl
        · exact ih M _
def lvs (L : List xAct) : Nat := (L.filter (fun a => decide (a.1 = 1) || decide (a.1 = 2))).length
theorem lvs_app (L M : List xAct) : lvs (L ++ M) = lvs L + lvs M := by simp [lvs, List.filter_append]
/-- an act that may stand in an exp -/
def aok (nl : Bool) (a : xAct) : Prop := (a.1 = 1 ∨ a.1 = 2 ∨ a.1 = 3 ∨ 1 ≤ sgs a.1) ∧ (a.1 = 2 → a.2.1 < 26 ∧ (nl = true → a.2.1 < 16))
def mok : List Nat → Prop
  | [] => True
  | c :: P => (c = 40 ∨ c = 1000 ∨ (1 ≤ sgs c ∧ P.head? ≠ some 1000)) ∧ mok P
def wmd (md : Nat) : Nat := if md = 0 ∨ md = 4 then 0 else 1
/-- what holds all along -/
def eI (n u0 : Nat) (nl : Bool) (E : xE) : Prop :=
  match E with
  | (md, p, u, P, cs, o) => p ≤ n ∧ u0 ≤ u ∧ u ≤ 60 ∧ md ≤ 4 ∧ P.length + wmd md ≤ u - u0 ∧ o.length + nop P + wmd md ≤ 2 * (u - u0) ∧ opn P ≤ 8 ∧ cs.length = lvl P + 1 ∧ mok P ∧ (md = 1 ∨ md = 3 → P.head? ≠ some 1000) ∧ (md ≠ 4 → hgt o 0 = some (ops P + wmd md)) ∧ lvs o ≤ u - u0 ∧ (∀ a ∈ o, aok nl a) ∧ (md = 3 → P = [])
theorem tLt_lt {b : Nat → Nat} {n p : Nat} (h : tC b n p = 2) : tLt b n p < 26 := by
  unfold tC at h
  unfold tLt
  split at h
  · omega
  · split at h
    · next q => simp [isLt] at q; omega
    · split at h
      · split at h <;> omega
      · split at h <;> omega
theorem mok_top {P : List Nat} (h : mok P) (h1 : P.head? ≠ some 1000) (h2 : tps P = 0) : P = [] ∨ ∃ Q, P = 40 :: Q := by
  cases P with
  | nil => exact Or.inl rfl
  | cons c Q =>
    rcases h.1 with rfl | rfl | h3
    · exact Or.inr ⟨Q, rfl⟩
    · exact absurd rfl h1
    · simp only [tps] at h2; omega
theorem tE_le' {b : Nat → Nat} {n p : Nat} (h : p ≤ n) : tE b n p ≤ n := tE_le h
set_option maxHeartbeats 4000000 in
theorem eI_st {b : Nat → Nat} {n u0 : Nat} {nl : Bool} {E : xE} (h : eI n u0 nl E) : eI n u0 nl (est b n nl E) := by
  obtain ⟨md, p, u, P, cs, o⟩ := E
  obtain ⟨h1, h2, h3, h4, h5, h6, h7, h8, h9, h10, h11, h12, h13, h14⟩ := h
  have hE := tE_le (b := b) h1
  unfold est
  simp only
  by_cases m0 : md = 0
  · subst m0
    rw [if_pos rfl]
    have hw : wmd 0 = 0 := rfl
    rw [hw] at h5 h6
    have h11' := h11 (by decide)
    rw [hw] at h11'
    have flt : eI n u0 nl (4, p, u, P, cs, o) := ⟨h1, h2, h3, by omega, by show P.length + 0 ≤ _; omega, by show o.length + nop P + 0 ≤ _; omega, h7, h8, h9, fun q => by omega, fun q => absurd rfl q, h12, h13, fun q => by omega⟩
    split
    · split
      · exact flt
      · next q =>
        split
        · refine ⟨hE, by omega, by omega, by omega, ?_, ?_, ?_, ?_, ⟨Or.inl rfl, h9⟩, fun z => by omega, fun _ => ?_, by omega, h13, fun z => by omega⟩
          · simp only [List.length_cons, hw]; omega
          · simp only [nop, hw, if_pos]; omega
          · simp only [opn, true_or, if_pos]; omega
          · simp only [lvl, List.length_cons, if_pos]; omega
          · rw [h11']; simp [ops, hw]
        · refine ⟨hE, by omega, by omega, by omega, ?_, ?_, ?_, ?_, ⟨Or.inr (Or.inl rfl), h9⟩, fun z => by omega, fun _ => ?_, by omega, h13, fun z => by omega⟩
          · simp only [List.length_cons, hw]; omega
          · simp [nop, hw]; omega
          · simp only [opn, or_true, if_pos]; omega
          · simp [lvl]; omega
          · rw [h11']; simp [ops, hw]
    · split
      · next q =>
        split
        · exact flt
        · have hw2 : wmd 2 = 1 := rfl
          refine ⟨hE, by omega, by omega, by omega, by rw [hw2]; omega, ?_, h7, h8, h9, fun z => by omega, fun _ => ?_, ?_, ?_, fun z => by omega⟩
          · rw [hw2, List.length_append]; simp only [List.length_singleton]; omega
          · rw [hgt_app, h11', hw2]
            by_cases e : tC b n p = 3
            · rw [if_pos e]; rfl
            · rw [if_neg e]; rfl
          · rw [lvs_app]
            have : lvs [if tC b n p = 3 then ((1, 0, lN (tNm b n p)) : xAct) else (2, tLt b n p, 0)] ≤ 1 := by
              by_cases e : tC b n p = 3
              · rw [if_pos e]; exact Nat.le_refl 1
              · rw [if_neg e]; exact Nat.le_refl 1
            omega
          · intro a ha
            rcases List.mem_append.mp ha with ha | ha
            · exact h13 a ha
            · rw [List.mem_singleton] at ha
              subst ha
              by_cases e : tC b n p = 3
              · rw [if_pos e]; exact ⟨Or.inl rfl, fun z => absurd (show (1 : Nat) = 2 from z) (by decide)⟩
              · rw [if_neg e]
                have e2 := q.resolve_left e
                refine ⟨Or.inr (Or.inl rfl), fun _ => ⟨tLt_lt e2.1, fun z => ?_⟩⟩
                have := e2.2
                show tLt b n p < 16
                rcases Nat.lt_or_ge (tLt b n p) 16 with y | y
                · exact y
                · exact absurd ⟨z, y⟩ this
      · exact flt
  · rw [if_neg m0]
    by_cases m2 : md = 2
    · subst m2
      rw [if_pos rfl]
      have hw : wmd 2 = 1 := rfl
      have h11' := h11 (by decide)
      rw [hw] at h5 h6 h11'
      split
      · next q =>
        cases P with
        | nil => simp at q
        | cons c P =>
          simp only [List.head?_cons, Option.some.injEq] at q
          subst q
          simp only [List.length_cons, nop, opn, lvl, ops] at h5 h6 h7 h8 h11'
          simp at h6 h7 h8 h11'
          refine ⟨h1, h2, h3, by omega, ?_, ?_, ?_, ?_, h9.2, fun z => by omega, fun _ => ?_, ?_, ?_, fun z => by omega⟩
          · rw [hw]; simp only [List.tail_cons]; omega
          · rw [hw, List.length_append]; simp only [List.length_singleton, List.tail_cons]; omega
          · simp only [List.tail_cons]; omega
          · simp only [List.tail_cons]; omega
          · rw [hgt_app, h11', hw]; simp [hgt]
          · rw [lvs_app]; exact h12
          · intro a ha
            rcases List.mem_append.mp ha with ha | ha
            · exact h13 a ha
            · rw [List.mem_singleton] at ha
              subst ha
              exact ⟨Or.inr (Or.inr (Or.inl rfl)), fun z => absurd z (by decide)⟩
      · next q => exact ⟨h1, h2, h3, by omega, h5, h6, h7, h8, h9, fun _ => q, fun _ => h11', h12, h13, fun z => by omega⟩
    · rw [if_neg m2]
      by_cases m1 : md = 1
      · subst m1
        rw [if_pos rfl]
        have hw : wmd 1 = 1 := rfl
        have h11' := h11 (by decide)
        have h10' := h10 (Or.inl rfl)
        rw [hw] at h5 h6 h11'
        split
        · next q =>
          have hk := ndk_ge (tC b n p) cs (lvl P)
          cases P with
          | nil => simp only [tps] at q; omega
          | cons c P =>
            simp only [tps] at q
            have hop := sgs_op (c := c) (by omega)
            simp only [List.length_cons, nop, opn, lvl, ops, hop.1, hop.2.1, false_or, if_false] at h5 h6 h7 h8 h11'
            have h9' : P.head? ≠ some 1000 := by
              rcases h9.1 with z | z | z
              · exact absurd z hop.1
              · exact absurd z hop.2.1
              · exact z.2
            refine ⟨h1, h2, h3, by omega, ?_, ?_, ?_, ?_, h9.2, fun z => h9', fun _ => ?_, ?_, ?_, fun z => by omega⟩
            · rw [hw]; simp only [List.tail_cons]; omega
            · rw [hw, List.length_append]; simp only [List.length_singleton, List.tail_cons]; omega
            · simpa using h7
            · simpa using h8
            · rw [hgt_app, h11', hw]
              show hgt [(c, 0, 0)] (ops P + 1 + 1) = some (ops P + 1)
              simp only [hgt]
              rw [if_neg (by omega), if_neg (by omega), if_neg (by omega)]
              rfl
            · rw [lvs_app]
              have : lvs [((c, 0, 0) : xAct)] = 0 := by
                show (List.filter _ [((c, 0, 0) : xAct)]).length = 0
                rw [List.filter_cons_of_neg (by simp; omega)]
                rfl
              show lvs o + lvs [((c, 0, 0) : xAct)] ≤ _
              omega
            · intro a ha
              rcases List.mem_append.mp ha with ha | ha
              · exact h13 a ha
              · rw [List.mem_singleton] at ha
                subst ha
                exact ⟨Or.inr (Or.inr (Or.inr (by show 1 ≤ sgs c; omega))), fun z => absurd (show c = 2 from z) (by omega)⟩
        · next q =>
          split
          · next q2 =>
            have hk1 : ndk (tC b n p) cs (lvl P) = 1 := by unfold ndk; rw [if_pos q2]
            rw [hk1] at q
            rcases mok_top h9 h10' (by omega) with rfl | ⟨Q, rfl⟩
            · simp [lvl] at q2
            · simp only [List.length_cons, nop, opn, lvl, ops, true_or, if_true] at h5 h6 h7 h8 h11'
              have hw2 : wmd 2 = 1 := rfl
              refine ⟨hE, h2, h3, by omega, ?_, ?_, ?_, ?_, h9.2, fun z => by omega, fun _ => ?_, h12, h13, fun z => by omega⟩
              · rw [hw2]; simp only [List.tail_cons]; omega
              · rw [hw2]; simp only [List.tail_cons]; omega
              · simp only [List.tail_cons]; omega
              · simp only [List.tail_cons, List.length_tail]; omega
              · rw [h11', hw2]; rfl
          · next q2 =>
            split
            · next q3 =>
              have hs : 1 ≤ sgs (tC b n p - 100) := by omega
              have hop := sgs_op hs
              have hw0 : wmd 0 = 0 := rfl
              refine ⟨hE, h2, h3, by omega, ?_, ?_, ?_, ?_, ⟨Or.inr (Or.inr ⟨hs, h10'⟩), h9⟩, fun z => by omega, fun _ => ?_, h12, h13, fun z => by omega⟩
              · rw [hw0, List.length_cons]; omega
              · rw [hw0]; simp only [nop, if_neg hop.1]; omega
              · simp only [opn, hop.1, hop.2.1, or_self, if_false]; omega
              · simp only [lvl, if_neg hop.1]
                split
                · simp only [List.length_cons, List.length_tail]; omega
                · omega
              · rw [h11', hw0]; simp only [ops, hop.1, hop.2.1, or_self, if_false]
            · next q3 =>
              split
              · exact ⟨h1, h2, h3, by omega, by show P.length + 0 ≤ _; omega, by show o.length + nop P + 0 ≤ _; omega, h7, h8, h9, fun z => by omega, fun z => absurd rfl z, h12, h13, fun z => by omega⟩
              · next q4 =>
                have hk1 : ndk (tC b n p) cs (lvl P) = 1 := by
                  unfold ndk
                  rw [if_neg q2, if_neg (fun z => q3 (Or.inl z)), if_neg (fun z => q3 (Or.inr z))]
                rw [hk1] at q
                have hP : P = [] := by
                  rcases mok_top h9 h10' (by omega) with rfl | ⟨Q, rfl⟩
                  · rfl
                  · simp [lvl] at q4
                exact ⟨h1, h2, h3, by omega, h5, h6, h7, h8, h9, fun _ => h10', fun _ => h11', h12, h13, fun _ => hP⟩
      · rw [if_neg m1]
        exact ⟨h1, h2, h3, h4, h5, h6, h7, h8, h9, h10, h11, h12, h13, h14⟩
theorem eI_rc {b : Nat → Nat} {n u0 : Nat} {nl : Bool} {E F : xE} (h : eI n u0 nl E) (r : Rc b n nl E F) : eI n u0 nl F := by
  obtain ⟨k, rfl⟩ := r
  induction k generalizing E with
  | zero => exact h
  | succ k ih => exact ih (eI_st h)
theorem eI_0 {n u : Nat} {nl : Bool} {p : Nat} (hp : p ≤ n) (hu : u ≤ 60) : eI n u nl (0, p, u, [], [false], []) :=
  ⟨hp, Nat.le_refl _, hu, by omega, by show 0 + 0 ≤ _; omega, by show 0 + 0 + 0 ≤ _; omega, by show 0 ≤ 8; omega, rfl, trivial, (fun z => by omega), (fun _ => rfl), (by show 0 ≤ _; omega), (fun a ha => absurd ha (List.not_mem_nil)), (fun _ => rfl)⟩
/-- an exp read from p on with u unaries: the fault's place, or where it ends, the unaries, the acts -/
def expR (b : Nat → Nat) (n : Nat) (nl : Bool) (p u : Nat) (r : Nat ⊕ (Nat × Nat × List xAct)) : Prop := match r with
  | .inl q => ∃ p' u' P cs o, Rc b n nl (0, p, u, [], [false], []) (4, p', u', P, cs, o) ∧ q = tS b n p'
  | .inr (p', u', L) => ∃ P cs, Rc b n nl (0, p, u, [], [false], []) (3, p', u', P, cs, L)
theorem expR.det {b : Nat → Nat} {n : Nat} {nl : Bool} {p u : Nat} {r r' : Nat ⊕ (Nat × Nat × List xAct)} (h : expR b n nl p u r) (h' : expR b n nl p u r') : r = r' := by
  cases r with
  | inl q =>
    obtain ⟨p1, u1, P1, c1, o1, a1, e1⟩ := h
    cases r' with
    | inl q' =>
      obtain ⟨p2, u2, P2, c2, o2, a2, e2⟩ := h'
      have := a1.det a2 (by show 3 ≤ 4; omega) (by show 3 ≤ 4; omega)
      simp only [Prod.mk.injEq] at this
      rw [e1, e2, this.2.1]
    | inr z =>
      obtain ⟨p2, u2, L⟩ := z
      obtain ⟨P2, c2, a2⟩ := h'
      have := a1.det a2 (by show 3 ≤ 4; omega) (Nat.le_refl 3)
      simp at this
  | inr z =>
    obtain ⟨p1, u1, L1⟩ := z
    obtain ⟨P1, c1, a1⟩ := h
    cases r' with
    | inl q' =>
      obtain ⟨p2, u2, P2, c2, o2, a2, e2⟩ := h'
      have := a1.det a2 (Nat.le_refl 3) (by show 3 ≤ 4; omega)
      simp at this
    | inr z =>
      obtain ⟨p2, u2, L⟩ := z
      obtain ⟨P2, c2, a2⟩ := h'
      have := a1.det a2 (Nat.le_refl 3) (Nat.le_refl 3)
      simp only [Prod.mk.injEq] at this
      rw [this.2.1, this.2.2.1, this.2.2.2.2.2]
/-- the exp read, as a function -/
noncomputable def expF (b : Nat → Nat) (n : Nat) (nl : Bool) (p u : Nat) : Nat ⊕ (Nat × Nat × List xAct) := Classical.epsilon (fun r => expR b n nl p u r)
theorem expR.F {b : Nat → Nat} {n : Nat} {nl : Bool} {p u : Nat} {r : Nat ⊕ (Nat × Nat × List xAct)} (h : expR b n nl p u r) : expF b n nl p u = r := (Classical.epsilon_spec (p := fun r => expR b n nl p u r) ⟨r, h⟩).det h
/-- what is known of an exp that was read -/
def wfX (nl : Bool) (L : List xAct) : Prop := hgt L 0 = some 1 ∧ lvs L ≤ 60 ∧ ∀ a ∈ L, aok nl a
theorem expR.wf {b : Nat → Nat} {n : Nat} {nl : Bool} {p u p' u' : Nat} {L : List xAct} (hp : p ≤ n) (hu : u ≤ 60) (h : expR b n nl p u (.inr (p', u', L))) : wfX nl L ∧ p' ≤ n ∧ u ≤ u' ∧ u' ≤ 60 ∧ L.length + 1 ≤ 2 * (u' - u) := by
  obtain ⟨P, cs, a⟩ := h
  obtain ⟨h1, h2, h3, h4, h5, h6, h7, h8, h9, h10, h11, h12, h13, h14⟩ := eI_rc (eI_0 hp hu) a
  have hP := h14 rfl
  subst hP
  refine ⟨⟨by simpa [ops, wmd] using h11 (by decide), by omega, h13⟩, h1, h2, h3, ?_⟩
  simpa [nop, wmd] using h6
/-! it ends -/
def eM (n : Nat) (E : xE) : Nat := 4 * (n - E.2.1) + 2 * E.2.2.2.1.length + (if E.1 = 2 then 1 else 0)
theorem tC_sg {b : Nat → Nat} {n p : Nat} (h : 1 ≤ sgs (tC b n p - 100)) : tC b n p ≠ 0 := by
  intro e
  rw [e] at h
  exact absurd h (by decide)
theorem est_go {b : Nat → Nat} {n : Nat} {nl : Bool} {E : xE} (hp : E.2.1 ≤ n) (h : E.1 < 3) : E.2.1 ≤ (est b n nl E).2.1 ∧ (est b n nl E).2.1 ≤ n ∧ (est b n nl E).1 ≤ 4 ∧ (3 ≤ (est b n nl E).1 ∨ eM n (est b n nl E) < eM n E) := by
  obtain ⟨md, p, u, P, cs, o⟩ := E
  have hp' : p ≤ n := hp
  have h' : md < 3 := h
  have hE := tE_le (b := b) hp'
  have hG : tC b n p ≠ 0 → p < tE b n p := tE_gt
  unfold est
  simp only
  by_cases m0 : md = 0
  · subst m0
    rw [if_pos rfl]
    split
    · next q =>
      have hg := hG (by omega)
      split
      · exact ⟨Nat.le_refl _, hp', Nat.le_refl 4, Or.inl (by show 3 ≤ 4; omega)⟩
      · split
        · refine ⟨Nat.le_of_lt hg, hE, by show 0 ≤ 4; omega, Or.inr ?_⟩
          simp only [eM, List.length_cons]; simp; omega
        · refine ⟨Nat.le_of_lt hg, hE, by show 0 ≤ 4; omega, Or.inr ?_⟩
          simp only [eM, List.length_cons]; simp; omega
    · split
      · next q =>
        have hg := hG (by omega)
        split
        · exact ⟨Nat.le_refl _, hp', Nat.le_refl 4, Or.inl (by show 3 ≤ 4; omega)⟩
        · refine ⟨Nat.le_of_lt hg, hE, by show 2 ≤ 4; omega, Or.inr ?_⟩
          simp only [eM]; simp; omega
      · exact ⟨Nat.le_refl _, hp', Nat.le_refl 4, Or.inl (by show 3 ≤ 4; omega)⟩
  · rw [if_neg m0]
    by_cases m2 : md = 2
    · subst m2
      rw [if_pos rfl]
      split
      · next q =>
        cases P with
        | nil => simp at q
        | cons c P =>
          refine ⟨Nat.le_refl _, hp', by show 2 ≤ 4; omega, Or.inr ?_⟩
          simp only [eM, List.length_cons, List.tail_cons]; simp
      · refine ⟨Nat.le_refl _, hp', by show 1 ≤ 4; omega, Or.inr ?_⟩
        simp only [eM]; simp
    · rw [if_neg m2]
      have m1 : md = 1 := by omega
      subst m1
      rw [if_pos rfl]
      split
      · next q =>
        have hk := ndk_ge (tC b n p) cs (lvl P)
        cases P with
        | nil => simp only [tps] at q; omega
        | cons c P =>
          refine ⟨Nat.le_refl _, hp', by show 1 ≤ 4; omega, Or.inr ?_⟩
          simp only [eM, List.length_cons, List.tail_cons]; simp
      · split
        · next q =>
          have hg := hG (by omega)
          refine ⟨Nat.le_of_lt hg, hE, by show 2 ≤ 4; omega, Or.inr ?_⟩
          have : P.tail.length ≤ P.length := by simp
          simp only [eM]; simp; omega
        · split
          · next q =>
            have hg := hG (tC_sg (by omega))
            refine ⟨Nat.le_of_lt hg, hE, by show 0 ≤ 4; omega, Or.inr ?_⟩
            simp only [eM, List.length_cons]; simp; omega
          · split
            · exact ⟨Nat.le_refl _, hp', Nat.le_refl 4, Or.inl (by show 3 ≤ 4; omega)⟩
            · exact ⟨Nat.le_refl _, hp', by show 3 ≤ 4; omega, Or.inl (Nat.le_refl 3)⟩
theorem est_tot {b : Nat → Nat} {n : Nat} {nl : Bool} : ∀ (k : Nat) (E : xE), eM n E < k → E.2.1 ≤ n → E.1 ≤ 4 → ∃ F, Rc b n nl E F ∧ 3 ≤ F.1 ∧ F.1 ≤ 4 ∧ E.2.1 ≤ F.2.1 := by
  intro k
  induction k with
  | zero => intro E h; omega
  | succ k ih =>
    intro E h hp h4
    by_cases h3 : E.1 < 3
    · obtain ⟨g1, g2, g3, g4⟩ := est_go (b := b) (nl := nl) hp h3
      rcases g4 with g4 | g4
      · exact ⟨_, Rc.st rfl, g4, g3, g1⟩
      · obtain ⟨F, f1, f2, f3, f4⟩ := ih (est b n nl E) (by omega) g2 g3
        exact ⟨F, Rc.tr (Rc.st rfl) f1, f2, f3, Nat.le_trans g1 f4⟩
    · exact ⟨E, Rc.rf, by omega, h4, Nat.le_refl _⟩
theorem expR_tot {b : Nat → Nat} {n : Nat} {nl : Bool} {p u : Nat} (hp : p ≤ n) : expR b n nl p u (expF b n nl p u) ∧ ∀ p' u' L, expF b n nl p u = .inr (p', u', L) → p ≤ p' := by
  obtain ⟨F, f1, f2, f3, f4⟩ := est_tot (b := b) (n := n) (nl := nl) _ (0, p, u, [], [false], []) (Nat.lt_succ_self _) hp (by show 0 ≤ 4; omega)
  obtain ⟨md, p', u', P, cs, o⟩ := F
  have f2' : 3 ≤ md := f2
  have f3' : md ≤ 4 := f3
  rcases (show md = 3 ∨ md = 4 by omega) with rfl | rfl
  · have h : expR b n nl p u (.inr (p', u', o)) := ⟨P, cs, f1⟩
    rw [h.F]
    refine ⟨h, fun a b c e => ?_⟩
    cases e
    exact f4
  · have h : expR b n nl p u (.inl (tS b n p')) := ⟨p', u', P, cs, o, f1, rfl⟩
    rw [h.F]
    exact ⟨h, fun a b c e => by cases e⟩
