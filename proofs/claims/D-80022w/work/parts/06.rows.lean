/-! rows of V: entry, locals, constants, arithmetic, branches, returns -/
set_option maxRecDepth 100000
theorem lset_get : ∀ (ls : List (Option Value)) (i j : Nat) (v w : Value), (lset ls i v)[j]? = some (some w) → (j = i ∧ w = v) ∨ (j ≠ i ∧ ls[j]? = some (some w) ∧ ¬ (j + 1 = i ∧ w.category = 2) ∧ (v.category = 2 → j ≠ i + 1)) := by
  intro ls
  induction ls with
  | nil => intro i j v w h; simp [lset] at h
  | cons x r ih =>
    intro i j v w h
    match i, h with
    | 0, h =>
      cases j with
      | zero => simp [lset] at h; exact Or.inl ⟨rfl, h.symm⟩
      | succ j =>
        refine Or.inr ⟨by omega, ?_, fun q => by omega, ?_⟩
        · cases v <;> simp [lset] at h ⊢ <;> first | exact h | (cases r with
            | nil => simp at h
            | cons y r' =>
              cases j with
              | zero => simp at h
              | succ j => simpa using h)
        · intro hc
          cases v <;> simp [Value.category] at hc <;> (cases r with
            | nil => simp [lset] at h
            | cons y r' =>
              cases j with
              | zero => simp [lset] at h
              | succ j => omega)
    | 1, h =>
      cases j with
      | zero =>
        refine Or.inr ⟨by omega, ?_, ?_, fun _ => by omega⟩
        · cases x with
          | none => simp [lset] at h
          | some y => cases y <;> simp [lset] at h ⊢ <;> exact h
        · rintro ⟨-, hc⟩
          cases x with
          | none => simp [lset] at h
          | some y => cases y <;> simp [lset] at h <;> (subst h; simp [Value.category] at hc)
      | succ j =>
        have h' : (lset r 0 v)[j]? = some (some w) := by cases x with
          | none => simpa [lset] using h
          | some y => cases y <;> simpa [lset] using h
        rcases ih 0 j v w h' with ⟨q1, q2⟩ | ⟨q1, q2, q3, q4⟩
        · exact Or.inl ⟨by omega, q2⟩
        · exact Or.inr ⟨by omega, by simpa using q2, fun z => by omega, fun z => by have := q4 z; omega⟩
    | i + 2, h =>
      cases j with
      | zero => exact Or.inr ⟨by omega, by simpa [lset] using h, fun q => by omega, fun _ => by omega⟩
      | succ j =>
        have h' : (lset r (i + 1) v)[j]? = some (some w) := by simpa [lset] using h
        rcases ih (i + 1) j v w h' with ⟨q1, q2⟩ | ⟨q1, q2, q3, q4⟩
        · exact Or.inl ⟨by omega, q2⟩
        · exact Or.inr ⟨by omega, by simpa using q2, fun z => q3 ⟨by omega, z.2⟩, fun z => by have := q4 z; omega⟩
def lprs : Nat → List (Option Value) → List (Nat × Value)
  | _, [] => []
  | n, none :: r => lprs (n + 1) r
  | n, some v :: r => (n, v) :: lprs (n + 1) r
theorem lprs_mem : ∀ (ls : List (Option Value)) (n i : Nat) (v : Value), ls[i]? = some (some v) → (n + i, v) ∈ lprs n ls := by
  intro ls
  induction ls with
  | nil => intro n i v h; simp at h
  | cons x r ih =>
    intro n i v h
    cases i with
    | zero =>
      simp at h
      subst h
      simp [lprs]
    | succ i =>
      have h1 := ih (n + 1) i v (by simpa using h)
      have e : n + 1 + i = n + (i + 1) := by omega
      rw [e] at h1
      cases x with
      | none => simpa [lprs] using h1
      | some y => simp only [lprs, List.mem_cons]; exact Or.inr h1
theorem lprs_of : ∀ (ls : List (Option Value)) (n : Nat) (q : Nat × Value), q ∈ lprs n ls → ∃ i, q.1 = n + i ∧ ls[i]? = some (some q.2) := by
  intro ls
  induction ls with
  | nil => intro n q h; simp [lprs] at h
  | cons x r ih =>
    intro n q h
    cases x with
    | none =>
      simp only [lprs] at h
      obtain ⟨i, e, g⟩ := ih (n + 1) q h
      exact ⟨i + 1, by omega, by simpa using g⟩
    | some y =>
      simp only [lprs, List.mem_cons] at h
      rcases h with rfl | h
      · exact ⟨0, by simp, by simp⟩
      · obtain ⟨i, e, g⟩ := ih (n + 1) q h
        exact ⟨i + 1, by omega, by simpa using g⟩
theorem xloc.has {lsA : Array Slot} {nL : Nat} {ls : List (Option Value)} (h : xloc lsA nL ls) : lv_has lsA nL (lprs 0 ls) := by
  refine ⟨h.1, h.2.1, fun q hq => ?_⟩
  obtain ⟨i, e, g⟩ := lprs_of ls 0 q hq
  rw [e, Nat.zero_add]
  exact h.2.2 i _ g
theorem xloc.store1 {lsA : Array Slot} {nL : Nat} {ls : List (Option Value)} {i : Nat} {v : Value} (h : xloc lsA nL ls) (hi : i < nL) (hc : v.category = 1) : ∃ ls', storeLocals lsA i v = some ls' ∧ xloc ls' nL (lset ls i v) := by
  obtain ⟨ls', e, g⟩ := lv_store1 h.has hi hc
  refine ⟨ls', e, g.1, g.2.1, fun j w hj => ?_⟩
  refine g.2.2 (j, w) ?_
  rcases lset_get ls i j v w hj with ⟨q1, q2⟩ | ⟨q1, q2, q3, -⟩
  · rw [q1, q2]; exact List.mem_cons_self
  · refine List.mem_cons_of_mem _ (List.mem_filter.mpr ⟨by simpa using lprs_mem ls 0 j w q2, ?_⟩)
    simp only [Bool.and_eq_true, Bool.not_eq_true', beq_eq_false_iff_ne, ne_eq, Bool.and_eq_false_iff]
    refine ⟨q1, ?_⟩
    by_cases z : j + 1 = i
    · right; simpa using fun y => q3 ⟨z, y⟩
    · left; exact z
theorem xloc.store2 {lsA : Array Slot} {nL : Nat} {ls : List (Option Value)} {i : Nat} {v : Value} (h : xloc lsA nL ls) (hi : i + 1 < nL) (hc : v.category = 2) : ∃ ls', storeLocals lsA i v = some ls' ∧ xloc ls' nL (lset ls i v) := by
  obtain ⟨ls', e, g⟩ := lv_store2 h.has hi hc
  refine ⟨ls', e, g.1, g.2.1, fun j w hj => ?_⟩
  refine g.2.2 (j, w) ?_
  rcases lset_get ls i j v w hj with ⟨q1, q2⟩ | ⟨q1, q2, q3, q4⟩
  · rw [q1, q2]; exact List.mem_cons_self
  · refine List.mem_cons_of_mem _ (List.mem_filter.mpr ⟨by simpa using lprs_mem ls 0 j w q2, ?_⟩)
    simp only [Bool.and_eq_true, Bool.not_eq_true', beq_eq_false_iff_ne, ne_eq, Bool.and_eq_false_iff]
    refine ⟨q1, q4 hc, ?_⟩
    by_cases z : j + 1 = i
    · right; simpa using fun y => q3 ⟨z, y⟩
    · left; exact z
theorem lent_args : ∀ (av : List Value) (n i : Nat) (v : Value), (lent av)[i]? = some (some v) → (n + i, v) ∈ lv_args n av := by
  intro av
  induction av with
  | nil => intro n i v h; simp [lent] at h
  | cons x r ih =>
    intro n i v h
    cases i with
    | zero => cases x <;> simp [lent] at h <;> (subst h; simp [lv_args])
    | succ i =>
      cases x with
      | long y =>
        cases i with
        | zero => simp [lent] at h
        | succ i =>
          have h1 := ih (n + 2) i v (by simpa [lent] using h)
          have e : n + 2 + i = n + (i + 1 + 1) := by omega
          rw [e] at h1
          simp only [lv_args, Value.category, List.mem_cons]
          exact Or.inr (by simpa using h1)
      | double y =>
        cases i with
        | zero => simp [lent] at h
        | succ i =>
          have h1 := ih (n + 2) i v (by simpa [lent] using h)
          have e : n + 2 + i = n + (i + 1 + 1) := by omega
          rw [e] at h1
          simp only [lv_args, Value.category, List.mem_cons]
          exact Or.inr (by simpa using h1)
      | _ =>
        have h1 := ih (n + 1) i v (by simpa [lent] using h)
        have e : n + 1 + i = n + (i + 1) := by omega
        rw [e] at h1
        simp only [lv_args, Value.category, List.mem_cons]
        exact Or.inr (by simpa using h1)
theorem yW_spec {Y : xY} {args : Array Value} {s : State} {m : MethodId} (hn : s.methodNamed? Y.1 = some m) (h : (yW Y).before args s = true) :
    ∃ meth c, s.vm.method? m = some meth ∧ meth.code = some c ∧ c.code = yC Y ∧ c.maxLocals = yL Y ∧ meth.sig.returnType = yR Y ∧ meth.locks = false ∧ c.exceptionTable.toList.map (fun h => (h.startPc, h.endPc, h.handlerPc, h.catchType)) = yH Y ∧ parseMethodDescriptor Y.1.desc = some meth.sig := by
  obtain ⟨y, cc, nL, ret, hh⟩ := Y
  cases hh with
  | nil =>
    obtain ⟨meth, c, h1, h2, h3, h4, h5, h6, h7, h8⟩ := Cond.code_spec hn (show (Cond.code y cc nL ret).before args s = true from h)
    refine ⟨meth, c, h1, h2, h3, h4, h5, h6, ?_, h8⟩
    have h0 : c.exceptionTable.size = 0 := by simpa [Array.isEmpty] using h7
    have hz : c.exceptionTable.toList = [] := List.eq_nil_of_length_eq_zero (by simpa using h0)
    rw [hz]; rfl
  | cons q r =>
    obtain ⟨m9, meth, c, hn9, h1, h2, h3, h4, h7, h5, h6, h8⟩ := Cond.codeWith_spec (show (Cond.codeWith y cc nL ret (q :: r)).before args s = true from h)
    cases hn.symm.trans hn9
    exact ⟨meth, c, h1, h2, h3, h4, h5, h6, h7, h8⟩
/-- a contract out of the walk of its body -/
theorem AM.of {G : xG} {Y : xY} {d : Nat} {h : xH} {av : List Value} {Q : xQ} (hy : plainName Y.1.cls = true) (hl : (lg_sl av).length ≤ yL Y) (k : ∀ X : xX, V G Y d Q X h 0 (lent av ++ List.replicate (yL Y - (lent av).length) none) []) : AM G Y d h av Q := by
  intro hb1 hb2
  refine MetFree.of_bodyS (code := yC Y) (maxLocals := yL Y) (ret := yR Y) hy ?_ ?_
  · intro args s m h hn
    obtain ⟨meth, c, h1, h2, h3, h4, h5, h6, -⟩ := yW_spec hn (atoms_spec (ws := [yW Y]) h _ List.mem_cons_self)
    exact ⟨meth, c, h1, h2, h3, h4, h5, h6⟩
  · intro p e s m args below meth c s₁ B hml hP _
    obtain ⟨rfl, hT, hR⟩ := hP
    have hh0 : s₁.heap = s.heap := by rw [B.state]; rfl
    obtain ⟨meth', c', h1, h2, h3, h4, h5, h6, h7, -⟩ := yW_spec B.named (atoms_spec (ws := [yW Y]) B.pre _ List.mem_cons_self)
    have S0 := Stand.of_body B
    cases B.method.symm.trans h1
    cases S0.code.symm.trans h2
    have hv := lv_entry av hl
    have hxl : xloc ((lg_sl av ++ List.replicate (yL Y - (lg_sl av).length) Slot.unset).toArray) (yL Y) (lent av ++ List.replicate (yL Y - (lent av).length) none) := ⟨hv.1, hv.2.1, fun i v hi => by
      have hi : (lent av)[i]? = some (some v) := by
        by_cases hlt : i < (lent av).length
        · rwa [List.getElem?_append_left hlt] at hi
        · rw [List.getElem?_append_right (Nat.not_lt.mp hlt), List.getElem?_replicate] at hi
          split at hi <;> simp at hi
      have := hv.2.2 _ (lent_args av 0 i v hi)
      simpa using this⟩
    have K := k (p, e, s, m, av.toArray, below, meth, c, hN h, hK h) ⟨B.exec, B.bytes, hml, findClass_of_methodNamed B.named, hT, B.returns, B.notSynchronized, (name_of_methodNamed B.named B.method).1, h7⟩ s.heap [] _ hR (fun q hq => by cases hq) hxl ⟨Nat.le_refl _, hb1⟩ ⟨Nat.le_refl _, hb2⟩
    rw [Nat.sub_self, Nat.sub_self] at K
    obtain ⟨t, a1, o, b1, b2, b3⟩ := K s₁ hh0 S0
    refine ⟨t, o, ?_, b1, b2, b3⟩
    rw [lg_entry_eq]
    exact a1
theorem AM.mono {G : xG} {Y : xY} {d : Nat} {h : xH} {av : List Value} {Q Q' : xQ} (k : AM G Y d h av Q) (h1 : ∀ v u, Q.1 v u → Q'.1 v u) (h2 : ∀ v u, Q.2 v u → Q'.2 v u) : AM G Y d h av Q' := by
  intro hb1 hb2 p e q1 q2 q3 s m args below q4 q5 q6 q7
  obtain ⟨n, o, z1, z2, z3, h', L, y1, y2, y3, y4, y5, y6, y7⟩ := k hb1 hb2 p e q1 q2 q3 s m args below q4 q5 q6 q7
  refine ⟨n, o, z1, z2, z3, h', L, y1, y2, y3, y4, y5, y6, ?_⟩
  rcases y7 with ⟨v, a, b⟩ | ⟨v, a, b⟩
  · exact Or.inl ⟨v, a, h1 v _ b⟩
  · exact Or.inr ⟨v, a, h2 v _ b⟩
section Rows
variable {G : xG} {Y : xY} {d : Nat} {Q : xQ} {X : xX} {h : xH} {pc : Nat} {ls : List (Option Value)} {st : List Value}
theorem V.lift {pc' : Nat} {st' : List Value} (hw : ∀ (p : Program) (e : Env) (R : Room) (s : State) (m : MethodId) (args : Array Value) (below : List Frame) (meth : Method) (c : Code) (H : Heap) (locs : List Loc) (cells slots : Nat) (Q : State → Prop) (lsA : Array Slot), p.tables.exec = Jvm.exec → c.code = yC Y →
      W p (gL G) e R s m args below meth c H locs cells slots Q (F0 m pc' lsA st') → W p (gL G) e R s m args below meth c H locs cells slots Q (F0 m pc lsA st)) (k : V G Y d Q X h pc' ls st') : V G Y d Q X h pc ls st := by
  obtain ⟨p, e, s, m, args, below, meth, c, n0, k0⟩ := X
  intro ok H locs lsA hR hL hl hn hk
  exact hw _ _ _ _ _ _ _ _ _ _ _ _ _ _ _ ok.1 ok.2.1 (k ok H locs lsA hR hL hl hn hk)
theorem V.lift2 {pc1 pc2 : Nat} {st1 st2 : List Value} {a b : Prop} (hw : ∀ (p : Program) (e : Env) (R : Room) (s : State) (m : MethodId) (args : Array Value) (below : List Frame) (meth : Method) (c : Code) (H : Heap) (locs : List Loc) (cells slots : Nat) (Q : State → Prop) (lsA : Array Slot), p.tables.exec = Jvm.exec → c.code = yC Y →
      (a → W p (gL G) e R s m args below meth c H locs cells slots Q (F0 m pc1 lsA st1)) → (b → W p (gL G) e R s m args below meth c H locs cells slots Q (F0 m pc2 lsA st2)) → W p (gL G) e R s m args below meth c H locs cells slots Q (F0 m pc lsA st))
    (k1 : a → V G Y d Q X h pc1 ls st1) (k2 : b → V G Y d Q X h pc2 ls st2) : V G Y d Q X h pc ls st := by
  obtain ⟨p, e, s, m, args, below, meth, c, n0, k0⟩ := X
  intro ok H locs lsA hR hL hl hn hk
  exact hw _ _ _ _ _ _ _ _ _ _ _ _ _ _ _ ok.1 ok.2.1 (fun z => k1 z ok H locs lsA hR hL hl hn hk) (fun z => k2 z ok H locs lsA hR hL hl hn hk)
theorem V.liftL {pc' i : Nat} {v : Value} {st' : List Value} (hl : ls[i]? = some (some v)) (hw : ∀ (p : Program) (e : Env) (R : Room) (s : State) (m : MethodId) (args : Array Value) (below : List Frame) (meth : Method) (c : Code) (H : Heap) (locs : List Loc) (cells slots : Nat) (Q : State → Prop) (lsA : Array Slot), p.tables.exec = Jvm.exec → c.code = yC Y → lsA[i]? = some (.val v) →
      W p (gL G) e R s m args below meth c H locs cells slots Q (F0 m pc' lsA st') → W p (gL G) e R s m args below meth c H locs cells slots Q (F0 m pc lsA st)) (k : V G Y d Q X h pc' ls st') : V G Y d Q X h pc ls st := by
  obtain ⟨p, e, s, m, args, below, meth, c, n0, k0⟩ := X
  intro ok H locs lsA hR hL hl' hn hk
  exact hw _ _ _ _ _ _ _ _ _ _ _ _ _ _ _ ok.1 ok.2.1 (hl'.2.2 i v hl) (k ok H locs lsA hR hL hl' hn hk)
theorem V.liftS {pc' i : Nat} {v : Value} {st' : List Value} (hi : i < yL Y ∧ v.category = 1 ∨ i + 1 < yL Y ∧ v.category = 2) (hw : ∀ (p : Program) (e : Env) (R : Room) (s : State) (m : MethodId) (args : Array Value) (below : List Frame) (meth : Method) (c : Code) (H : Heap) (locs : List Loc) (cells slots : Nat) (Q : State → Prop) (lsA ls' : Array Slot), p.tables.exec = Jvm.exec → c.code = yC Y → storeLocals lsA i v = some ls' →
      W p (gL G) e R s m args below meth c H locs cells slots Q (F0 m pc' ls' st') → W p (gL G) e R s m args below meth c H locs cells slots Q (F0 m pc lsA st)) (k : V G Y d Q X h pc' (lset ls i v) st') : V G Y d Q X h pc ls st := by
  obtain ⟨p, e, s, m, args, below, meth, c, n0, k0⟩ := X
  intro ok H locs lsA hR hL hl' hn hk
  obtain ⟨ls', e', g⟩ : ∃ ls', storeLocals lsA i v = some ls' ∧ xloc ls' (yL Y) (lset ls i v) := by
    rcases hi with ⟨a, b⟩ | ⟨a, b⟩
    · exact hl'.store1 a b
    · exact hl'.store2 a b
  exact hw _ _ _ _ _ _ _ _ _ _ _ _ _ _ _ _ ok.1 ok.2.1 e' (k ok H locs ls' hR hL g hn hk)
/-! constants -/
theorem V.iconst {n : Int} (v : Int32) (hd : decode (yC Y) pc = .ok (.iconst n, 1)) (hv : Int32.ofInt n = v) (k : V G Y d Q X h (pc + 1) ls (.int v :: st)) : V G Y d Q X h pc ls st := V.lift (fun _ _ _ _ _ _ _ _ _ _ _ _ _ _ _ hx hb kk => lv_iconst hx hb hd hv kk) k
theorem V.bipush {n : Int} (v : Int32) (hd : decode (yC Y) pc = .ok (.bipush n, 2)) (hv : (Int8.ofInt n).toInt32 = v) (k : V G Y d Q X h (pc + 2) ls (.int v :: st)) : V G Y d Q X h pc ls st := V.lift (fun _ _ _ _ _ _ _ _ _ _ _ _ _ _ _ hx hb kk => lv_bipush hx hb hd hv kk) k
theorem V.sipush {n : Int} (v : Int32) (hd : decode (yC Y) pc = .ok (.sipush n, 3)) (hv : (Int16.ofInt n).toInt32 = v) (k : V G Y d Q X h (pc + 3) ls (.int v :: st)) : V G Y d Q X h pc ls st := V.lift (fun _ _ _ _ _ _ _ _ _ _ _ _ _ _ _ hx hb kk => lv_sipush hx hb hd hv kk) k
theorem V.lconst {n : Fin 2} (v : Int64) (hd : decode (yC Y) pc = .ok (.lconst n, 1)) (hv : Int64.ofNat (n : Nat) = v) (k : V G Y d Q X h (pc + 1) ls (.long v :: st)) : V G Y d Q X h pc ls st := V.lift (fun _ _ _ _ _ _ _ _ _ _ _ _ _ _ _ hx hb kk => lv_lconst hx hb hd hv kk) k
theorem V.null (hd : decode (yC Y) pc = .ok (.aconst_null, 1)) (k : V G Y d Q X h (pc + 1) ls (.null :: st)) : V G Y d Q X h pc ls st := V.lift (fun _ _ _ _ _ _ _ _ _ _ _ _ _ _ _ hx hb kk => lv_null hx hb hd kk) k
/-! loads and stores -/
theorem V.iload_n {k : Fin 4} {x : Int32} (hd : decode (yC Y) pc = .ok (.iload_n k, 1)) (hl : ls[(k : Nat)]? = some (some (.int x))) (kk : V G Y d Q X h (pc + 1) ls (.int x :: st)) : V G Y d Q X h pc ls st := V.liftL hl (fun _ _ _ _ _ _ _ _ _ _ _ _ _ _ _ hx hb hl kk => lv_iload_n hx hb hd rfl hl kk) kk
theorem V.iload {i : Nat} {x : Int32} (hd : decode (yC Y) pc = .ok (.iload i, 2)) (hl : ls[i]? = some (some (.int x))) (kk : V G Y d Q X h (pc + 2) ls (.int x :: st)) : V G Y d Q X h pc ls st := V.liftL hl (fun _ _ _ _ _ _ _ _ _ _ _ _ _ _ _ hx hb hl kk => lv_iload hx hb hd hl kk) kk
theorem V.lload_n {k : Fin 4} {x : Int64} (hd : decode (yC Y) pc = .ok (.lload_n k, 1)) (hl : ls[(k : Nat)]? = some (some (.long x))) (kk : V G Y d Q X h (pc + 1) ls (.long x :: st)) : V G Y d Q X h pc ls st := V.liftL hl (fun _ _ _ _ _ _ _ _ _ _ _ _ _ _ _ hx hb hl kk => lv_lload_n hx hb hd rfl hl kk) kk
theorem V.lload {i : Nat} {x : Int64} (hd : decode (yC Y) pc = .ok (.lload i, 2)) (hl : ls[i]? = some (some (.long x))) (kk : V G Y d Q X h (pc + 2) ls (.long x :: st)) : V G Y d Q X h pc ls st := V.liftL hl (fun _ _ _ _ _ _ _ _ _ _ _ _ _ _ _ hx hb hl kk => lv_lload hx hb hd hl kk) kk
theorem V.aload_n {k : Fin 4} {x : Nat} (hd : decode (yC Y) pc = .ok (.aload_n k, 1)) (hl : ls[(k : Nat)]? = some (some (.ref x))) (kk : V G Y d Q X h (pc + 1) ls (.ref x :: st)) : V G Y d Q X h pc ls st := V.liftL hl (fun _ _ _ _ _ _ _ _ _ _ _ _ _ _ _ hx hb hl kk => lv_aload_n hx hb hd rfl hl kk) kk
theorem V.aload {i : Nat} {x : Nat} (hd : decode (yC Y) pc = .ok (.aload i, 2)) (hl : ls[i]? = some (some (.ref x))) (kk : V G Y d Q X h (pc + 2) ls (.ref x :: st)) : V G Y d Q X h pc ls st := V.liftL hl (fun _ _ _ _ _ _ _ _ _ _ _ _ _ _ _ hx hb hl kk => lv_aload hx hb hd hl kk) kk
theorem V.aloadv_n {k : Fin 4} {r : Option Nat} (hd : decode (yC Y) pc = .ok (.aload_n k, 1)) (hl : ls[(k : Nat)]? = some (some (va_rf r))) (kk : V G Y d Q X h (pc + 1) ls (va_rf r :: st)) : V G Y d Q X h pc ls st := by
  cases r with
  | none => exact V.liftL (v := .null) hl (fun _ _ _ _ _ _ _ _ _ _ _ _ _ _ _ hx hb hl kk => lv_aload_nN hx hb hd rfl hl kk) kk
  | some a => exact V.aload_n hd hl kk
theorem V.aloadv {i : Nat} {r : Option Nat} (hd : decode (yC Y) pc = .ok (.aload i, 2)) (hl : ls[i]? = some (some (va_rf r))) (kk : V G Y d Q X h (pc + 2) ls (va_rf r :: st)) : V G Y d Q X h pc ls st := by
  cases r with
  | none => exact V.liftL (v := .null) hl (fun _ _ _ _ _ _ _ _ _ _ _ _ _ _ _ hx hb hl kk => lv_aloadN hx hb hd hl kk) kk
  | some a => exact V.aload hd hl kk
theorem V.istore_n {k : Fin 4} {x : Int32} (hd : decode (yC Y) pc = .ok (.istore_n k, 1)) (hi : (k : Nat) < yL Y) (kk : V G Y d Q X h (pc + 1) (lset ls k (.int x)) st) : V G Y d Q X h pc ls (.int x :: st) := V.liftS (Or.inl ⟨hi, rfl⟩) (fun _ _ _ _ _ _ _ _ _ _ _ _ _ _ _ _ hx hb e' kk => by
  intro T hT Z
  obtain ⟨t, a, b⟩ := kk T hT Z
  refine ⟨t, ?_, b⟩
  jvm_step Z.here [Z.here.top, ↓top_set Z.here.top, hx, hb, hd, e']
  exact a) kk
theorem V.istore {i : Nat} {x : Int32} (hd : decode (yC Y) pc = .ok (.istore i, 2)) (hi : i < yL Y) (kk : V G Y d Q X h (pc + 2) (lset ls i (.int x)) st) : V G Y d Q X h pc ls (.int x :: st) := V.liftS (Or.inl ⟨hi, rfl⟩) (fun _ _ _ _ _ _ _ _ _ _ _ _ _ _ _ _ hx hb e' kk => by
  intro T hT Z
  obtain ⟨t, a, b⟩ := kk T hT Z
  refine ⟨t, ?_, b⟩
  jvm_step Z.here [Z.here.top, ↓top_set Z.here.top, hx, hb, hd, e']
  exact a) kk
theorem V.lstore_n {k : Fin 4} {x : Int64} (hd : decode (yC Y) pc = .ok (.lstore_n k, 1)) (hi : (k : Nat) + 1 < yL Y) (kk : V G Y d Q X h (pc + 1) (lset ls k (.long x)) st) : V G Y d Q X h pc ls (.long x :: st) := V.liftS (Or.inr ⟨hi, rfl⟩) (fun _ _ _ _ _ _ _ _ _ _ _ _ _ _ _ _ hx hb e' kk => by
  intro T hT Z
  obtain ⟨t, a, b⟩ := kk T hT Z
  refine ⟨t, ?_, b⟩
  jvm_step Z.here [Z.here.top, ↓top_set Z.here.top, hx, hb, hd, e']
  exact a) kk
theorem V.lstore {i : Nat} {x : Int64} (hd : decode (yC Y) pc = .ok (.lstore i, 2)) (hi : i + 1 < yL Y) (kk : V G Y d Q X h (pc + 2) (lset ls i (.long x)) st) : V G Y d Q X h pc ls (.long x :: st) := V.liftS (Or.inr ⟨hi, rfl⟩) (fun _ _ _ _ _ _ _ _ _ _ _ _ _ _ _ _ hx hb e' kk => by
  intro T hT Z
  obtain ⟨t, a, b⟩ := kk T hT Z
  refine ⟨t, ?_, b⟩
  jvm_step Z.here [Z.here.top, ↓top_set Z.here.top, hx, hb, hd, e']
  exact a) kk
theorem V.astore_n {k : Fin 4} {x : Nat} (hd : decode (yC Y) pc = .ok (.astore_n k, 1)) (hi : (k : Nat) < yL Y) (kk : V G Y d Q X h (pc + 1) (lset ls k (.ref x)) st) : V G Y d Q X h pc ls (.ref x :: st) := V.liftS (Or.inl ⟨hi, rfl⟩) (fun _ _ _ _ _ _ _ _ _ _ _ _ _ _ _ _ hx hb e' kk => by
  intro T hT Z
  obtain ⟨t, a, b⟩ := kk T hT Z
  refine ⟨t, ?_, b⟩
  jvm_step Z.here [Z.here.top, ↓top_set Z.here.top, hx, hb, hd, e']
  exact ⟨rfl, a⟩) kk
theorem V.astore {i : Nat} {x : Nat} (hd : decode (yC Y) pc = .ok (.astore i, 2)) (hi : i < yL Y) (kk : V G Y d Q X h (pc + 2) (lset ls i (.ref x)) st) : V G Y d Q X h pc ls (.ref x :: st) := V.liftS (Or.inl ⟨hi, rfl⟩) (fun _ _ _ _ _ _ _ _ _ _ _ _ _ _ _ _ hx hb e' kk => by
  intro T hT Z
  obtain ⟨t, a, b⟩ := kk T hT Z
  refine ⟨t, ?_, b⟩
  jvm_step Z.here [Z.here.top, ↓top_set Z.here.top, hx, hb, hd, e']
  exact ⟨rfl, a⟩) kk
theorem V.astoreN_n {k : Fin 4} (hd : decode (yC Y) pc = .ok (.astore_n k, 1)) (hi : (k : Nat) < yL Y) (kk : V G Y d Q X h (pc + 1) (lset ls k .null) st) : V G Y d Q X h pc ls (.null :: st) := V.liftS (Or.inl ⟨hi, rfl⟩) (fun _ _ _ _ _ _ _ _ _ _ _ _ _ _ _ _ hx hb e' kk => by
  intro T hT Z
  obtain ⟨t, a, b⟩ := kk T hT Z
  refine ⟨t, ?_, b⟩
  jvm_step Z.here [Z.here.top, ↓top_set Z.here.top, hx, hb, hd, e']
  exact ⟨rfl, a⟩) kk
theorem V.astoreN {i : Nat} (hd : decode (yC Y) pc = .ok (.astore i, 2)) (hi : i < yL Y) (kk : V G Y d Q X h (pc + 2) (lset ls i .null) st) : V G Y d Q X h pc ls (.null :: st) := V.liftS (Or.inl ⟨hi, rfl⟩) (fun _ _ _ _ _ _ _ _ _ _ _ _ _ _ _ _ hx hb e' kk => by
  intro T hT Z
  obtain ⟨t, a, b⟩ := kk T hT Z
  refine ⟨t, ?_, b⟩
  jvm_step Z.here [Z.here.top, ↓top_set Z.here.top, hx, hb, hd, e']
  exact ⟨rfl, a⟩) kk
theorem V.astorev_n {k : Fin 4} {r : Option Nat} (hd : decode (yC Y) pc = .ok (.astore_n k, 1)) (hi : (k : Nat) < yL Y) (kk : V G Y d Q X h (pc + 1) (lset ls k (va_rf r)) st) : V G Y d Q X h pc ls (va_rf r :: st) := by
  cases r with
  | none => exact V.astoreN_n hd hi kk
  | some a => exact V.astore_n hd hi kk
theorem V.astorev {i : Nat} {r : Option Nat} (hd : decode (yC Y) pc = .ok (.astore i, 2)) (hi : i < yL Y) (kk : V G Y d Q X h (pc + 2) (lset ls i (va_rf r)) st) : V G Y d Q X h pc ls (va_rf r :: st) := by
  cases r with
  | none => exact V.astoreN hd hi kk
  | some a => exact V.astore hd hi kk
theorem V.iinc {i : Nat} {n : Int} {x : Int32} (w : Int32) (hd : decode (yC Y) pc = .ok (.iinc i n, 3)) (hl : ls[i]? = some (some (.int x))) (hc : Int32.ofInt n = w) (hi : i < yL Y) (kk : V G Y d Q X h (pc + 3) (lset ls i (.int (x + w))) st) : V G Y d Q X h pc ls st := by
  obtain ⟨p, e, s, m, args, below, meth, c, n0, k0⟩ := X
  intro ok H locs lsA hR hL hl' hn hk
  have hv := hl'.2.2 i _ hl
  obtain ⟨ls', e', g⟩ := hl'.store1 (v := .int (x + w)) hi rfl
  have K := kk ok H locs ls' hR hL g hn hk
  have hx := ok.1
  have hb := ok.2.1
  subst hc
  intro T hT Z
  obtain ⟨t, a, b⟩ := K T hT Z
  refine ⟨t, ?_, b⟩
  jvm_step Z.here [Z.here.top, ↓top_set Z.here.top, hx, hb, hd, hv, e']
  first | exact a | exact ⟨_, e', a⟩
end Rows
