/-! the judgement V over the picture, contracts AM, and the rows of the instructions -/
set_option maxRecDepth 100000
def gP (G : xG) : Nat → Prop := fun a => gB G ≤ a
/-- words that hold all through a run -/
def xst : Cond → Bool
  | .fieldLinkNest _ _ _ _ _ _ => true
  | .methodLinkNest _ _ _ _ => true
  | .castable _ _ => true
  | .declares _ => true
  | w => goodWord w
theorem xst_warm {w : Cond} (hw : xst w = true) {s U : State} (hW : s.WarmedH U.vm) (h : ∀ a : Array Value, w.before a s = true) : ∀ a : Array Value, w.before a U = true := by
  intro a
  cases w with
  | fieldLinkNest => exact va_Nw.use rfl (va_Nw.warmF hW (h #[]))
  | methodLinkNest => exact va_Nw.use rfl (va_Nw.warmM hW (h #[]))
  | castable => exact va_Nw.use rfl (va_Nw.warmC hW (h #[]))
  | declares => exact va_Nw.use rfl (va_Nw.warmD hW (h #[]))
  | _ => exact word_at hW (good_of_word hw) (h #[])
/-- enum constants: class, name, type, ordinal -/
def xen : List (String × String × String × Int32) :=
  [("MemoryTransactions$Act", "SET", "LMemoryTransactions$Act;", 0), ("MemoryTransactions$Act", "IF", "LMemoryTransactions$Act;", 1), ("MemoryTransactions$Act", "WHILE", "LMemoryTransactions$Act;", 2), ("MemoryTransactions$Act", "RETRY", "LMemoryTransactions$Act;", 3), ("MemoryTransactions$Act", "THROW", "LMemoryTransactions$Act;", 4), ("MemoryTransactions$Act", "EITHER", "LMemoryTransactions$Act;", 5), ("MemoryTransactions$Act", "TRY", "LMemoryTransactions$Act;", 6), ("MemoryTransactions$Act", "ALWAYS", "LMemoryTransactions$Act;", 7),
   ("MemoryTransactions$Outcome", "STEP", "LMemoryTransactions$Outcome;", 0), ("MemoryTransactions$Outcome", "DONE", "LMemoryTransactions$Outcome;", 1), ("MemoryTransactions$Outcome", "THROWN", "LMemoryTransactions$Outcome;", 2), ("MemoryTransactions$Outcome", "CUT", "LMemoryTransactions$Outcome;", 3), ("MemoryTransactions$Outcome", "WAITS", "LMemoryTransactions$Outcome;", 4), ("MemoryTransactions$Outcome", "IDLE", "LMemoryTransactions$Outcome;", 5), ("MemoryTransactions$Outcome", "HELD", "LMemoryTransactions$Outcome;", 6),
   ("MemoryTransactions$Phase", "IDLE", "LMemoryTransactions$Phase;", 0), ("MemoryTransactions$Phase", "BEGINS", "LMemoryTransactions$Phase;", 1), ("MemoryTransactions$Phase", "RUNS", "LMemoryTransactions$Phase;", 2), ("MemoryTransactions$Phase", "WAITS", "LMemoryTransactions$Phase;", 3),
   ("MemoryTransactions$Row", "PUT", "LMemoryTransactions$Row;", 0), ("MemoryTransactions$Row", "DONE", "LMemoryTransactions$Row;", 1), ("MemoryTransactions$Row", "THROWN", "LMemoryTransactions$Row;", 2)]
def xint : List (String × String × String × Int32) := [("java/lang/String", "COMPACT_STRINGS", "Z", 1)]
def xrfs : List (String × String × String) := [("java/lang/Throwable", "UNASSIGNED_STACK", "[Ljava/lang/StackTraceElement;"), ("java/lang/Throwable", "SUPPRESSED_SENTINEL", "Ljava/util/List;"), ("jdk/internal/util/Preconditions", "SIOOBE_FORMATTER", "Ljava/util/function/BiFunction;")]
/-- String constants: class, place, text, bytes -/
def xstr : List (String × Nat × String × List Int32) :=
  [("MemoryTransactions$Fault", 1, "cannot stand there", [99, 97, 110, 110, 111, 116, 32, 115, 116, 97, 110, 100, 32, 116, 104, 101, 114, 101]), ("MemoryTransactions$Thrown", 1, "thrown", [116, 104, 114, 111, 119, 110]), ("MemoryTransactions$Cut", 1, "cut", [99, 117, 116]),
   ("MemoryTransactions$Reader", 61, "=<#+-*/%(){};", [61, 60, 35, 43, 45, 42, 47, 37, 40, 41, 123, 125, 59]), ("MemoryTransactions$Reader", 153, "if", [105, 102]), ("MemoryTransactions$Reader", 169, "else", [101, 108, 115, 101]), ("MemoryTransactions$Reader", 174, "while", [119, 104, 105, 108, 101]), ("MemoryTransactions$Reader", 179, "either", [101, 105, 116, 104, 101, 114]),
   ("MemoryTransactions$Reader", 184, "or", [111, 114]), ("MemoryTransactions$Reader", 190, "try", [116, 114, 121]), ("MemoryTransactions$Reader", 195, "catch", [99, 97, 116, 99, 104]), ("MemoryTransactions$Reader", 201, "retry", [114, 101, 116, 114, 121]), ("MemoryTransactions$Reader", 206, "throw", [116, 104, 114, 111, 119]), ("MemoryTransactions$Reader", 211, "always", [97, 108, 119, 97, 121, 115])]
def yLetters : MethodName := ⟨"MemoryTransactions$Letters", "of", "(I)J"⟩
def xTb (G : xG) (U : State) : Prop :=
  (∀ w ∈ lw_tbl, xst w = true → ∀ a : Array Value, w.before a U = true) ∧
  (∀ (c : Nat) (r : vw_C), xcl[c]? = some r → u_Kn U r.1 r.2.1 r.2.2 (gC G c) (gI G c)) ∧
  (∀ t : Nat, t < 9 → ArrOfT U (gA G t) (xat t) ∧ va_RA U (gA G t) (xat t)) ∧
  (∀ (i : Nat) (q : String × String × String × Int32), xen[i]? = some q → va_Z q.1 q.2.1 q.2.2.1 (.ref (gE G i)) (gP G) U (gH G) ∧ va_O q.1 (gE G i) (gP G) U (gH G) ∧ va_OF "java/lang/Enum" "ordinal" "I" (.int q.2.2.2) (gE G i) (gP G) U (gH G)) ∧
  (∀ (i : Nat) (q : String × String × String × Int32), xint[i]? = some q → va_Z q.1 q.2.1 q.2.2.1 (.int q.2.2.2) (gP G) U (gH G)) ∧
  (∀ (i : Nat) (q : String × String × String), xrfs[i]? = some q → va_Z q.1 q.2.1 q.2.2 (va_rf (gO G i)) (gP G) U (gH G)) ∧
  (∀ (i : Nat) (q : String × Nat × String × List Int32), xstr[i]? = some q → vk_R q.1 q.2.1 q.2.2.1 (gK G i) U ∧ va_O "java/lang/String" (gK G i) (gP G) U (gH G) ∧ va_OF "java/lang/String" "coder" "B" (.int 0) (gK G i) (gP G) U (gH G) ∧ va_OF "java/lang/String" "value" "[B" (.ref (gV G i)) (gK G i) (gP G) U (gH G) ∧ va_T .byte (gV G i) q.2.2.2.length (fun j => .int (q.2.2.2.getD j 0)) (gP G) U (gH G)) ∧
  (∀ C ∈ [RX7, RX10, RX3], va_Fw C yLetters ⟨C, "of", "(I)J"⟩ U) ∧
  (∀ C ∈ ["MemoryTransactions$Program", "MemoryTransactions$Exp", "MemoryTransactions$Client", "MemoryTransactions$Row", "MemoryTransactions$Level"], va_AO C U) ∧
  (∀ i j : Nat, i < 22 → j < 22 → gE G i = gE G j → i = j) ∧ (gH G).size = gB G ∧ U.vm.assignable (gC G 5) (gC G 8) = false
theorem xTb.warm {G : xG} {s U : State} (h : xTb G s) (hW : s.WarmedH U.vm) : xTb G U := by
  obtain ⟨h1, h2, h3, h4, h5, h6, h7, h8, h9, h10, h11, h12⟩ := h
  refine ⟨fun w hw hx => xst_warm hx hW (h1 w hw hx), fun c r hr => u_Kn_moved hW.alike (h2 c r hr), fun t ht => ⟨arrOfT_moved hW.alike (h3 t ht).1, (h3 t ht).2.moved hW.alike⟩,
    fun i q hq => ⟨(h4 i q hq).1.moved hW.alike, (h4 i q hq).2.1.moved hW.alike, (h4 i q hq).2.2.moved hW.alike⟩, fun i q hq => (h5 i q hq).moved hW.alike, fun i q hq => (h6 i q hq).moved hW.alike,
    fun i q hq => ⟨(h7 i q hq).1.warm hW, (h7 i q hq).2.1.moved hW.alike, (h7 i q hq).2.2.1.moved hW.alike, (h7 i q hq).2.2.2.1.moved hW.alike, (h7 i q hq).2.2.2.2.moved hW.alike⟩,
    fun C hC => (h8 C hC).moved (by decide) hW.alike, fun C hC => (h9 C hC).moved hW.alike, h10, h11, by rw [hW.alike.assignable]; exact h12⟩
/-! a method: name, code, locals, answer, handlers -/
abbrev xY : Type := MethodName × ByteArray × Nat × Option FieldType × List (Nat × Nat × Nat × Nat)
def yC (Y : xY) : ByteArray := Y.2.1
def yL (Y : xY) : Nat := Y.2.2.1
def yR (Y : xY) : Option FieldType := Y.2.2.2.1
def yH (Y : xY) : List (Nat × Nat × Nat × Nat) := Y.2.2.2.2
def yW (Y : xY) : Cond := match Y.2.2.2.2 with
  | [] => .code Y.1 Y.2.1 Y.2.2.1 Y.2.2.2.1
  | hh => .codeWith Y.1 Y.2.1 Y.2.2.1 Y.2.2.2.1 hh
abbrev xX : Type := Program × Env × State × MethodId × Array Value × List Frame × Method × Code × Nat × Nat
abbrev xQ : Type := (Option Value → xH → Prop) × (Nat → xH → Prop)
def xQc (G : xG) (n0 k0 : Nat) (Q : xQ) (s : State) (o : Outcome) (t : State) : Prop := ∃ (h' : xH) (L : List Loc), (n0 ≤ hN h' ∧ hN h' ≤ gB G + 600128) ∧ (k0 ≤ hK h' ∧ hK h' ≤ 7301098) ∧ s.WarmedH t.vm ∧ s.sameButNew ({ t with vm := s.vm } : State) L (hN h' - n0) (hK h' - k0) ∧ (∀ q ∈ L, gB G ≤ q.base) ∧ xReal G t.heap h' ∧ ((∃ v, o = .returned v ∧ Q.1 v h') ∨ ∃ x, o = .threw x ∧ Q.2 x h')
def xrm (G : xG) (d n0 k0 : Nat) : Room := { frames := d, cells := gB G + 600128 - n0, slots := 7301098 - k0, locals := 100 * d }
/-- a contract: called at depth d with the picture h and the arguments av, the method ends with Q -/
def AM (G : xG) (Y : xY) (d : Nat) (h : xH) (av : List Value) (Q : xQ) : Prop := hN h ≤ gB G + 600128 → hK h ≤ 7301098 → MetFree (gL G) Y.1 (headSpec [yW Y] (xrm G d (hN h) (hK h))) (fun a U => a = av.toArray ∧ xTb G U ∧ xReal G U.heap h) (fun _ _ _ _ _ => True) (fun _ st o t => xQc G (hN h) (hK h) Q st o t)
def xOK (G : xG) (Y : xY) (X : xX) : Prop := match X with
  | (p, _, s, m, _, _, meth, c, _, _) => p.tables.exec = Jvm.exec ∧ c.code = yC Y ∧ c.maxLocals = yL Y ∧ s.vm.findClass Y.1.cls = some m.cls ∧ xTb G s ∧ meth.sig.returnType = yR Y ∧ meth.locks = false ∧ meth.name = Y.1.name ∧ c.exceptionTable.toList.map (fun h => (h.startPc, h.endPc, h.handlerPc, h.catchType)) = yH Y
def xloc (lsA : Array Slot) (nL : Nat) (ls : List (Option Value)) : Prop := lsA.size = nL ∧ lv_wf lsA ∧ ∀ (i : Nat) (v : Value), ls[i]? = some (some v) → lsA[i]? = some (.val v)
def xMQ (G : xG) (below : List Frame) (n0 k0 : Nat) (Q : xQ) (s : State) (t : State) : Prop := ∃ o, t.status = .running ∧ Ended t below o ∧ xQc G n0 k0 Q s o t
def V (G : xG) (Y : xY) (d : Nat) (Q : xQ) (X : xX) (h : xH) (pc : Nat) (ls : List (Option Value)) (st : List Value) : Prop := match X with
  | (p, e, s, m, args, below, meth, c, n0, k0) => xOK G Y (p, e, s, m, args, below, meth, c, n0, k0) → ∀ (H : Heap) (locs : List Loc) (lsA : Array Slot), xReal G H h → (∀ q ∈ locs, gB G ≤ q.base) → xloc lsA (yL Y) ls → (n0 ≤ hN h ∧ hN h ≤ gB G + 600128) → (k0 ≤ hK h ∧ hK h ≤ 7301098) →
      W p (gL G) e (xrm G d n0 k0) s m args below meth c H locs (hN h - n0) (hK h - k0) (xMQ G below n0 k0 Q s) (F0 m pc lsA st)
/-! locals -/
def lset : List (Option Value) → Nat → Value → List (Option Value)
  | [], _, _ => []
  | _ :: r, 0, v => some v :: (match v with
    | .long _ => (match r with
      | [] => []
      | _ :: r' => none :: r')
    | .double _ => (match r with
      | [] => []
      | _ :: r' => none :: r')
    | _ => r)
  | x :: r, 1, v => (match x with
    | some (.long _) => none
    | some (.double _) => none
    | y => y) :: lset r 0 v
  | x :: r, i + 2, v => x :: lset r (i + 1) v
def lent : List Value → List (Option Value)
  | [] => []
  | .long x :: r => some (.long x) :: none :: lent r
  | .double x :: r => some (.double x) :: none :: lent r
  | v :: r => some v :: lent r
