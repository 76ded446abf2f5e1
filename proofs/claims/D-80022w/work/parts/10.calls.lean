/-! calls by contract: the callee returns, or throws -/
set_option maxRecDepth 100000
section Core
variable {p : Program} {e : Env} {R : Room} {s : State} {m : MethodId} {args : Array Value} {below : List Frame} {meth : Method} {c : Code} {U : State} {locs : List Loc} {cells slots : Nat}
theorem AM.call {G : xG} {Y : xY} {d len : Nat} {h : xH} {av : List Value} {Q : xQ} (hM : AM G Y d h av Q) (hb1 : hN h ≤ gB G + 600128) (hb2 : hK h ≤ 7301098) (Z : Stand p (gL G) e R s m args below meth c U locs cells slots) {g : JFrame} {ig : Instr} {mk : MethodId}
    (hfr : d + 1 ≤ R.frames) (hlo : 60 + (yL Y + 11) + 100 * d ≤ R.locals) (hcl : cells + (gB G + 600128 - hN h) ≤ R.cells) (hsl : slots + (7301098 - hK h) ≤ R.slots)
    (hg : g.method = m) (hsize : g.locals.size = c.maxLocals) (hdg : decode c.code g.pc = .ok (ig, len)) (hW : 2 * g.monitorRoom + (g.stack.map fun v => v.category).sum ≤ 60)
    (hn : U.methodNamed? Y.1 = some mk) (hT : xTb G U) (hR : xReal G U.heap h) (hw : (yW Y).before av.toArray U = true) (hini : (Cond.initialized Y.1.cls).before av.toArray U = true) :
    ∃ (T : State) (h' : xH) (L : List Loc), (hN h ≤ hN h' ∧ hN h' ≤ gB G + 600128) ∧ (hK h ≤ hK h' ∧ hK h' ≤ 7301098) ∧ (∀ q ∈ L, gB G ≤ q.base) ∧ xReal G T.heap h' ∧ Stand p (gL G) e R s m args below meth c T (locs ++ L) (cells + (hN h' - hN h)) (slots + (hK h' - hK h)) ∧
      ((∃ v, Q.1 v h' ∧ Steps p.tables e below (doInvoke e (U.setTop g) [] mk av.toArray).1 (T.setTop { g with pc := g.pc + len, stack := v.toList ++ g.stack })) ∨
       ∃ x, Q.2 x h' ∧ Steps p.tables e below (doInvoke e (U.setTop g) [] mk av.toArray).1 ((T.setTop g).pushFrame (.throwing x))) := by
  obtain ⟨methY, cY, hmY, hcY, -, hlY, -⟩ := yW_spec hn hw
  obtain ⟨kY, hkY, -⟩ := className_of_methodNamed hn
  have hinitY : kY.init = .initialized := Cond.initialized_spec (findClass_of_methodNamed hn) hkY hini
  have hA : At U g.method c below := by rw [hg]; exact Z.here
  have happ : (headSpec [yW Y] (xrm G d (hN h) (hK h))).appliesLoose Y.1 e.platform (U.calling g mk av.toArray) = true :=
    Spec.appliesLoose_calling (g := g) hA hdg hn hkY hinitY
      (Z.room_calling (g := g) (R' := xrm G d (hN h) (hK h)) hsize hmY hcY hfr (by rw [hlY]; show _ + 100 * d ≤ _; omega) hcl hsl) (atoms_intro (ws := [yW Y]) fun w hw' => by
        rw [List.mem_singleton] at hw'
        subst hw'
        exact hw)
  obtain ⟨mid, hmid⟩ := hA.above
  have hfrs : (U.setTop g).frames = (.java g :: mid) ++ below := by rw [State.frames_setTop' g hA.top, hmid]; rfl
  have hP : av.toArray = av.toArray ∧ xTb G (U.calling g mk av.toArray) ∧ xReal G (U.calling g mk av.toArray).heap h := ⟨rfl, hT.warm (State.WarmedH.refl U), hR⟩
  obtain ⟨o, s₂, hsteps, hrun₂, hend, hq⟩ := Steps.callFree (hM hb1 hb2) p Z.admits Z.cas Z.clock (acts := []) hfrs happ hP trivial
  have hq' : xQc G (hN h) (hK h) Q (U.calling g mk av.toArray) o s₂ := hq
  rw [State.frames_setTop' g hA.top] at hend
  obtain ⟨h', L, b1, b2, hW₂, ⟨e2, q2, q3, q4, q5, q6⟩, b5, b6, b7⟩ := hq'
  have e3 : s₂ = ({ (U.calling g mk av.toArray).setFrames s₂.frames with heap := s₂.heap, slotsUsed := s₂.slotsUsed } : State).setVm s₂.vm := by
    have : s₂ = ({ s₂ with vm := (U.calling g mk av.toArray).vm } : State).setVm s₂.vm := rfl
    rw [e2] at this
    exact this
  have hW' : U.WarmedH s₂.vm := hW₂
  obtain ⟨g₀, hg0⟩ := Option.isSome_iff_exists.mp hA.top
  obtain ⟨r, hr⟩ := State.topJava?_eq_some.mp hg0
  have hsame : U.sameButNew ({ U with heap := s₂.heap, slotsUsed := s₂.slotsUsed } : State) L (hN h' - hN h) (hK h' - hK h) := by
    refine ⟨?_, q2, q3, q4, q5, q6⟩
    obtain ⟨t, ht, -⟩ := State.frames_cons hr
    show ({ U with heap := s₂.heap, slotsUsed := s₂.slotsUsed } : State) = { U.setFrames U.frames with heap := s₂.heap, slotsUsed := s₂.slotsUsed }
    rw [State.setFrames_self ht]
  have hr' : (({ U with heap := s₂.heap, slotsUsed := s₂.slotsUsed } : State).setVm s₂.vm).frames = .java g₀ :: r := hr
  subst hg
  refine ⟨({ U with heap := s₂.heap, slotsUsed := s₂.slotsUsed } : State).setVm s₂.vm, h', L, b1, b2, b5, b6,
    ⟨Z.admits, Z.cas, Z.clock, Z.frames, Z.room, Z.hears, Z.method, Z.code, (Z.here.setHeapUsed s₂.heap s₂.slotsUsed).setVm hW'.alike, Z.tail, State.WarmedH.trans Z.warmed hW', Z.limits, Z.bytes, Z.same.trans (hsame.setVm s.vm)⟩, ?_⟩
  rcases b7 with ⟨v, rfl, hv⟩ | ⟨x, rfl, hv⟩
  · refine Or.inl ⟨v, hv, ?_⟩
    obtain ⟨c₂, i₂, len₂, hc₂, hd₂, hf₂⟩ := hend
    have hcc : c₂ = c := by
      have h1 : s₂.code? g.method = U.code? g.method := by
        rw [State.code?_eq, State.code?_eq, hW'.alike.method?]
      exact Option.some.inj (hc₂.symm.trans (h1.trans hA.code))
    subst hcc
    have hlen : len₂ = len := by rw [hdg] at hd₂; cases hd₂; rfl
    subst hlen
    have hs₂ : s₂ = (({ U with heap := s₂.heap, slotsUsed := s₂.slotsUsed } : State).setVm s₂.vm).setTop { g with pc := g.pc + len₂, stack := v.toList ++ g.stack } := by
      refine e3.trans ?_
      rw [hf₂, State.calling_eq hA.top, State.setFrames_setFrames, State.setTop_of_frames _ hr', hr]
      rfl
    rw [← hs₂]
    exact hsteps
  · refine Or.inr ⟨x, hv, ?_⟩
    have hf₂ : s₂.frames = .throwing x :: .java g :: U.frames.tail := hend
    have hs₂ : s₂ = ((({ U with heap := s₂.heap, slotsUsed := s₂.slotsUsed } : State).setVm s₂.vm).setTop g).pushFrame (.throwing x) := by
      refine e3.trans ?_
      rw [hf₂, State.calling_eq hA.top, State.setFrames_setFrames, State.pushFrame, State.setTop_of_frames _ hr', State.setFrames_setFrames, State.frames_setFrames _ (State.cur_lt_of_frames hr'), hr]
      rfl
    rw [← hs₂]
    exact hsteps
end Core
section Rows
variable {G : xG} {Y : xY} {d : Nat} {Q : xQ} {X : xX} {h : xH} {pc : Nat} {ls : List (Option Value)} {st : List Value}
/-- what a call through an instruction comes to: the callee's entry -/
def xInv (G : xG) (Y : xY) (h : xH) (pc : Nat) (stk rest : List Value) (y : MethodName) (av : List Value) : Prop :=
  ∀ (p : Program) (e : Env) (R : Room) (s : State) (m : MethodId) (args : Array Value) (below : List Frame) (meth : Method) (c : Code) (H : Heap) (locs : List Loc) (cells slots : Nat) (lsA : Array Slot) (T : State), p.tables.exec = Jvm.exec → c.code = yC Y → s.vm.findClass Y.1.cls = some m.cls → xTb G s → xReal G H h → T.heap = H → lsA.size = c.maxLocals → Stand p (gL G) e R s m args below meth c T locs cells slots →
    ∃ (vm₁ : Vm) (mk : MethodId), Stand p (gL G) e R s m args below meth c (T.setVm vm₁) locs cells slots ∧ s.methodNamed? y = some mk ∧ ∀ target, (∀ acts, Steps p.tables e below (doInvoke e ((T.setVm vm₁).setTop (F0 m pc lsA rest)) acts mk av.toArray).1 target) → Steps p.tables e below (T.setTop (F0 m pc lsA stk)) target
def xYok (Y : xY) : Prop := yW Y ∈ lw_tbl ∧ xst (yW Y) = true ∧ Cond.initialized Y.1.cls ∈ lw_tbl ∧ yL Y ≤ 29 ∧ Y.1.cls ≠ "java/lang/invoke/MethodHandle" ∧ Y.1.cls ≠ "java/lang/invoke/VarHandle"
theorem V.callG {Y' : xY} {d' len : Nat} {av : List Value} {Q' : xQ} {ig : Instr} {stk rest : List Value} (hM : AM G Y' d' h av Q') (hdd : d' + 1 ≤ d) (hroom : (rest.map fun v => v.category).sum ≤ 60) (hY : xYok Y') (hd : decode (yC Y) pc = .ok (ig, len)) (hinv : xInv G Y h pc stk rest Y'.1 av)
    (hno : (yH Y).all (fun q => !(decide (q.1 ≤ pc) && decide (pc < q.2.1))) = true)
    (kn : ∀ v h', Q'.1 v h' → hN h ≤ hN h' → hK h ≤ hK h' → V G Y d Q X h' (pc + len) ls (v.toList ++ rest)) (kt : ∀ x h', Q'.2 x h' → hN h ≤ hN h' → hK h ≤ hK h' → Q.2 x h') : V G Y d Q X h pc ls stk := by
  obtain ⟨p, e, s, m, args, below, meth, c, n0, k0⟩ := X
  intro ok H locs lsA hR hL hl hn hk
  have ok0 := ok
  obtain ⟨hx, hb, hml, hown, hT, hret, hlocks, hnm, htab⟩ := ok
  intro T hT' Z
  have hsz : lsA.size = c.maxLocals := hl.1.trans hml.symm
  obtain ⟨vm₁, mk, Z₁, hmk, hstep⟩ := hinv p e _ s m args below meth c H locs _ _ lsA T hx hb hown hT hR hT' hsz Z
  have hTU : xTb G (T.setVm vm₁) := hT.warm Z₁.warmed
  obtain ⟨hy1, hy2, hy3, hy4, -⟩ := hY
  obtain ⟨T₂, h', L, b1, b2, b3, b4, Z₂, bs⟩ := hM.call hn.2 hk.2 Z₁ (g := F0 m pc lsA rest) (len := len) (ig := ig) hdd (by show _ ≤ 100 * d; omega) (by show _ ≤ gB G + 600128 - n0; omega) (by show _ ≤ 7301098 - k0; omega) rfl hsz (by rw [hb]; exact hd) (by show 2 * 0 + (rest.map fun v => v.category).sum ≤ 60; omega) (Z₁.named hmk) hTU (by show xReal G T.heap h; rw [hT']; exact hR) (hTU.1 _ hy1 hy2 _) (hTU.1 _ hy3 rfl _)
  have hL2 : ∀ q ∈ locs ++ L, gB G ≤ q.base := fun q hq => by
    rcases List.mem_append.mp hq with z | z
    · exact hL q z
    · exact b3 q z
  have hn' : n0 ≤ hN h' ∧ hN h' ≤ gB G + 600128 := ⟨by omega, b1.2⟩
  have hk' : k0 ≤ hK h' ∧ hK h' ≤ 7301098 := ⟨by omega, b2.2⟩
  have e1 : hN h - n0 + (hN h' - hN h) = hN h' - n0 := by omega
  have e2 : hK h - k0 + (hK h' - hK h) = hK h' - k0 := by omega
  rw [e1, e2] at Z₂
  rcases bs with ⟨v, hv, hst⟩ | ⟨x, hv, hst⟩
  · obtain ⟨t, a1, a2⟩ := kn v h' hv b1.1 b2.1 ok0 T₂.heap (locs ++ L) lsA b4 hL2 hl hn' hk' T₂ rfl Z₂
    refine ⟨t, hstep t (fun acts => ?_), a2⟩
    rw [doInvoke_state]
    exact hst.trans a1
  · obtain ⟨s1, s2, s3, s4, s5⟩ := Z₂.leaveThrown x (g := F0 m pc lsA rest) rfl rfl rfl (fun z hz => by
      have h1 : (z.startPc, z.endPc, z.handlerPc, z.catchType) ∈ yH Y := by rw [← htab]; exact List.mem_map.mpr ⟨z, hz, rfl⟩
      have h2 := List.all_eq_true.mp hno _ h1
      simp at h2 ⊢
      omega) hlocks
    refine ⟨_, hstep _ (fun acts => ?_), .threw x, s2, s3, h', locs ++ L, hn', hk', s4, s5, hL2, b4, Or.inr ⟨x, rfl, kt x h' hv b1.1 b2.1⟩⟩
    rw [doInvoke_state]
    exact hst.trans s1
/-! invokevirtual -/
def xCv (own : String) (idx c : Nat) (y : MethodName) (n : Nat) : Prop := ∃ (r : vw_C), xcl[c]? = some r ∧ Cond.methodLink own idx y ∈ lw_tbl ∧ Cond.instanceMethod y ∈ lw_tbl ∧ Cond.selects r.1 y y ∈ lw_tbl ∧ (parseMethodDescriptor y.desc).map (fun d => d.parameters.length) = some n
theorem xlen {y : MethodName} {n : Nat} (h : (parseMethodDescriptor y.desc).map (fun d => d.parameters.length) = some n) {sig : MethodDescriptor} (hs : parseMethodDescriptor y.desc = some sig) : sig.parameters.length = n := by
  rw [hs] at h
  exact Option.some.inj h
theorem xInv.V {c b idx n : Nat} {y : MethodName} {Y' : xY} {As rest : List Value} (f : xCv Y.1.cls idx c Y'.1 n) (hY : xYok Y') (hs : (hS h b).1 = c + 1) (hA : As.length = n) (hd : decode (yC Y) pc = .ok (.invokevirtual idx, 3)) : xInv G Y h pc (As.reverse ++ .ref b :: rest) rest Y'.1 (.ref b :: As) := by
  obtain ⟨r, hc, w1, w2, w3, w5⟩ := f
  intro p e R s m args below meth c' H locs cells slots lsA T hx hb hown hT hR hT' hsz Z
  obtain ⟨cellB, q1, q2, q3, -⟩ := (hR.2.2.2.2 b).1 c r hs hc
  have hcls : s.vm.findClass r.1 = some cellB.cls := by rw [q2]; exact (hT.2.1 c r hc).2.1
  obtain ⟨mk, methM, hnamed, hmethM, hstM, habM⟩ := Cond.instanceMethod_spec (hT.1 _ w2 rfl args)
  obtain ⟨methM', cM, hmethM', -, -, -, -, -, -, hsigM⟩ := yW_spec hnamed (hT.1 _ hY.1 hY.2.1 args)
  cases hmethM.symm.trans hmethM'
  obtain ⟨c2, r2, m2, p1, p2, p3, p4, kP, hkP, hkPi⟩ := Cond.selects_spec (hT.1 _ w3 rfl args)
  have hy : Y'.1.cls ≠ "java/lang/invoke/MethodHandle" ∧ Y'.1.cls ≠ "java/lang/invoke/VarHandle" := hY.2.2.2.2
  cases hcls.symm.trans p1
  cases (State.methodFound?_of_named hnamed hy).symm.trans p2
  cases hnamed.symm.trans p3
  have hselP : selectMethod e.platform s.vm cellB.cls mk = .method mk := by rw [Launch.admits_selectMethod Z.admits]; exact p4
  obtain ⟨vm₁, X₁, hstep₁⟩ := Z.invokevirtual hx hown (hT.1 _ w1 rfl args) hnamed hmethM hstM hkP hkPi hy (a := b) (cell := cellB) (by rw [hT']; exact q1)
    (fun z h => by rw [q3] at h; cases h) hselP hmethM habM hkP hkPi (g := F0 m pc lsA (As.reverse ++ .ref b :: rest)) rfl (argsL := As) (rest := rest) (hA.trans (xlen w5 hsigM).symm) rfl (by rw [hb]; exact hd)
  exact ⟨vm₁, mk, X₁, hnamed, hstep₁⟩
theorem V.callV {Y' : xY} {d' c b idx n : Nat} {As rest : List Value} {Q' : xQ} (hM : AM G Y' d' h (.ref b :: As) Q') (f : xCv Y.1.cls idx c Y'.1 n) (hY : xYok Y') (hs : (hS h b).1 = c + 1) (hst : st = As.reverse ++ .ref b :: rest) (hA : As.length = n) (hdd : d' + 1 ≤ d) (hroom : (rest.map fun v => v.category).sum ≤ 60) (hd : decode (yC Y) pc = .ok (.invokevirtual idx, 3))
    (hno : (yH Y).all (fun q => !(decide (q.1 ≤ pc) && decide (pc < q.2.1))) = true)
    (kn : ∀ v h', Q'.1 v h' → hN h ≤ hN h' → hK h ≤ hK h' → V G Y d Q X h' (pc + 3) ls (v.toList ++ rest)) (kt : ∀ x h', Q'.2 x h' → hN h ≤ hN h' → hK h ≤ hK h' → Q.2 x h') : V G Y d Q X h pc ls st := by
  subst hst
  exact V.callG hM hdd hroom hY hd (xInv.V (y := Y'.1) f hY hs hA hd) hno kn kt
/-! invokestatic -/
def xCs (own : String) (idx : Nat) (y : MethodName) (n : Nat) : Prop := Cond.methodLink own idx y ∈ lw_tbl ∧ Cond.static y ∈ lw_tbl ∧ (parseMethodDescriptor y.desc).map (fun d => d.parameters.length) = some n
theorem xInv.S {idx n : Nat} {Y' : xY} {As rest : List Value} (f : xCs Y.1.cls idx Y'.1 n) (hY : xYok Y') (hA : As.length = n) (hd : decode (yC Y) pc = .ok (.invokestatic idx, 3)) : xInv G Y h pc (As.reverse ++ rest) rest Y'.1 As := by
  obtain ⟨w1, w2, w5⟩ := f
  intro p e R s m args below meth c' H locs cells slots lsA T hx hb hown hT hR hT' hsz Z
  have hcode := hT.1 _ hY.1 hY.2.1 args
  obtain ⟨mk, hnamed⟩ : ∃ mk, s.methodNamed? Y'.1 = some mk := by
    obtain ⟨y, cc, nL, ret, hh⟩ := Y'
    cases hh with
    | nil => exact Cond.code_named (show (Cond.code y cc nL ret).before args s = true from hcode)
    | cons q r =>
      obtain ⟨m9, meth, c, hn9, -⟩ := Cond.codeWith_spec (show (Cond.codeWith y cc nL ret (q :: r)).before args s = true from hcode)
      exact ⟨m9, hn9⟩
  obtain ⟨methM, cM, hmethM, -, -, -, -, -, -, hsigM⟩ := yW_spec hnamed hcode
  have hstatic : methM.isStatic = true := Cond.static_spec hnamed hmethM (hT.1 _ w2 rfl args)
  obtain ⟨kP, hkP, -⟩ := className_of_methodNamed hnamed
  have hinitP : kP.init = .initialized := Cond.initialized_spec (findClass_of_methodNamed hnamed) hkP (hT.1 _ hY.2.2.1 rfl args)
  obtain ⟨vm₁, X₁, hstep₁⟩ := Z.invokestatic hx hown (hT.1 _ w1 rfl args) hnamed hmethM hstatic hkP hinitP hY.2.2.2.2 (g := F0 m pc lsA (As.reverse ++ rest)) rfl (argsL := As) (rest := rest) (hA.trans (xlen w5 hsigM).symm) rfl (by rw [hb]; exact hd)
  exact ⟨vm₁, mk, X₁, hnamed, hstep₁⟩
theorem V.callS {Y' : xY} {d' idx n : Nat} {As rest : List Value} {Q' : xQ} (hM : AM G Y' d' h As Q') (f : xCs Y.1.cls idx Y'.1 n) (hY : xYok Y') (hst : st = As.reverse ++ rest) (hA : As.length = n) (hdd : d' + 1 ≤ d) (hroom : (rest.map fun v => v.category).sum ≤ 60) (hd : decode (yC Y) pc = .ok (.invokestatic idx, 3))
    (hno : (yH Y).all (fun q => !(decide (q.1 ≤ pc) && decide (pc < q.2.1))) = true)
    (kn : ∀ v h', Q'.1 v h' → hN h ≤ hN h' → hK h ≤ hK h' → V G Y d Q X h' (pc + 3) ls (v.toList ++ rest)) (kt : ∀ x h', Q'.2 x h' → hN h ≤ hN h' → hK h ≤ hK h' → Q.2 x h') : V G Y d Q X h pc ls st := by
  subst hst
  exact V.callG hM hdd hroom hY hd (xInv.S f hY hA hd) hno kn kt
/-! constructors -/
def xCi (own : String) (idx : Nat) (y : MethodName) (n : Nat) : Prop := (Cond.methodLink own idx y ∈ lw_tbl ∨ ∃ host, Cond.methodLinkNest own idx y host ∈ lw_tbl) ∧ Cond.instanceMethod y ∈ lw_tbl ∧ (parseMethodDescriptor y.desc).map (fun d => d.parameters.length) = some n
theorem xInv.I {a idx n nL : Nat} {y : MethodName} {cc : ByteArray} {As rest : List Value} (f : xCi Y.1.cls idx y n) (hY : xYok (y, cc, nL, none, [])) (hy1 : y.name = "<init>") (hA : As.length = n) (hd : decode (yC Y) pc = .ok (.invokespecial idx, 3)) : xInv G Y h pc (As.reverse ++ .ref a :: rest) rest y (.ref a :: As) := by
  obtain ⟨w1, w2, w5⟩ := f
  intro p e R s m args below meth c' H locs cells slots lsA T hx hb hown hT hR hT' hsz Z
  have hcode : (Cond.code y cc nL none).before args s = true := hT.1 _ hY.1 hY.2.1 args
  have hpl : e.platform.magicAccessors = ({} : Platform).magicAccessors := by rw [Z.admits.platform]
  rcases w1 with w1 | ⟨host, w1⟩
  · obtain ⟨mk, methM, cM, kP, vm₁, hnamed, hmethM, hcodeM, -, hlocalsM, -, hkP, -, hW₁, hstep₁⟩ := Steps.initColdArgs (e := e) Z.here hx Z.warmed hpl hown hy1 hY.2.2.2.2 (hT.1 _ w1 rfl args) (hT.1 _ w2 rfl args) hcode (f := F0 m pc lsA (As.reverse ++ .ref a :: rest)) (argsL := As) (rest := rest) rfl (fun sig hsig => hA.trans (xlen w5 hsig).symm) rfl (by rw [hb]; exact hd)
    exact ⟨vm₁, mk, Z.noted hW₁, hnamed, hstep₁⟩
  · obtain ⟨mk, methM, cM, kP, vm₁, hnamed, hmethM, hcodeM, -, hlocalsM, -, hkP, -, hW₁, hstep₁⟩ := Steps.initColdArgsNest (e := e) Z.here hx Z.warmed hpl hown hy1 hY.2.2.2.2 (hT.1 _ w1 rfl args) (hT.1 _ w2 rfl args) hcode (f := F0 m pc lsA (As.reverse ++ .ref a :: rest)) (argsL := As) (rest := rest) rfl (fun sig hsig => hA.trans (xlen w5 hsig).symm) rfl (by rw [hb]; exact hd)
    exact ⟨vm₁, mk, Z.noted hW₁, hnamed, hstep₁⟩
theorem V.callI {y : MethodName} {cc : ByteArray} {nL d' a idx n : Nat} {As rest : List Value} {Q' : xQ} (hM : AM G (y, cc, nL, none, []) d' h (.ref a :: As) Q') (f : xCi Y.1.cls idx y n) (hY : xYok (y, cc, nL, none, [])) (hy1 : y.name = "<init>") (hst : st = As.reverse ++ .ref a :: rest) (hA : As.length = n) (hdd : d' + 1 ≤ d) (hroom : (rest.map fun v => v.category).sum ≤ 60) (hd : decode (yC Y) pc = .ok (.invokespecial idx, 3))
    (hno : (yH Y).all (fun q => !(decide (q.1 ≤ pc) && decide (pc < q.2.1))) = true)
    (kn : ∀ v h', Q'.1 v h' → hN h ≤ hN h' → hK h ≤ hK h' → V G Y d Q X h' (pc + 3) ls (v.toList ++ rest)) (kt : ∀ x h', Q'.2 x h' → hN h ≤ hN h' → hK h ≤ hK h' → Q.2 x h') : V G Y d Q X h pc ls st := by
  subst hst
  exact V.callG hM hdd hroom hY hd (xInv.I f hY hy1 hA hd) hno kn kt
/-- Object.<init> -/
theorem V.objInit {a idx : Nat} (hw : Cond.methodLink Y.1.cls idx Lib.objectInit ∈ lw_tbl) (hw2 : Cond.instanceMethod Lib.objectInit ∈ lw_tbl) (hw3 : Cond.code Lib.objectInit ⟨#[0xb1]⟩ 1 none ∈ lw_tbl) (hroom : (st.map fun v => v.category).sum ≤ 60) (hdd : 1 ≤ d) (hd : decode (yC Y) pc = .ok (.invokespecial idx, 3)) (kk : V G Y d Q X h (pc + 3) ls st) : V G Y d Q X h pc ls (.ref a :: st) := by
  obtain ⟨p, e, s, m, args, below, meth, c, n0, k0⟩ := X
  intro ok H locs lsA hR hL hl hn hk
  have K := kk ok H locs lsA hR hL hl hn hk
  obtain ⟨hx, hb, hml, hown, hT, hret, hlocks, hnm, htab⟩ := ok
  exact W.objInit hx hb hown (hT.1 _ hw rfl args) (hT.1 _ hw2 rfl args) (hT.1 _ hw3 rfl args) rfl (hl.1.trans hml.symm) rfl hd hdd (by show 2 * 0 + _ + 12 ≤ 100 * d; omega) K
end Rows
