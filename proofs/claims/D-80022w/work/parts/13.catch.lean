/-! calls whose exception is caught in the caller -/
set_option maxRecDepth 100000
theorem xgo_class {E : CtlPost} {e : Env} {d : Bool} {acts : List Action} {s : State} {f : JFrame} {a : Addr} {Q : Handler → Pre} {x : ExceptionTableEntry} {t : List ExceptionTableEntry} {c : ClassId} {vm' : Vm} {cell : Cell} (hx : covers x f.pc = true) (h0 : x.catchType ≠ 0)
    (hg : (Jvm.resolveClass f.method.cls x.catchType).Gives e.toSetting s.vm (.ok c) vm') (hsz : vm'.classes.size ≤ s.vm.classes.size) (hcell : s.heap[a]? = some cell) (hobj : ∀ k, cell.vm ≠ .statics k) (hk : ∃ k, vm'.classes[cell.cls]? = some k) (hc : ∃ k, vm'.classes[c]? = some k) :
    wp (findHandler.go f a (x :: t)) Q E e d acts s ↔ if vm'.assignable cell.cls c = true then Q (.found x.handlerPc) d acts (s.setVm vm') else wp (findHandler.go f a t) Q E e d acts (s.setVm vm') := by
  simp only [covers] at hx
  obtain ⟨ha, ht⟩ := hg.op (op := VmOp.resolveClass f.method.cls x.catchType) rfl
  cases hfit : vm'.assignable cell.cls c <;>
    simp [findHandler.go, hx, h0, ha, ht, hsz, hcell, hobj, hk, hc, hfit, VmOp.dirties, VmOp.acts]
/-- what the search gives, and the tables that it leaves -/
def xFinds (e : Env) (s : State) (f : JFrame) (a : Addr) (h : Handler) (vm' : Vm) : Prop := ∀ (Q : Handler → Pre) (E : CtlPost) (d : Bool) (acts : List Action), wp (findHandler f a) Q E e d acts s ↔ Q h d acts (s.setVm vm')
theorem xstep_catch {e : Env} {s : State} {a : Addr} {f : JFrame} {r : List Frame} {pc : Nat} {vm' : Vm} (hfind : xFinds e s f a (.found pc) vm') :
    (stepThrowing e s a (.java f :: r)).Is ((s.setVm vm').setFrames (.java { f with pc := pc, stack := [.ref a] } :: r)) [] := by
  simp only [stepThrowing, searchFrame, vmDo]
  generalize hr : Sem.go _ e false [] s = res
  obtain ⟨as, rfl, ha⟩ := Sem.eq_ok_of hr (a := Handler.found pc) (s' := s.setVm vm') (acts' := []) (by simp [hfind _ _ _ _])
  exact ⟨rfl, ha⟩
theorem xcaught {tb : Tables} {e : Env} {s target : State} {g : JFrame} {c : Code} {below : List Frame} {a : Addr} (h : At s g.method c below) {pc : Nat} {vm' : Vm} (hfind : xFinds e ((s.setTop g).pushFrame (.throwing a)) g a (.found pc) vm')
    (hrest : Steps tb e below ((s.setVm vm').setTop { g with pc := pc, stack := [.ref a] }) target) : Steps tb e below ((s.setTop g).pushFrame (.throwing a)) target := by
  obtain ⟨hgo, hw⟩ := h.throwing a
  refine Steps.head hgo hw ?_
  rw [stepThread_throwing (frames_entered h.top _), (xstep_catch (s := (s.setTop g).pushFrame (.throwing a)) hfind).1]
  obtain ⟨g₀, hg⟩ := Option.isSome_iff_exists.mp h.top
  obtain ⟨r, hr⟩ := State.topJava?_eq_some.mp hg
  have hr' : (s.setVm vm').frames = .java g₀ :: r := hr
  rw [State.setTop_of_frames _ hr'] at hrest
  have e1 : (((s.setTop g).pushFrame (.throwing a)).setVm vm').setFrames (.java { g with pc := pc, stack := [.ref a] } :: s.frames.tail) = (s.setVm vm').setFrames (.java { g with pc := pc, stack := [.ref a] } :: r) := by
    rw [State.pushFrame, State.setTop_of_frames _ hr, State.setFrames_setFrames, hr]
    show (((s.setVm vm').setFrames _).setFrames _) = _
    rw [State.setFrames_setFrames]
    rfl
  rw [e1]
  exact hrest
section Core
variable {p : Program} {e : Env} {R : Room} {s : State} {m : MethodId} {args : Array Value} {below : List Frame} {meth : Method} {c : Code} {T : State} {locs : List Loc} {cells slots : Nat}
/-- one row, its class fits -/
theorem xfind1 {G : xG} {Y : xY} {h : xH} {pc s1 e1 hp ct x cx : Nat} {r : vw_C} {lsA : Array Slot} {rest : List Value} (Z : Stand p (gL G) e R s m args below meth c T locs cells slots) (hown : s.vm.findClass Y.1.cls = some m.cls) (hT : xTb G s) (hR : xReal G T.heap h)
    (htab : c.exceptionTable.toList.map (fun h => (h.startPc, h.endPc, h.handlerPc, h.catchType)) = [(s1, e1, hp, ct)]) (hpc : s1 ≤ pc ∧ pc < e1) (hct : ct ≠ 0) (hc : xcl[cx]? = some r) (hw : Cond.classLink Y.1.cls ct r.1 ∈ lw_tbl) (hx : (hS h x).1 = cx + 1) :
    ∃ vm', s.WarmedH vm' ∧ xFinds e ((T.setTop (F0 m pc lsA rest)).pushFrame (.throwing x)) (F0 m pc lsA rest) x (.found hp) vm' := by
  obtain ⟨y, hy⟩ : ∃ y, c.exceptionTable.toList = [y] := by
    match hl : c.exceptionTable.toList, htab with
    | [y], _ => exact ⟨y, rfl⟩
  rw [hy] at htab
  have hq : (y.startPc, y.endPc, y.handlerPc, y.catchType) = (s1, e1, hp, ct) := by simpa using htab
  simp only [Prod.mk.injEq] at hq
  obtain ⟨p1, p2, p3, p4⟩ := hq
  have hpl : e.platform.magicAccessors = ({} : Platform).magicAccessors := by rw [Z.admits.platform]
  obtain ⟨cc, hfcc, hcl⟩ := Cond.classLink_spec hown (hT.1 _ hw rfl args) e.platform hpl
  have hKn := (hT.2.1 cx r hc).2
  have hcc : cc = gC G cx := Option.some.inj (hfcc.symm.trans hKn.1)
  subst hcc
  obtain ⟨hg1, hwarm, -⟩ := State.classEntry (e := e) Z.warmed hcl
  obtain ⟨cell, q1, q2, q3, -⟩ := (hR.2.2.2.2 x).1 cx r hx hc
  obtain ⟨kC, hkC, -⟩ := hKn.2
  obtain ⟨k1, hk1, -⟩ := hwarm.alike.2.2 _ _ hkC
  refine ⟨_, hwarm, fun Q E d acts => ?_⟩
  rw [W.findHandler_eq (meth := meth) (code := c) (by rw [Stand.throwing_vm]; exact Z.method') Z.code, hy]
  rw [xgo_class (c := gC G cx) (vm' := T.vm.noted m.cls ct (.cls (gC G cx))) (cell := cell) (by simp [p1, p2]; exact hpc) (by rw [p4]; exact hct) (by rw [Stand.throwing_vm, p4]; exact hg1) (by rw [Stand.throwing_vm, Vm.size_noted]; exact Nat.le_refl _) (by rw [Stand.throwing_heap]; exact q1) (fun k hz => by rw [q3] at hz; cases hz) (by rw [q2]; exact ⟨_, hk1⟩) ⟨_, hk1⟩,
    if_pos (by rw [q2, hwarm.alike.assignable]; exact va_assign hKn), p3]
/-- two rows over one stretch: the first one fits, or the second -/
theorem xfind2 {G : xG} {Y : xY} {h : xH} {pc s1 e1 hp1 ct1 hp2 ct2 x : Nat} {lsA : Array Slot} {rest : List Value} (Z : Stand p (gL G) e R s m args below meth c T locs cells slots) (hown : s.vm.findClass Y.1.cls = some m.cls) (hT : xTb G s) (hR : xReal G T.heap h)
    (htab : c.exceptionTable.toList.map (fun h => (h.startPc, h.endPc, h.handlerPc, h.catchType)) = [(s1, e1, hp1, ct1), (s1, e1, hp2, ct2)]) (hpc : s1 ≤ pc ∧ pc < e1) (hct1 : ct1 ≠ 0) (hct2 : ct2 ≠ 0) (hw1 : Cond.classLink Y.1.cls ct1 RX8 ∈ lw_tbl) (hw2 : Cond.classLink Y.1.cls ct2 RX5 ∈ lw_tbl) (hx : (hS h x).1 = 9 ∨ (hS h x).1 = 6) :
    ∃ vm', s.WarmedH vm' ∧ xFinds e ((T.setTop (F0 m pc lsA rest)).pushFrame (.throwing x)) (F0 m pc lsA rest) x (.found (if (hS h x).1 = 9 then hp1 else hp2)) vm' := by
  obtain ⟨y, y2, hy⟩ : ∃ y y2, c.exceptionTable.toList = [y, y2] := by
    have hlen := congrArg List.length htab
    simp only [List.length_map, List.length_cons, List.length_nil] at hlen
    match hl : c.exceptionTable.toList, hlen with
    | [y, y2], _ => exact ⟨y, y2, rfl⟩
  rw [hy] at htab
  have hq : (y.startPc, y.endPc, y.handlerPc, y.catchType) = (s1, e1, hp1, ct1) ∧ (y2.startPc, y2.endPc, y2.handlerPc, y2.catchType) = (s1, e1, hp2, ct2) := by simpa using htab
  simp only [Prod.mk.injEq] at hq
  obtain ⟨⟨p1, p2, p3, p4⟩, u1, u2, u3, u4⟩ := hq
  have hpl : e.platform.magicAccessors = ({} : Platform).magicAccessors := by rw [Z.admits.platform]
  obtain ⟨cc, hfcc, hcl⟩ := Cond.classLink_spec hown (hT.1 _ hw1 rfl args) e.platform hpl
  have hK8 := (hT.2.1 8 _ rfl).2
  have hK5 := (hT.2.1 5 _ rfl).2
  have hcc : cc = gC G 8 := Option.some.inj (hfcc.symm.trans hK8.1)
  subst hcc
  obtain ⟨hg1, hwarm, -⟩ := State.classEntry (e := e) Z.warmed hcl
  obtain ⟨kC, hkC, -⟩ := hK8.2
  obtain ⟨k1, hk1, -⟩ := hwarm.alike.2.2 _ _ hkC
  rcases hx with hx | hx
  · obtain ⟨cell, q1, q2, q3, -⟩ := (hR.2.2.2.2 x).1 8 _ hx rfl
    refine ⟨_, hwarm, fun Q E d acts => ?_⟩
    rw [W.findHandler_eq (meth := meth) (code := c) (by rw [Stand.throwing_vm]; exact Z.method') Z.code, hy]
    rw [xgo_class (c := gC G 8) (vm' := T.vm.noted m.cls ct1 (.cls (gC G 8))) (cell := cell) (by simp [p1, p2]; exact hpc) (by rw [p4]; exact hct1) (by rw [Stand.throwing_vm, p4]; exact hg1) (by rw [Stand.throwing_vm, Vm.size_noted]; exact Nat.le_refl _) (by rw [Stand.throwing_heap]; exact q1) (fun k hz => by rw [q3] at hz; cases hz) (by rw [q2]; exact ⟨_, hk1⟩) ⟨_, hk1⟩,
      if_pos (by rw [q2, hwarm.alike.assignable]; exact va_assign hK8), p3, if_pos hx]
  · obtain ⟨cell, q1, q2, q3, -⟩ := (hR.2.2.2.2 x).1 5 _ hx rfl
    obtain ⟨cc2, hfcc2, hcl2⟩ := Cond.classLink_spec hown (hT.1 _ hw2 rfl args) e.platform hpl
    have hcc2 : cc2 = gC G 5 := Option.some.inj (hfcc2.symm.trans hK5.1)
    subst hcc2
    obtain ⟨hg2, hwarm2, -⟩ := State.classEntry (e := e) hwarm hcl2
    obtain ⟨kD, hkD, -⟩ := hK5.2
    obtain ⟨k2, hk2, -⟩ := hwarm2.alike.2.2 _ _ hkD
    obtain ⟨k3, hk3, -⟩ := hwarm.alike.2.2 _ _ hkD
    refine ⟨_, hwarm2, fun Q E d acts => ?_⟩
    rw [W.findHandler_eq (meth := meth) (code := c) (by rw [Stand.throwing_vm]; exact Z.method') Z.code, hy]
    rw [xgo_class (c := gC G 8) (vm' := T.vm.noted m.cls ct1 (.cls (gC G 8))) (cell := cell) (by simp [p1, p2]; exact hpc) (by rw [p4]; exact hct1) (by rw [Stand.throwing_vm, p4]; exact hg1) (by rw [Stand.throwing_vm, Vm.size_noted]; exact Nat.le_refl _) (by rw [Stand.throwing_heap]; exact q1) (fun k hz => by rw [q3] at hz; cases hz) (by rw [q2]; exact ⟨_, hk3⟩) ⟨_, hk1⟩,
      if_neg (by rw [q2, hwarm.alike.assignable, hT.2.2.2.2.2.2.2.2.2.2.2]; decide)]
    rw [xgo_class (c := gC G 5) (vm' := (T.vm.noted m.cls ct1 (.cls (gC G 8))).noted m.cls ct2 (.cls (gC G 5))) (cell := cell) (by simp [u1, u2]; exact hpc) (by rw [u4]; exact hct2) (by rw [u4]; exact hg2) (by show _ ≤ (T.vm.noted m.cls ct1 (.cls (gC G 8))).classes.size; rw [Vm.size_noted]; exact Nat.le_refl _) (by show ((T.setTop (F0 m pc lsA rest)).pushFrame (.throwing x)).heap[x]? = _; rw [Stand.throwing_heap]; exact q1) (fun k hz => by rw [q3] at hz; cases hz) (by rw [q2]; exact ⟨_, hk2⟩) ⟨_, hk2⟩,
      if_pos (by rw [q2, hwarm2.alike.assignable]; exact va_assign hK5), u3, if_neg (by rw [hx]; decide)]
    rfl
end Core
section Rows
variable {G : xG} {Y : xY} {d : Nat} {Q : xQ} {X : xX} {h : xH} {pc : Nat} {ls : List (Option Value)} {st : List Value}
/-- a call in a stretch with handlers; hf: where the search comes to -/
theorem V.callH {Y' : xY} {d' len : Nat} {av : List Value} {Q' : xQ} {ig : Instr} {stk rest : List Value} (hp : xH → Nat → Nat) (hM : AM G Y' d' h av Q') (hdd : d' + 1 ≤ d) (hroom : (rest.map fun v => v.category).sum ≤ 60) (hY : xYok Y') (hd : decode (yC Y) pc = .ok (ig, len)) (hinv : xInv G Y h pc stk rest Y'.1 av)
    (hf : ∀ (p : Program) (e : Env) (R : Room) (s : State) (m : MethodId) (args : Array Value) (below : List Frame) (meth : Method) (c : Code) (T : State) (locs : List Loc) (cells slots : Nat) (lsA : Array Slot) (h' : xH) (x : Nat), Stand p (gL G) e R s m args below meth c T locs cells slots → s.vm.findClass Y.1.cls = some m.cls → xTb G s → xReal G T.heap h' → c.exceptionTable.toList.map (fun h => (h.startPc, h.endPc, h.handlerPc, h.catchType)) = yH Y → Q'.2 x h' →
      ∃ vm', s.WarmedH vm' ∧ xFinds e ((T.setTop (F0 m pc lsA rest)).pushFrame (.throwing x)) (F0 m pc lsA rest) x (.found (hp h' x)) vm')
    (kn : ∀ v h', Q'.1 v h' → hN h ≤ hN h' → hK h ≤ hK h' → V G Y d Q X h' (pc + len) ls (v.toList ++ rest)) (kt : ∀ x h', Q'.2 x h' → hN h ≤ hN h' → hK h ≤ hK h' → V G Y d Q X h' (hp h' x) ls [.ref x]) : V G Y d Q X h pc ls stk := by
  obtain ⟨p, e, s, m, args, below, meth, c, n0, k0⟩ := X
  intro ok H locs lsA hR hL hl hn hk
  have ok0 := ok
  obtain ⟨hx, hb, hml, hown, hT, hret, hlocks, hnm, htab⟩ := ok
  intro T hT' Z
  have hsz : lsA.size = c.maxLocals := hl.1.trans hml.symm
  obtain ⟨vm₁, mk, Z₁, hmk, hstep⟩ := hinv p e _ s m args below meth c H locs _ _ lsA T hx hb hown hT hR hT' hsz Z
  have hTU : xTb G (T.setVm vm₁) := hT.warm Z₁.warmed
  obtain ⟨hy1, hy2, hy3, hy4, -⟩ := hY
  obtain ⟨T₂, h', L, b1, b2, b3, b4, Z₂, bs⟩ := hM.call hn.2 hk.2 Z₁ (g := F0 m pc lsA rest) (len := len) (ig := ig) hdd (by show _ ≤ 100 * d; omega) (by show _ ≤ gB G + 600128 - n0; omega) (by show _ ≤ 7301098 - k0; omega) rfl hsz (by rw [hb]; exact hd) (by show 2 * 0 + (rest.map fun v => v.category).sum ≤ 60; omega) (Z₁.named hmk) hTU (by show xReal G T.heap h; rw [hT']; exact hR) (hTU.1 _ hy1 hy2 _) (hTU.1 _ hy3 rfl _)
  have hL2 : ∀ q ∈ locs ++ L, gB G ≤ q.base := fun q hq => by
    rcases List.mem_append.mp hq with z | z
    · exact hL q z
    · exact b3 q z
  have hn' : n0 ≤ hN h' ∧ hN h' ≤ gB G + 600128 := ⟨by omega, b1.2⟩
  have hk' : k0 ≤ hK h' ∧ hK h' ≤ 7301098 := ⟨by omega, b2.2⟩
  have e1 : hN h - n0 + (hN h' - hN h) = hN h' - n0 := by omega
  have e2 : hK h - k0 + (hK h' - hK h) = hK h' - k0 := by omega
  rw [e1, e2] at Z₂
  rcases bs with ⟨v, hv, hst⟩ | ⟨x, hv, hst⟩
  · obtain ⟨t, a1, a2⟩ := kn v h' hv b1.1 b2.1 ok0 T₂.heap (locs ++ L) lsA b4 hL2 hl hn' hk' T₂ rfl Z₂
    refine ⟨t, hstep t (fun acts => ?_), a2⟩
    rw [doInvoke_state]
    exact hst.trans a1
  · obtain ⟨vm', hW', hfind⟩ := hf p e _ s m args below meth c T₂ (locs ++ L) _ _ lsA h' x Z₂ hown hT b4 htab hv
    have Z₃ := Z₂.noted hW'
    obtain ⟨t, a1, a2⟩ := kt x h' hv b1.1 b2.1 ok0 T₂.heap (locs ++ L) lsA b4 hL2 hl hn' hk' (T₂.setVm vm') rfl Z₃
    refine ⟨t, hstep t (fun acts => ?_), a2⟩
    rw [doInvoke_state]
    exact hst.trans (xcaught (g := F0 m pc lsA rest) Z₂.here hfind a1)
end Rows
