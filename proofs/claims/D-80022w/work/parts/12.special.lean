/-! calls on constants, through the interface, handlers, System.arraycopy -/
set_option maxRecDepth 100000
section Rows
variable {G : xG} {Y : xY} {d : Nat} {Q : xQ} {X : xX} {h : xH} {pc : Nat} {ls : List (Option Value)} {st : List Value}
/-! a virtual call on an object whose class is known otherwise -/
theorem xInv.VR {b idx n : Nat} {C : String} {Y' : xY} {As rest : List Value} (w1 : Cond.methodLink Y.1.cls idx Y'.1 ∈ lw_tbl) (w2 : Cond.instanceMethod Y'.1 ∈ lw_tbl) (w3 : Cond.selects C Y'.1 Y'.1 ∈ lw_tbl) (w5 : (parseMethodDescriptor Y'.1.desc).map (fun d => d.parameters.length) = some n) (hY : xYok Y')
    (hr : ∀ s H, xTb G s → xReal G H h → ∃ cellB : Cell, H[b]? = some cellB ∧ cellB.vm.isStatics = false ∧ s.vm.findClass C = some cellB.cls) (hA : As.length = n) (hd : decode (yC Y) pc = .ok (.invokevirtual idx, 3)) : xInv G Y h pc (As.reverse ++ .ref b :: rest) rest Y'.1 (.ref b :: As) := by
  intro p e R s m args below meth c' H locs cells slots lsA T hx hb hown hT hR hT' hsz Z
  obtain ⟨cellB, q1, q3, hcls⟩ := hr s H hT hR
  obtain ⟨mk, methM, hnamed, hmethM, hstM, habM⟩ := Cond.instanceMethod_spec (hT.1 _ w2 rfl args)
  obtain ⟨methM', cM, hmethM', -, -, -, -, -, -, hsigM⟩ := yW_spec hnamed (hT.1 _ hY.1 hY.2.1 args)
  cases hmethM.symm.trans hmethM'
  obtain ⟨c2, r2, m2, p1, p2, p3, p4, kP, hkP, hkPi⟩ := Cond.selects_spec (hT.1 _ w3 rfl args)
  have hy : Y'.1.cls ≠ "java/lang/invoke/MethodHandle" ∧ Y'.1.cls ≠ "java/lang/invoke/VarHandle" := hY.2.2.2.2
  cases hcls.symm.trans p1
  cases (State.methodFound?_of_named hnamed hy).symm.trans p2
  cases hnamed.symm.trans p3
  have hselP : selectMethod e.platform s.vm cellB.cls mk = .method mk := by rw [Launch.admits_selectMethod Z.admits]; exact p4
  obtain ⟨vm₁, X₁, hstep₁⟩ := Z.invokevirtual hx hown (hT.1 _ w1 rfl args) hnamed hmethM hstM hkP hkPi hy (a := b) (cell := cellB) (by rw [hT']; exact q1)
    (fun z h => by rw [h] at q3; cases q3) hselP hmethM habM hkP hkPi (g := F0 m pc lsA (As.reverse ++ .ref b :: rest)) rfl (argsL := As) (rest := rest) (hA.trans (xlen w5 hsigM).symm) rfl (by rw [hb]; exact hd)
  exact ⟨vm₁, mk, X₁, hnamed, hstep₁⟩
theorem xTb.recvS {G : xG} {h : xH} {i : Nat} {q : String × Nat × String × List Int32} (hq : xstr[i]? = some q) : ∀ s H, xTb G s → xReal G H h → ∃ cellB : Cell, H[gK G i]? = some cellB ∧ cellB.vm.isStatics = false ∧ s.vm.findClass "java/lang/String" = some cellB.cls := by
  intro s H hT hR
  obtain ⟨cell, g1, g2, g3, g4⟩ := (hT.2.2.2.2.2.2.1 i q hq).2.1
  exact ⟨cell, by rw [hR.gS g4]; exact g1, g2, g3⟩
/-- a call on a String constant -/
theorem V.callT {Y' : xY} {d' i idx n : Nat} {q : String × Nat × String × List Int32} {As rest : List Value} {Q' : xQ} (hM : AM G Y' d' h (.ref (gK G i) :: As) Q') (hq : xstr[i]? = some q) (w1 : Cond.methodLink Y.1.cls idx Y'.1 ∈ lw_tbl) (w2 : Cond.instanceMethod Y'.1 ∈ lw_tbl) (w3 : Cond.selects "java/lang/String" Y'.1 Y'.1 ∈ lw_tbl) (w5 : (parseMethodDescriptor Y'.1.desc).map (fun d => d.parameters.length) = some n) (hY : xYok Y') (hst : st = As.reverse ++ .ref (gK G i) :: rest) (hA : As.length = n) (hdd : d' + 1 ≤ d) (hroom : (rest.map fun v => v.category).sum ≤ 60) (hd : decode (yC Y) pc = .ok (.invokevirtual idx, 3))
    (hno : (yH Y).all (fun q => !(decide (q.1 ≤ pc) && decide (pc < q.2.1))) = true)
    (kn : ∀ v h', Q'.1 v h' → hN h ≤ hN h' → hK h ≤ hK h' → V G Y d Q X h' (pc + 3) ls (v.toList ++ rest)) (kt : ∀ x h', Q'.2 x h' → hN h ≤ hN h' → hK h ≤ hK h' → Q.2 x h') : V G Y d Q X h pc ls st := by
  subst hst
  exact V.callG hM hdd hroom hY hd (xInv.VR w1 w2 w3 w5 hY (xTb.recvS hq) hA hd) hno kn kt
/-! Enum.ordinal -/
theorem xInv.U {b idx n : Nat} {C owner : String} {x : MethodName} {Y' : xY} {As rest : List Value} (w1 : Cond.methodLink Y.1.cls idx x ∈ lw_tbl) (w4 : Cond.sameMethod x.cls owner x.name x.desc ∈ lw_tbl) (w6 : Cond.declares ⟨owner, x.name, x.desc⟩ ∈ lw_tbl) (howner : owner ≠ "java/lang/invoke/MethodHandle" ∧ owner ≠ "java/lang/invoke/VarHandle") (w2 : Cond.instanceMethod Y'.1 ∈ lw_tbl) (w3 : Cond.selects C x Y'.1 ∈ lw_tbl) (w5 : (parseMethodDescriptor x.desc).map (fun d => d.parameters.length) = some n) (hY : xYok Y')
    (hr : ∀ s H, xTb G s → xReal G H h → ∃ cellB : Cell, H[b]? = some cellB ∧ cellB.vm.isStatics = false ∧ s.vm.findClass C = some cellB.cls) (hA : As.length = n) (hd : decode (yC Y) pc = .ok (.invokevirtual idx, 3)) : xInv G Y h pc (As.reverse ++ .ref b :: rest) rest Y'.1 (.ref b :: As) := by
  intro p e R s m args below meth c' H locs cells slots lsA T hx hb hown hT hR hT' hsz Z
  obtain ⟨cellB, q1, q3, hcls⟩ := hr s H hT hR
  obtain ⟨r0, r, hn, hrm, hstR, hsigR⟩ := va_Decl.abs (s := s) (hT.1 _ w6 rfl #[])
  have hsame := hT.1 _ w4 rfl args
  obtain ⟨cn, ck, r1, hcn, hck, hni, hf, hn1⟩ := Cond.sameMethod_found hsame
  cases hn.symm.trans hn1
  obtain ⟨mk, methM, hnamed, hmethM, -, habM⟩ := Cond.instanceMethod_spec (hT.1 _ w2 rfl args)
  obtain ⟨c2, r2, m2, p1, p2, p3, p4, kP, hkP, hkPi⟩ := Cond.selects_spec (hT.1 _ w3 rfl args)
  cases hcls.symm.trans p1
  cases hf.symm.trans p2
  cases hnamed.symm.trans p3
  have hselP : selectMethod e.platform s.vm cellB.cls r0 = .method mk := by rw [Launch.admits_selectMethod Z.admits]; exact p4
  obtain ⟨vm₁, X₁, hstep₁⟩ := Z.invokevirtualUp hx hown (hT.1 _ w1 rfl args) hsame howner hn hrm hstR (a := b) (cell := cellB) (by rw [hT']; exact q1)
    (fun z h => by rw [h] at q3; cases q3) hselP hmethM habM hkP hkPi (g := F0 m pc lsA (As.reverse ++ .ref b :: rest)) rfl (argsL := As) (rest := rest) (hA.trans (xlen w5 hsigR).symm) rfl (by rw [hb]; exact hd)
  exact ⟨vm₁, mk, X₁, hnamed, hstep₁⟩
theorem xTb.recvE {G : xG} {h : xH} {i : Nat} {q : String × String × String × Int32} (hq : xen[i]? = some q) : ∀ s H, xTb G s → xReal G H h → ∃ cellB : Cell, H[gE G i]? = some cellB ∧ cellB.vm.isStatics = false ∧ s.vm.findClass q.1 = some cellB.cls := by
  intro s H hT hR
  obtain ⟨cell, g1, g2, g3, g4⟩ := (hT.2.2.2.1 i q hq).2.1
  exact ⟨cell, by rw [hR.gS g4]; exact g1, g2, g3⟩
/-! through the interface Letters -/
theorem xInv.F {c b idx count : Nat} {r : vw_C} {Y' : xY} {As rest : List Value} (hc : xcl[c]? = some r) (hCm : r.1 ∈ [RX7, RX10, RX3]) (hs : (hS h b).1 = c + 1) (hyy : Y'.1 = ⟨r.1, "of", "(I)J"⟩) (w1 : Cond.methodLink Y.1.cls idx yLetters ∈ lw_tbl) (w2 : Cond.instanceMethod Y'.1 ∈ lw_tbl) (w3 : Cond.selects r.1 yLetters Y'.1 ∈ lw_tbl) (hA : As.length = 1) (hd : decode (yC Y) pc = .ok (.invokeinterface idx count, 5)) : xInv G Y h pc (As.reverse ++ .ref b :: rest) rest Y'.1 (.ref b :: As) := by
  intro p e R s m args below meth c' H locs cells slots lsA T hx hb hown hT hR hT' hsz Z
  obtain ⟨cellB, z1, z2, z3, -⟩ := (hR.2.2.2.2 b).1 c r hs hc
  have hKn := (hT.2.1 c r hc).2
  have hcls : s.vm.findClass r.1 = some cellB.cls := by rw [z2]; exact hKn.1
  obtain ⟨kB, hkB, -⟩ := hKn.2
  obtain ⟨f1, f2, f3, f4, f5⟩ := hT.2.2.2.2.2.2.2.1 r.1 hCm
  rw [← hyy] at f3
  obtain ⟨r0, rr, hn, hrm, hstR, hsigR⟩ := Cond.declares_spec f1
  obtain ⟨cL, kL, r1, hcL, hkL, hiL, hfoundL, hn1⟩ := Cond.interfaceMethod_spec f2
  cases hn.symm.trans hn1
  have hr0cls : r0.cls = cL := Option.some.inj ((findClass_of_methodNamed hn).symm.trans hcL)
  obtain ⟨hnameR, hdescR⟩ := name_of_methodNamed hn hrm
  obtain ⟨mk, methM, hnamed, hmethM, -, habM⟩ := Cond.instanceMethod_spec (hT.1 _ w2 rfl args)
  obtain ⟨c2, r2, m2, q1, q2, q3, q4, -⟩ := Cond.selects_spec (hT.1 _ w3 rfl args)
  cases hcls.symm.trans q1
  cases hfoundL.symm.trans q2
  cases hnamed.symm.trans q3
  have hselP : selectMethod e.platform s.vm cellB.cls r0 = .method mk := by rw [Launch.admits_selectMethod Z.admits]; exact q4
  have hpubM : hasFlag methM.accessFlags Acc.public_ = true := Cond.publicMethod_spec hnamed hmethM f3
  have hway : ((cellB.cls :: s.vm.superclasses cellB.cls).any fun k => (declaredIn s.vm rr.name rr.desc k).any fun (_, z) => z.isPrivate || z.isStatic) = false := by
    rw [hnameR, hdescR]; exact Cond.unhidden_spec hcls f4
  obtain ⟨c3, t3, y1, y2, y3⟩ := Cond.castable_spec f5
  cases hcls.symm.trans y1
  cases hcL.symm.trans y2
  obtain ⟨vm₁, X₁, hstep₁⟩ := Z.invokeinterface hx hown (hT.1 _ w1 rfl args) hn hrm hstR (by rw [hr0cls]; exact hkL) hiL (by decide) (a := b) (cell := cellB) (kcell := kB) (by rw [hT']; exact z1)
    (fun z h => by rw [z3] at h; cases h) (by rw [z2]; exact hkB) (by rw [hr0cls]; exact y3) hselP hmethM hway hpubM habM (g := F0 m pc lsA (As.reverse ++ .ref b :: rest)) rfl (argsL := As) (rest := rest) (hA.trans (xlen (y := yLetters) (n := 1) (by decide +kernel) hsigR).symm) rfl (by rw [hb]; exact hd)
  exact ⟨vm₁, mk, X₁, hnamed, hstep₁⟩
theorem V.callF {Y' : xY} {d' c b idx count : Nat} {r : vw_C} {As rest : List Value} {Q' : xQ} (hM : AM G Y' d' h (.ref b :: As) Q') (hc : xcl[c]? = some r) (hCm : r.1 ∈ [RX7, RX10, RX3]) (hs : (hS h b).1 = c + 1) (hyy : Y'.1 = ⟨r.1, "of", "(I)J"⟩) (w1 : Cond.methodLink Y.1.cls idx yLetters ∈ lw_tbl) (w2 : Cond.instanceMethod Y'.1 ∈ lw_tbl) (w3 : Cond.selects r.1 yLetters Y'.1 ∈ lw_tbl) (hY : xYok Y') (hst : st = As.reverse ++ .ref b :: rest) (hA : As.length = 1) (hdd : d' + 1 ≤ d) (hroom : (rest.map fun v => v.category).sum ≤ 60) (hd : decode (yC Y) pc = .ok (.invokeinterface idx count, 5))
    (hno : (yH Y).all (fun q => !(decide (q.1 ≤ pc) && decide (pc < q.2.1))) = true)
    (kn : ∀ v h', Q'.1 v h' → hN h ≤ hN h' → hK h ≤ hK h' → V G Y d Q X h' (pc + 5) ls (v.toList ++ rest)) (kt : ∀ x h', Q'.2 x h' → hN h ≤ hN h' → hK h ≤ hK h' → Q.2 x h') : V G Y d Q X h pc ls st := by
  subst hst
  exact V.callG hM hdd hroom hY hd (xInv.F hc hCm hs hyy w1 w2 w3 hA hd) hno kn kt
/-! System.arraycopy -/
theorem xReal.updW {G : xG} {H H1 : Heap} {h h1 : xH} {a t n : Nat} (R : xReal G H h) (hs : hS h a = (100 + t, n)) (e1 : H1[a]? = some (arrV (gA G t) n (fun j => fv (xat t) h1 a j))) (e2 : H1.size = H.size) (e3 : ∀ q : Nat, q ≠ a → H1[q]? = H[q]?)
    (f1 : hN h1 = hN h) (f2 : hS h1 = hS h) (f3 : ∀ x j, x ≠ a → hI h1 x j = hI h x j ∧ hL h1 x j = hL h x j ∧ hR h1 x j = hR h x j) : xReal G H1 h1 := by
  obtain ⟨g1, g2⟩ := R.dom (a := a) (by rw [hs]; show 100 + t ≠ 0; omega)
  obtain ⟨z0, z1, z2⟩ := R.arr hs
  obtain ⟨r1, r2, r3, r4, r5⟩ := R
  refine ⟨by rw [e2, f1]; exact r1, by rw [f1]; exact r2, fun x hx => ?_, fun x hx => ?_, fun x => ?_⟩
  · rw [e3 x (by omega), f2]
    exact r3 x hx
  · rw [f1] at hx
    refine ⟨by rw [f2]; exact (r4 x hx).1, fun j => ?_⟩
    obtain ⟨y1, y2, y3⟩ := f3 x j (fun q => by omega)
    rw [y1, y2, y3]
    exact (r4 x hx).2 j
  · by_cases hx : x = a
    · subst hx
      refine ⟨fun c r q1 q2 => ?_, fun t' q1 => ?_⟩
      · rw [f2, hs] at q1
        have := xcl_lt q2
        simp only at q1
        omega
      · rw [f2, hs] at q1 ⊢
        have htt : t' = t := by simp only at q1; omega
        subst htt
        exact ⟨z0, e1, z2⟩
    · refine ⟨fun c r q1 q2 => ?_, fun t q1 => ?_⟩
      · rw [f2] at q1
        refine ((r5 x).1 c r q1 q2).kept (e3 x hx) |>.to fun j _ => ?_
        obtain ⟨y1, y2, y3⟩ := f3 x j hx
        exact (fv_same y1 y2 y3).symm
      · rw [f2] at q1 ⊢
        obtain ⟨p0, p1, p2⟩ := (r5 x).2 t q1
        refine ⟨p0, ?_, p2⟩
        rw [e3 x hx, p1]
        congr 2
        funext j
        obtain ⟨y1, y2, y3⟩ := f3 x j hx
        exact (fv_same y1 y2 y3).symm
theorem nI_nn {z : Nat} (h : z < 2 ^ 31) : (nI z).toInt = (z : Int) := nI_toInt h
theorem V.copyv {t a0 a n0 n1 sp dp n idx : Nat} {h1 : xH} {isp idp iN : Int32} (hs0 : hS h a0 = (100 + t, n0)) (hs1 : hS h a = (100 + t, n1)) (htp : refKind (xat t) = false) (e1 : isp = nI sp) (e2 : idp = nI dp) (e3 : iN = nI n) (h4 : sp + n ≤ n0) (h5 : dp + n ≤ n1) (hfit : ∀ i, i < n → fits (xat t) (fv (xat t) h a0 (sp + i)) = true ∧ ∀ b, fv (xat t) h a0 (sp + i) ≠ .ref b)
    (f1 : hN h1 = hN h) (f0 : hK h1 = hK h) (f2 : hS h1 = hS h) (f3 : ∀ x j, x ≠ a → hI h1 x j = hI h x j ∧ hL h1 x j = hL h x j ∧ hR h1 x j = hR h x j) (f4 : ∀ j, fv (xat t) h1 a j = va_cpy (fun j => fv (xat t) h a0 j) (fun j => fv (xat t) h a j) sp dp n j)
    (w1 : Cond.methodLink Y.1.cls idx arraycopyName ∈ lw_tbl) (w2 : Cond.native arraycopyName ∈ lw_tbl) (w3 : Cond.static arraycopyName ∈ lw_tbl) (w4 : Cond.initialized "java/lang/System" ∈ lw_tbl) (hdd : 1 ≤ d) (hroom : (st.map fun v => v.category).sum ≤ 60) (hd : decode (yC Y) pc = .ok (.invokestatic idx, 3))
    (kk : V G Y d Q X h1 (pc + 3) ls st) : V G Y d Q X h pc ls (.int iN :: .int idp :: .ref a :: .int isp :: .ref a0 :: st) := by
  obtain ⟨p, e, s, m, args, below, meth, c, n0', k0⟩ := X
  intro ok H locs lsA hR hL hl hn hk
  have K := fun H1 locs1 hR1 hL1 => kk ok H1 locs1 lsA hR1 hL1 hl (by rw [f1]; exact hn) (by rw [f0]; exact hk)
  rw [f1, f0] at K
  obtain ⟨hx, hb, hml, hown, hT, hret, hlocks, hnm, htab⟩ := ok
  have hgB := (hR.dom (a := a) (by rw [hs1]; show 100 + t ≠ 0; omega)).1
  obtain ⟨z0, hc0, y2⟩ := hR.arr hs0
  obtain ⟨-, hc1, x2⟩ := hR.arr hs1
  subst e1; subst e2; subst e3
  intro T hT' Z
  obtain ⟨-, k1, hk1, cm1, hkk1⟩ := (hT.2.2.1 t z0).1 n1 (fun j => fv (xat t) h a j)
  have hnw : nativeFrameWords "java/lang/System" "arraycopy" 5 + 11 ≤ 40 := by decide +kernel
  have csp : (nI sp).toNatClampNeg = sp := nI_clamp (by omega)
  have cdp : (nI dp).toNatClampNeg = dp := nI_clamp (by omega)
  have cn : (nI n).toNatClampNeg = n := nI_clamp (by omega)
  obtain ⟨vm', X', step⟩ := Z.arraycopy hx hown (hT.1 _ w1 rfl args) (hT.1 _ w2 rfl args) (hT.1 _ w3 rfl args) (hT.1 _ w4 rfl args) (src := a0) (dst := a) (cs := arrV (gA G t) n0 (fun j => fv (xat t) h a0 j)) (cd := arrV (gA G t) n1 (fun j => fv (xat t) h a j)) (srcPos := nI sp) (destPos := nI dp) (n := nI n) (by rw [hT']; exact hc0) (by rw [hT']; exact hc1)
    (fun _ h => by cases h) (fun _ h => by cases h) (fun h => by cases h) (fun h => by cases h) hk1 hk1 hkk1 hkk1 (by simp [htp]) (nI_pos (by omega)) (nI_pos (by omega)) (nI_pos (by omega))
    (by rw [nI_nn (by omega), nI_nn (by omega), arrV_size]; omega)
    (by rw [nI_nn (by omega), nI_nn (by omega), arrV_size]; omega)
    (fun vm₁ _ i hi => by
      rw [cn] at hi
      have e : (arrV (gA G t) n0 (fun j => fv (xat t) h a0 j)).slots.getD ((nI sp).toNatClampNeg + i) .null = fv (xat t) h a0 (sp + i) := by
        rw [csp, Array.getD_eq_getD_getElem?, arrV_read _ _ (by omega)]
        rfl
      obtain ⟨q1, q2⟩ := hfit i hi
      rw [e]
      refine ⟨q1, ?_⟩
      cases hv : fv (xat t) h a0 (sp + i) with
      | ref b => exact absurd hv (q2 b)
      | _ => trivial)
    (g := F0 m pc lsA (.int (nI n) :: .int (nI dp) :: .ref a :: .int (nI sp) :: .ref a0 :: st)) rfl (hl.1.trans hml.symm) (rest := st) rfl (by rw [hb]; exact hd) hdd (by show 2 * 0 + (st.map fun v => v.category).sum + (nativeFrameWords "java/lang/System" "arraycopy" 5 + 11) ≤ 100 * d; omega)
  have e1 : copied (arrV (gA G t) n0 (fun j => fv (xat t) h a0 j)) (arrV (gA G t) n1 (fun j => fv (xat t) h a j)) (nI sp) (nI dp) (nI n) = arrV (gA G t) n1 (fun j => fv (xat t) h1 a j) := by
    have := va_copied (fun z : Value => z) (gA G t) (gA G t) (n0 := n0) (n1 := n1) (sp := sp) (dp := dp) (n := n) (fun j => fv (xat t) h a0 j) (fun j => fv (xat t) h a j) h4
    unfold copied
    rw [csp, cdp, cn, this]
    congr 1
    funext j
    exact (f4 j).symm
  rw [e1] at X' step
  have hl' : a < H.size := (Array.getElem?_eq_some_iff.mp hc1).1
  have hheap : ((T.setVm vm').setCell a (arrV (gA G t) n1 (fun j => fv (xat t) h1 a j))).heap = H.setIfInBounds a (arrV (gA G t) n1 (fun j => fv (xat t) h1 a j)) := by rw [← hT']; rfl
  have oq : ∀ q : Nat, q ≠ a → (H.setIfInBounds a (arrV (gA G t) n1 (fun j => fv (xat t) h1 a j)))[q]? = H[q]? := fun q hq => by simp [Array.getElem?_setIfInBounds, Ne.symm hq]
  obtain ⟨t', a1, b1⟩ := K _ _ (hR.updW (h1 := h1) hs1 (by simp [Array.getElem?_setIfInBounds, hl']) (by simp) oq f1 f2 f3) (fun q hq => by
      rcases List.mem_append.mp hq with h | h
      · exact hL q h
      · obtain ⟨z, -, hz⟩ := List.mem_map.mp h
        rw [← hz]
        exact hgB) _ hheap X'
  exact ⟨t', step t' a1, b1⟩
theorem cpy2_out {α : Type} {f : Nat → Nat → α} {s sp d dp n x j : Nat} (h : x ≠ d) : cpy2 f s sp d dp n x j = f x j := by simp [cpy2, h]
theorem cpy2_in {α : Type} {f : Nat → Nat → α} {s sp d dp n j : Nat} : cpy2 f s sp d dp n d j = va_cpy (f s) (f d) sp dp n j := by simp [cpy2, va_cpy]
theorem V.copyL {a0 a n0 n1 sp dp n idx : Nat} {isp idp iN : Int32} (hs0 : hS h a0 = (101, n0)) (hs1 : hS h a = (101, n1)) (e1 : isp = nI sp) (e2 : idp = nI dp) (e3 : iN = nI n) (h4 : sp + n ≤ n0) (h5 : dp + n ≤ n1)
    (w1 : Cond.methodLink Y.1.cls idx arraycopyName ∈ lw_tbl) (w2 : Cond.native arraycopyName ∈ lw_tbl) (w3 : Cond.static arraycopyName ∈ lw_tbl) (w4 : Cond.initialized "java/lang/System" ∈ lw_tbl) (hdd : 1 ≤ d) (hroom : (st.map fun v => v.category).sum ≤ 60) (hd : decode (yC Y) pc = .ok (.invokestatic idx, 3))
    (kk : V G Y d Q X (cpyL h a0 sp a dp n) (pc + 3) ls st) : V G Y d Q X h pc ls (.int iN :: .int idp :: .ref a :: .int isp :: .ref a0 :: st) :=
  V.copyv (t := 1) (h1 := cpyL h a0 sp a dp n) hs0 hs1 rfl e1 e2 e3 h4 h5 (fun i _ => ⟨rfl, fun b q => by cases q⟩) rfl rfl rfl (fun x j hx => ⟨rfl, cpy2_out hx, rfl⟩) (fun j => by
    show Value.long (cpy2 (hL h) a0 sp a dp n a j) = _
    rw [cpy2_in]
    simp only [va_cpy]
    split <;> rfl) w1 w2 w3 w4 hdd hroom hd kk
theorem V.copyI {a0 a n0 n1 sp dp n idx : Nat} {isp idp iN : Int32} (hs0 : hS h a0 = (100, n0)) (hs1 : hS h a = (100, n1)) (e1 : isp = nI sp) (e2 : idp = nI dp) (e3 : iN = nI n) (h4 : sp + n ≤ n0) (h5 : dp + n ≤ n1)
    (w1 : Cond.methodLink Y.1.cls idx arraycopyName ∈ lw_tbl) (w2 : Cond.native arraycopyName ∈ lw_tbl) (w3 : Cond.static arraycopyName ∈ lw_tbl) (w4 : Cond.initialized "java/lang/System" ∈ lw_tbl) (hdd : 1 ≤ d) (hroom : (st.map fun v => v.category).sum ≤ 60) (hd : decode (yC Y) pc = .ok (.invokestatic idx, 3))
    (kk : V G Y d Q X (cpyI h a0 sp a dp n) (pc + 3) ls st) : V G Y d Q X h pc ls (.int iN :: .int idp :: .ref a :: .int isp :: .ref a0 :: st) :=
  V.copyv (t := 0) (h1 := cpyI h a0 sp a dp n) hs0 hs1 rfl e1 e2 e3 h4 h5 (fun i _ => ⟨rfl, fun b q => by cases q⟩) rfl rfl rfl (fun x j hx => ⟨cpy2_out hx, rfl, rfl⟩) (fun j => by
    show Value.int (cpy2 (hI h) a0 sp a dp n a j) = _
    rw [cpy2_in]
    simp only [va_cpy]
    split <;> rfl) w1 w2 w3 w4 hdd hroom hd kk
theorem V.copyB {a0 a n0 n1 sp dp n idx : Nat} {isp idp iN : Int32} (hs0 : hS h a0 = (102, n0)) (hs1 : hS h a = (102, n1)) (e1 : isp = nI sp) (e2 : idp = nI dp) (e3 : iN = nI n) (h4 : sp + n ≤ n0) (h5 : dp + n ≤ n1) (hfit : ∀ i, i < n → fits .byte (.int (hI h a0 (sp + i))) = true)
    (w1 : Cond.methodLink Y.1.cls idx arraycopyName ∈ lw_tbl) (w2 : Cond.native arraycopyName ∈ lw_tbl) (w3 : Cond.static arraycopyName ∈ lw_tbl) (w4 : Cond.initialized "java/lang/System" ∈ lw_tbl) (hdd : 1 ≤ d) (hroom : (st.map fun v => v.category).sum ≤ 60) (hd : decode (yC Y) pc = .ok (.invokestatic idx, 3))
    (kk : V G Y d Q X (cpyI h a0 sp a dp n) (pc + 3) ls st) : V G Y d Q X h pc ls (.int iN :: .int idp :: .ref a :: .int isp :: .ref a0 :: st) :=
  V.copyv (t := 2) (h1 := cpyI h a0 sp a dp n) hs0 hs1 rfl e1 e2 e3 h4 h5 (fun i hi => ⟨hfit i hi, fun b q => by cases q⟩) rfl rfl rfl (fun x j hx => ⟨cpy2_out hx, rfl, rfl⟩) (fun j => by
    show Value.int (cpy2 (hI h) a0 sp a dp n a j) = _
    rw [cpy2_in]
    simp only [va_cpy]
    split <;> rfl) w1 w2 w3 w4 hdd hroom hd kk
end Rows
