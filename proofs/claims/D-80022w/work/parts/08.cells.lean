/-! rows of V: returns, fields, arrays, new cells, constants of the tables -/
set_option maxRecDepth 100000
section Rows
variable {G : xG} {Y : xY} {d : Nat} {Q : xQ} {X : xX} {h : xH} {pc : Nat} {ls : List (Option Value)} {st : List Value}
theorem V.ireturn {v : Int32} {ty : FieldType} (hd : decode (yC Y) pc = .ok (.ireturn, 1)) (hr : yR Y = some ty) (hnar : narrow ty (.int v) = .int v) (hq : Q.1 (some (.int v)) h) : V G Y d Q X h pc ls [.int v] := by
  obtain ⟨p, e, s, m, args, below, meth, c, n0, k0⟩ := X
  intro ok H locs lsA hR hL hl hn hk
  obtain ⟨hx, hb, -, -, -, hret, hlocks, -⟩ := ok
  rw [hr] at hret
  intro T hT Z
  obtain ⟨fs, hret', hrun, hended, hW, hframe⟩ := Z.leave (v := some (.int v)) (hlocks := hlocks) (fun q => by rw [hret] at q; cases q)
  have hmeth' : T.vm.method? m = some meth := Z.method'
  refine ⟨T.setFrames fs, ?_, .returned (some (.int v)), hrun, hended, h, locs, hn, hk, hW, hframe, hL, ?_, Or.inl ⟨_, rfl, hq⟩⟩
  · jvm_step Z.here [Z.here.top, hx, hb, hd, hmeth', hret, hnar]
    (try refine ⟨rfl, ?_⟩); (try refine ⟨rfl, ?_⟩)
    first | (intro acts; rw [hret' _ acts rfl rfl rfl]) | rw [hret' _ _ rfl rfl rfl]
    exact Steps.refl _
  · show xReal G T.heap h
    rw [hT]
    exact hR
theorem V.lreturn {v : Int64} (hd : decode (yC Y) pc = .ok (.lreturn, 1)) (hr : yR Y = some .long) (hq : Q.1 (some (.long v)) h) : V G Y d Q X h pc ls [.long v] := by
  obtain ⟨p, e, s, m, args, below, meth, c, n0, k0⟩ := X
  intro ok H locs lsA hR hL hl hn hk
  obtain ⟨hx, hb, -, -, -, hret, hlocks, -⟩ := ok
  rw [hr] at hret
  intro T hT Z
  obtain ⟨fs, hret', hrun, hended, hW, hframe⟩ := Z.leave (v := some (.long v)) (hlocks := hlocks) (fun q => by rw [hret] at q; cases q)
  have hmeth' : T.vm.method? m = some meth := Z.method'
  refine ⟨T.setFrames fs, ?_, .returned (some (.long v)), hrun, hended, h, locs, hn, hk, hW, hframe, hL, ?_, Or.inl ⟨_, rfl, hq⟩⟩
  · jvm_step Z.here [Z.here.top, hx, hb, hd, hmeth', hret, narrow]
    (try refine ⟨rfl, ?_⟩); (try refine ⟨rfl, ?_⟩)
    first | (intro acts; rw [hret' _ acts rfl rfl rfl]) | rw [hret' _ _ rfl rfl rfl]
    exact Steps.refl _
  · show xReal G T.heap h
    rw [hT]
    exact hR
theorem V.vreturn (hd : decode (yC Y) pc = .ok (.return_, 1)) (hr : yR Y = none) (hq : Q.1 none h) : V G Y d Q X h pc ls [] := by
  obtain ⟨p, e, s, m, args, below, meth, c, n0, k0⟩ := X
  intro ok H locs lsA hR hL hl hn hk
  obtain ⟨hx, hb, -, -, -, hret, hlocks, -⟩ := ok
  rw [hr] at hret
  intro T hT Z
  obtain ⟨fs, hret', hrun, hended, hW, hframe⟩ := Z.leave (v := none) (hlocks := hlocks) (fun _ => rfl)
  have hmeth' : T.vm.method? m = some meth := Z.method'
  refine ⟨T.setFrames fs, ?_, .returned none, hrun, hended, h, locs, hn, hk, hW, hframe, hL, ?_, Or.inl ⟨_, rfl, hq⟩⟩
  · jvm_step Z.here [Z.here.top, hx, hb, hd, hmeth', hret]
    (try refine ⟨rfl, ?_⟩); (try refine ⟨rfl, ?_⟩)
    first | (intro acts; rw [hret' _ acts rfl rfl rfl]) | rw [hret' _ _ rfl rfl rfl]
    exact Steps.refl _
  · show xReal G T.heap h
    rw [hT]
    exact hR
theorem V.areturn {v : Value} {rt : FieldType} (hd : decode (yC Y) pc = .ok (.areturn, 1)) (hr : yR Y = some rt) (hrt : fk rt = 2) (hv : v = .null ∨ ∃ a, v = .ref a) (hq : Q.1 (some v) h) : V G Y d Q X h pc ls [v] := by
  have hrt : (∃ n, rt = .object n) ∨ ∃ t, rt = .array t := by
    cases rt <;> simp [fk] at hrt
    · exact Or.inl ⟨_, rfl⟩
    · exact Or.inr ⟨_, rfl⟩
  obtain ⟨p, e, s, m, args, below, meth, c, n0, k0⟩ := X
  intro ok H locs lsA hR hL hl hn hk
  obtain ⟨hx, hb, -, -, -, hret, hlocks, -⟩ := ok
  rw [hr] at hret
  intro T hT Z
  obtain ⟨fs, hret', hrun, hended, hW, hframe⟩ := Z.leave (v := some v) (hlocks := hlocks) (fun q => by rw [hret] at q; cases q)
  have hmeth' : T.vm.method? m = some meth := Z.method'
  refine ⟨T.setFrames fs, ?_, .returned (some v), hrun, hended, h, locs, hn, hk, hW, hframe, hL, ?_, Or.inl ⟨_, rfl, hq⟩⟩
  · rcases hrt with ⟨n, rfl⟩ | ⟨t, rfl⟩ <;> rcases hv with rfl | ⟨a, rfl⟩ <;>
    (jvm_step Z.here [Z.here.top, hx, hb, hd, hmeth', hret]
     (try refine ⟨rfl, ?_⟩); (try refine ⟨rfl, ?_⟩)
     first | (intro acts; rw [hret' _ acts rfl rfl rfl]) | rw [hret' _ _ rfl rfl rfl]
     exact Steps.refl _)
  · show xReal G T.heap h
    rw [hT]
    exact hR
/-- 'athrow' of a reference where no handler stands -/
theorem V.athrow {a : Nat} (hd : decode (yC Y) pc = .ok (.athrow, 1)) (hh : (yH Y).all (fun q => !(decide (q.1 ≤ pc) && decide (pc < q.2.1))) = true) (hq : Q.2 a h) : V G Y d Q X h pc ls (.ref a :: st) := by
  obtain ⟨p, e, s, m, args, below, meth, c, n0, k0⟩ := X
  intro ok H locs lsA hR hL hl hn hk
  obtain ⟨hx, hb, -, -, -, -, hlocks, -, htab⟩ := ok
  intro T hT Z
  obtain ⟨s1, s2, s3, s4, s5⟩ := Z.athrowLeaves hx (g := F0 m pc lsA (.ref a :: st)) rfl rfl rfl (fun x hx => by
    have h1 : (x.startPc, x.endPc, x.handlerPc, x.catchType) ∈ yH Y := by rw [← htab]; exact List.mem_map.mpr ⟨x, hx, rfl⟩
    have h2 := List.all_eq_true.mp hh _ h1
    simp at h2 ⊢
    omega) rfl (by rw [hb]; exact hd) hlocks
  refine ⟨_, s1, .threw a, s2, s3, h, locs, hn, hk, s4, s5, hL, ?_, Or.inr ⟨_, rfl, hq⟩⟩
  show xReal G T.heap h
  rw [hT]
  exact hR
/-! fields -/
def xFl (own : String) (idx c k : Nat) (ty : FieldType) (fin : Bool) : Prop := ∃ (C : String) (T : u_T) (N : Nat), xcl[c]? = some (C, T, N) ∧ k < N ∧ xty c k = ty ∧ (T k).2.2.2 = fin ∧ ((Cond.fieldLink own idx (T k).1 (T k).2.1 (T k).2.2.1 ∈ lw_tbl) ∨ ∃ host, Cond.fieldLinkNest own idx (T k).1 (T k).2.1 (T k).2.2.1 host ∈ lw_tbl)
theorem xTb.all {G : xG} {s : State} (h : xTb G s) (a : Array Value) : ∀ w ∈ lw_all, w.before a s = true := fun w hw => h.1 w (lw_all_tbl hw) (by
  have := (List.mem_filter.mp hw).2
  cases w <;> first | exact this | rfl) a
theorem V.getv {c k idx a : Nat} {ty : FieldType} {fin : Bool} (f : xFl Y.1.cls idx c k ty fin) (hs : (hS h a).1 = c + 1) (hd : decode (yC Y) pc = .ok (.getfield idx, 3)) (kk : V G Y d Q X h (pc + 3) ls (fv ty h a k :: st)) : V G Y d Q X h pc ls (.ref a :: st) := by
  obtain ⟨C, T, N, hc, hkN, hty, -, hlk⟩ := f
  obtain ⟨p, e, s, m, args, below, meth, c', n0, k0⟩ := X
  intro ok H locs lsA hR hL hl hn hk
  have K := kk ok H locs lsA hR hL hl hn hk
  obtain ⟨hx, hb, hml, hown, hT, hret, hlocks, hnm, htab⟩ := ok
  obtain ⟨cell, q1, q2, q3, q4⟩ := (hR.2.2.2.2 a).1 c _ hs hc
  obtain ⟨hS, hfc, kC, hkC, hkind⟩ := hT.2.1 c _ hc
  obtain ⟨cf, kf, fi, f, hi, hsl⟩ := hS k hkN
  have hin := (xcl_ok hc).1
  have hst := (u_facts hfc hkC (u_lays (hT.all args) hin hkN) hi).1
  rcases hlk with hw | ⟨host, hw⟩
  · refine W.getf hx hb hown (hT.1 _ hw rfl args) hi hst q1 (by rw [q3]; exact fun h => by cases h) (v := fv ty h a k) ?_ rfl rfl hd K
    rw [hsl, q4 k hkN]
    simp only [hty]
  · refine va_Wgetf hx hb hown (hT.1 _ hw rfl args) hi hst q1 (by rw [q3]; exact fun h => by cases h) (v := fv ty h a k) ?_ rfl rfl hd K
    rw [hsl, q4 k hkN]
    simp only [hty]
theorem V.getI {c k idx a : Nat} {ty : FieldType} {fin : Bool} (f : xFl Y.1.cls idx c k ty fin) (hs : (hS h a).1 = c + 1) (hd : decode (yC Y) pc = .ok (.getfield idx, 3)) (ht : fk ty = 0) (kk : V G Y d Q X h (pc + 3) ls (.int (hI h a k) :: st)) : V G Y d Q X h pc ls (.ref a :: st) := V.getv f hs hd (by rw [fv_0 ht]; exact kk)
theorem V.getL {c k idx a : Nat} {ty : FieldType} {fin : Bool} (f : xFl Y.1.cls idx c k ty fin) (hs : (hS h a).1 = c + 1) (hd : decode (yC Y) pc = .ok (.getfield idx, 3)) (ht : fk ty = 1) (kk : V G Y d Q X h (pc + 3) ls (.long (hL h a k) :: st)) : V G Y d Q X h pc ls (.ref a :: st) := V.getv f hs hd (by rw [fv_1 ht]; exact kk)
theorem V.getR {c k idx a : Nat} {ty : FieldType} {fin : Bool} (f : xFl Y.1.cls idx c k ty fin) (hs : (hS h a).1 = c + 1) (hd : decode (yC Y) pc = .ok (.getfield idx, 3)) (ht : fk ty = 2) (kk : V G Y d Q X h (pc + 3) ls (va_rf (hR h a k) :: st)) : V G Y d Q X h pc ls (.ref a :: st) := V.getv f hs hd (by rw [fv_2 ht]; exact kk)
/-- a reference that is known -/
theorem V.getr {c k idx a b : Nat} {ty : FieldType} {fin : Bool} (f : xFl Y.1.cls idx c k ty fin) (hs : (hS h a).1 = c + 1) (hr : hR h a k = some b) (hd : decode (yC Y) pc = .ok (.getfield idx, 3)) (ht : fk ty = 2) (kk : V G Y d Q X h (pc + 3) ls (.ref b :: st)) : V G Y d Q X h pc ls (.ref a :: st) := V.getR f hs hd ht (by rw [hr]; exact kk)
theorem V.putv {c k idx a : Nat} {ty : FieldType} {fin : Bool} {v : Value} {h1 : xH} (f : xFl Y.1.cls idx c k ty fin) (hs : (hS h a).1 = c + 1) (hfin : fin = false ∨ (Y.1.name = "<init>" ∧ ∀ r, xcl[c]? = some r → (r.2.1 k).1 = Y.1.cls ∧ Cond.fieldLink Y.1.cls idx (r.2.1 k).1 (r.2.1 k).2.1 (r.2.1 k).2.2.1 ∈ lw_tbl)) (hnar : narrow ty v = v) (hfit : fits ty v = true) (hd : decode (yC Y) pc = .ok (.putfield idx, 3))
    (f1 : hN h1 = hN h) (f0 : hK h1 = hK h) (f2 : hS h1 = hS h) (f3 : ∀ x j, ¬ (x = a ∧ j = k) → hI h1 x j = hI h x j ∧ hL h1 x j = hL h x j ∧ hR h1 x j = hR h x j) (f4 : fv ty h1 a k = v)
    (kk : V G Y d Q X h1 (pc + 3) ls st) : V G Y d Q X h pc ls (v :: .ref a :: st) := by
  obtain ⟨C, T, N, hc, hkN, hty, hfi, hlk⟩ := f
  obtain ⟨p, e, s, m, args, below, meth, c', n0, k0⟩ := X
  intro ok H locs lsA hR hL hl hn hk
  have K := fun H1 locs1 hR1 hL1 => kk ok H1 locs1 lsA hR1 hL1 hl (by rw [f1]; exact hn) (by rw [f0]; exact hk)
  rw [f1, f0] at K
  obtain ⟨hx, hb, hml, hown, hT, hret, hlocks, hnm, htab⟩ := ok
  have hgB := (hR.dom (a := a) (by rw [hs]; omega)).1
  have hO := hR.2.2.2.2 a
  obtain ⟨cell, q1, q2, q3, q4⟩ := hO.1 c _ hs hc
  have hKn := hT.2.1 c _ hc
  obtain ⟨hS', hfc, kC, hkC, hkind⟩ := hKn
  obtain ⟨cf, kf, fi, fd, hi, hsl⟩ := hS' k hkN
  obtain ⟨hin, hpf, hnmx, -⟩ := xcl_ok hc
  have hla := hT.all args
  have hst := (u_facts hfc hkC (u_lays hla hin hkN) hi).1
  have hlay := hla _ (hin _ (u_in_lay hkN))
  have hap : ∀ x y, x < N → y < N → x ≠ y → gI G c x ≠ gI G c y := by
    intro x y hx hy hne
    obtain ⟨_, _, _, fa, hia, ea⟩ := hS' x hx
    obtain ⟨_, _, _, fb, hib, eb⟩ := hS' y hy
    rw [← ea, ← eb]
    refine u_apart (u_lays hla hin hx) (u_lays hla hin hy) hia hib ?_
    rw [(State.fieldFound?_type hia (hpf x hx)).1, (State.fieldFound?_type hib (hpf y hy)).1]
    exact hnmx x hx y hy hne
  have hpd : parseFieldDescriptor (T k).2.2.1 = some ty := by rw [← hty]; exact hpf k hkN
  have hlt : fd.slot < cell.slots.size := by rw [hsl]; exact k2_hasslot (q4 k hkN)
  have fin1 : ∀ H' : Heap, H'[a]? = some (cell.setSlot fd.slot v) → H'.size = H.size → (∀ q, q ≠ a → H'[q]? = H[q]?) → W p (gL G) e (xrm G d n0 k0) s m args below meth c' H' (locs ++ [⟨a, fd.slot⟩]) (hN h - n0) (hK h - k0) (xMQ G below n0 k0 Q s) (F0 m (pc + 3) lsA st) := by
    intro H' e1 e2 e3
    refine K H' _ (hR.putO hs hc hkN hap q1 (by rw [← hsl]; exact e1) e2 e3 f1 f2 f3 (by rw [hty]; exact f4)) (fun q hq => ?_)
    rcases List.mem_append.mp hq with z | z
    · exact hL q z
    · rw [List.mem_singleton] at z
      subst z
      exact hgB
  unfold u_lay at hlay
  cases fin with
  | false =>
    rw [if_neg (by rw [hfi]; decide)] at hlay
    have h6 := u_store hfc hkC hkind hlay hi hpd hnar hfit
    rcases hlk with hw | ⟨host, hw⟩
    · exact W.putK hx hb (f := fd) ⟨hown, hT.1 _ hw rfl args, ⟨_, _, _, hi⟩, hst⟩ (by rw [q2]; exact h6) q1 q3 hlt rfl rfl hd fin1
    · exact va_WputK hx hb (f := fd) hown (hT.1 _ hw rfl args) hi hst (by rw [q2]; exact h6) q1 q3 hlt rfl rfl hd fin1
  | true =>
    rcases hfin with z | ⟨z, z2⟩
    · cases z
    · obtain ⟨hdecl, hw⟩ := z2 _ hc
      rw [if_pos hfi] at hlay
      have hcf : m.cls = cf := by
        obtain ⟨_, _, c2, _, _, _, -, -, hf', -, -, -, hown2, -⟩ := Cond.laysFinal_spec hlay
        have e1 : c2 = cf := by have := hi.symm.trans hf'; simp at this; exact this.1.symm
        have hdecl' : (T k).1 = Y.1.cls := hdecl
        rw [hdecl'] at hown2
        rw [← e1]; exact Option.some.inj (hown.symm.trans hown2)
      have h6 := u_fits hfc hkC hkind (Or.inr hlay) hi hpd hnar hfit
      exact W.putFinK hx hb hown (hT.1 _ hw rfl args) hi hst hcf (hnm.trans z) (by rw [q2]; exact h6) q1 q3 hlt rfl rfl hd fin1
theorem V.putI {c k idx a : Nat} {ty : FieldType} {v : Int32} (f : xFl Y.1.cls idx c k ty false) (hs : (hS h a).1 = c + 1) (hd : decode (yC Y) pc = .ok (.putfield idx, 3)) (ht : fk ty = 0) (hnar : narrow ty (.int v) = .int v) (hfit : fits ty (.int v) = true) (kk : V G Y d Q X (setI h a k v) (pc + 3) ls st) : V G Y d Q X h pc ls (.int v :: .ref a :: st) :=
  V.putv (h1 := setI h a k v) f hs (Or.inl rfl) hnar hfit hd rfl rfl rfl (fun x j n => ⟨upd2_n n, rfl, rfl⟩) (by rw [fv_0 ht]; show Value.int (upd2 _ _ _ _ _ _) = _; rw [upd2_s]) kk
theorem V.putL {c k idx a : Nat} {v : Int64} (f : xFl Y.1.cls idx c k .long false) (hs : (hS h a).1 = c + 1) (hd : decode (yC Y) pc = .ok (.putfield idx, 3)) (kk : V G Y d Q X (setL h a k v) (pc + 3) ls st) : V G Y d Q X h pc ls (.long v :: .ref a :: st) :=
  V.putv (h1 := setL h a k v) f hs (Or.inl rfl) rfl rfl hd rfl rfl rfl (fun x j n => ⟨rfl, upd2_n n, rfl⟩) (by show Value.long (upd2 _ _ _ _ _ _) = _; rw [upd2_s]) kk
theorem V.putR {c k idx a : Nat} {ty : FieldType} {r : Option Nat} (f : xFl Y.1.cls idx c k ty false) (hs : (hS h a).1 = c + 1) (hd : decode (yC Y) pc = .ok (.putfield idx, 3)) (ht : fk ty = 2) (kk : V G Y d Q X (setR h a k r) (pc + 3) ls st) : V G Y d Q X h pc ls (va_rf r :: .ref a :: st) :=
  V.putv (h1 := setR h a k r) f hs (Or.inl rfl) (by cases ty <;> simp [fk] at ht <;> cases r <;> rfl) (by cases ty <;> simp [fk] at ht <;> cases r <;> rfl) hd rfl rfl rfl (fun x j n => ⟨rfl, rfl, upd2_n n⟩) (by rw [fv_2 ht]; show va_rf (upd2 _ _ _ _ _ _) = _; rw [upd2_s]) kk
/-- final references, in the constructor -/
theorem V.putRF {c k idx a : Nat} {ty : FieldType} {r : Option Nat} (f : xFl Y.1.cls idx c k ty true) (hs : (hS h a).1 = c + 1) (hi : Y.1.name = "<init>") (hw : ∀ q, xcl[c]? = some q → (q.2.1 k).1 = Y.1.cls ∧ Cond.fieldLink Y.1.cls idx (q.2.1 k).1 (q.2.1 k).2.1 (q.2.1 k).2.2.1 ∈ lw_tbl) (hd : decode (yC Y) pc = .ok (.putfield idx, 3)) (ht : fk ty = 2) (kk : V G Y d Q X (setR h a k r) (pc + 3) ls st) : V G Y d Q X h pc ls (va_rf r :: .ref a :: st) :=
  V.putv (h1 := setR h a k r) f hs (Or.inr ⟨hi, hw⟩) (by cases ty <;> simp [fk] at ht <;> cases r <;> rfl) (by cases ty <;> simp [fk] at ht <;> cases r <;> rfl) hd rfl rfl rfl (fun x j n => ⟨rfl, rfl, upd2_n n⟩) (by rw [fv_2 ht]; show va_rf (upd2 _ _ _ _ _ _) = _; rw [upd2_s]) kk
end Rows
