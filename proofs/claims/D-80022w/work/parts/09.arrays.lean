/-! rows of V: arrays, new cells, constants -/
set_option maxRecDepth 100000
section Rows
variable {G : xG} {Y : xY} {d : Nat} {Q : xQ} {X : xX} {h : xH} {pc : Nat} {ls : List (Option Value)} {st : List Value}
theorem xReal.arr {G : xG} {H : Heap} {h : xH} {a t n : Nat} (R : xReal G H h) (hs : hS h a = (100 + t, n)) : t < 9 ∧ H[a]? = some (arrV (gA G t) n (fun j => fv (xat t) h a j)) ∧ n < 2 ^ 31 := by
  have := (R.2.2.2.2 a).2 t (by rw [hs])
  rw [hs] at this
  exact this
theorem V.iald {a n j : Nat} {i : Int32} (hs : hS h a = (100, n)) (hi : i = nI j) (hj : j < n) (hd : decode (yC Y) pc = .ok (.iaload, 1)) (kk : V G Y d Q X h (pc + 1) ls (.int (hI h a j) :: st)) : V G Y d Q X h pc ls (.int i :: .ref a :: st) := by
  obtain ⟨p, e, s, m, args, below, meth, c, n0, k0⟩ := X
  intro ok H locs lsA hR hL hl hn hk
  have K := kk ok H locs lsA hR hL hl hn hk
  obtain ⟨hx, hb, -, -, hT, -⟩ := ok
  obtain ⟨h0, h1, h2⟩ := hR.arr (t := 0) hs
  subst hi
  exact W.iald hx hb h1 ((hT.2.2.1 0 h0).1 _ _) (fun q => by cases q) (by rw [arrV_size]; exact nI_in hj h2) (by rw [nI_clamp (by omega), arrV_read _ _ hj]; rfl) rfl rfl hd K
theorem V.lald {a n j : Nat} {i : Int32} (hs : hS h a = (101, n)) (hi : i = nI j) (hj : j < n) (hd : decode (yC Y) pc = .ok (.laload, 1)) (kk : V G Y d Q X h (pc + 1) ls (.long (hL h a j) :: st)) : V G Y d Q X h pc ls (.int i :: .ref a :: st) := by
  obtain ⟨p, e, s, m, args, below, meth, c, n0, k0⟩ := X
  intro ok H locs lsA hR hL hl hn hk
  have K := kk ok H locs lsA hR hL hl hn hk
  obtain ⟨hx, hb, -, -, hT, -⟩ := ok
  obtain ⟨h0, h1, h2⟩ := hR.arr (t := 1) hs
  subst hi
  exact W.lald hx hb h1 ((hT.2.2.1 1 h0).1 _ _) (fun q => by cases q) (by rw [arrV_size]; exact nI_in hj h2) (by rw [nI_clamp (by omega), arrV_read _ _ hj]; rfl) rfl rfl hd K
theorem V.bald {a n j : Nat} {i : Int32} (hs : hS h a = (102, n)) (hi : i = nI j) (hj : j < n) (hd : decode (yC Y) pc = .ok (.baload, 1)) (kk : V G Y d Q X h (pc + 1) ls (.int (hI h a j) :: st)) : V G Y d Q X h pc ls (.int i :: .ref a :: st) := by
  obtain ⟨p, e, s, m, args, below, meth, c, n0, k0⟩ := X
  intro ok H locs lsA hR hL hl hn hk
  have K := kk ok H locs lsA hR hL hl hn hk
  obtain ⟨hx, hb, -, -, hT, -⟩ := ok
  obtain ⟨h0, h1, h2⟩ := hR.arr (t := 2) hs
  subst hi
  exact W.bald hx hb h1 ((hT.2.2.1 2 h0).1 _ _) (fun q => by cases q) (by rw [arrV_size]; exact nI_in hj h2) (by rw [nI_clamp (by omega), arrV_read _ _ hj]; rfl) rfl rfl hd K
theorem V.zald {a n j : Nat} {i : Int32} (hs : hS h a = (103, n)) (hi : i = nI j) (hj : j < n) (hd : decode (yC Y) pc = .ok (.baload, 1)) (kk : V G Y d Q X h (pc + 1) ls (.int (hI h a j) :: st)) : V G Y d Q X h pc ls (.int i :: .ref a :: st) := by
  obtain ⟨p, e, s, m, args, below, meth, c, n0, k0⟩ := X
  intro ok H locs lsA hR hL hl hn hk
  have K := kk ok H locs lsA hR hL hl hn hk
  obtain ⟨hx, hb, -, -, hT, -⟩ := ok
  obtain ⟨h0, h1, h2⟩ := hR.arr (t := 3) hs
  subst hi
  exact W.zald hx hb h1 ((hT.2.2.1 3 h0).1 _ _) (fun q => by cases q) (by rw [arrV_size]; exact nI_in hj h2) (by rw [nI_clamp (by omega), arrV_read _ _ hj]; rfl) rfl rfl hd K
theorem xat_ref {t : Nat} (h4 : 4 ≤ t) : ∃ C, xat t = .object C := by
  match t, h4 with
  | 4, _ => exact ⟨_, rfl⟩
  | 5, _ => exact ⟨_, rfl⟩
  | 6, _ => exact ⟨_, rfl⟩
  | 7, _ => exact ⟨_, rfl⟩
  | n + 8, _ => exact ⟨_, rfl⟩
theorem V.aald {a n j t : Nat} {i : Int32} (hs : hS h a = (100 + t, n)) (h4 : 4 ≤ t) (hi : i = nI j) (hj : j < n) (hd : decode (yC Y) pc = .ok (.aaload, 1)) (kk : V G Y d Q X h (pc + 1) ls (va_rf (hR h a j) :: st)) : V G Y d Q X h pc ls (.int i :: .ref a :: st) := by
  obtain ⟨p, e, s, m, args, below, meth, c, n0, k0⟩ := X
  intro ok H locs lsA hR hL hl hn hk
  have K := kk ok H locs lsA hR hL hl hn hk
  obtain ⟨hx, hb, -, -, hT, -⟩ := ok
  obtain ⟨h0, h1, h2⟩ := hR.arr hs
  subst hi
  obtain ⟨C, hC⟩ := xat_ref h4
  refine W.aald (ty := .object C) hx hb h1 (by rw [← hC]; exact (hT.2.2.1 t h0).1 _ _) rfl (fun q => by cases q) (by rw [arrV_size]; exact nI_in hj h2) (v := va_rf (_root_.Jvm.Pilot.CMemoryTransactionsLaw_law_r7631_94d7fe.hR h a j)) (by rw [nI_clamp (by omega), arrV_read _ _ hj, hC]; rfl) rfl rfl hd K
theorem V.aldr {a n j t b : Nat} {i : Int32} (hs : hS h a = (100 + t, n)) (h4 : 4 ≤ t) (hi : i = nI j) (hj : j < n) (hr : hR h a j = some b) (hd : decode (yC Y) pc = .ok (.aaload, 1)) (kk : V G Y d Q X h (pc + 1) ls (.ref b :: st)) : V G Y d Q X h pc ls (.int i :: .ref a :: st) := V.aald hs h4 hi hj hd (by rw [hr]; exact kk)
/-- a store into an array, by its W-row -/
theorem V.astv {a n j t : Nat} {i : Int32} {v w : Value} {h1 : xH} (hs : hS h a = (100 + t, n)) (hi : i = nI j) (hj : j < n)
    (f1 : hN h1 = hN h) (f0 : hK h1 = hK h) (f2 : hS h1 = hS h) (f3 : ∀ x k, ¬ (x = a ∧ k = j) → hI h1 x k = hI h x k ∧ hL h1 x k = hL h x k ∧ hR h1 x k = hR h x k) (f4 : fv (xat t) h1 a j = w)
    (hw : ∀ (p : Program) (e : Env) (R : Room) (s : State) (m : MethodId) (args : Array Value) (below : List Frame) (meth : Method) (c : Code) (H : Heap) (locs : List Loc) (cells slots : Nat) (Q : State → Prop) (lsA : Array Slot), p.tables.exec = Jvm.exec → c.code = yC Y → xTb G s → xReal G H h → t < 9 → H[a]? = some (arrV (gA G t) n (fun j => fv (xat t) h a j)) → n < 2 ^ 31 → ¬ (nI j < 0 ∨ (arrV (gA G t) n (fun j => fv (xat t) h a j)).slots.size ≤ (nI j).toNatClampNeg) →
      (∀ H' : Heap, H'[a]? = some ((arrV (gA G t) n (fun j => fv (xat t) h a j)).setSlot (nI j).toNatClampNeg w) → H'.size = H.size → (∀ q, q ≠ a → H'[q]? = H[q]?) → W p (gL G) e R s m args below meth c H' (locs ++ [⟨a, (nI j).toNatClampNeg⟩]) cells slots Q (F0 m (pc + 1) lsA st)) → W p (gL G) e R s m args below meth c H locs cells slots Q (F0 m pc lsA (v :: .int (nI j) :: .ref a :: st)))
    (kk : V G Y d Q X h1 (pc + 1) ls st) : V G Y d Q X h pc ls (v :: .int i :: .ref a :: st) := by
  obtain ⟨p, e, s, m, args, below, meth, c, n0, k0⟩ := X
  intro ok H locs lsA hR hL hl hn hk
  have K := fun H1 locs1 hR1 hL1 => kk ok H1 locs1 lsA hR1 hL1 hl (by rw [f1]; exact hn) (by rw [f0]; exact hk)
  rw [f1, f0] at K
  obtain ⟨hx, hb, -, -, hT, -⟩ := ok
  have hgB := (hR.dom (a := a) (by rw [hs]; show 100 + t ≠ 0; omega)).1
  obtain ⟨z0, z1, z2⟩ := hR.arr hs
  subst hi
  refine hw _ _ _ _ _ _ _ _ _ _ _ _ _ _ _ hx hb hT hR z0 z1 z2 (by rw [arrV_size]; exact nI_in hj z2) (fun H' e1 e2 e3 => ?_)
  rw [nI_clamp (by omega)] at e1
  refine K H' _ (hR.putA hs z1 e1 e2 e3 f1 f2 f3 f4) (fun q hq => ?_)
  rcases List.mem_append.mp hq with z | z
  · exact hL q z
  · rw [List.mem_singleton] at z
    subst z
    exact hgB
theorem V.iast {a n j : Nat} {i x : Int32} (hs : hS h a = (100, n)) (hi : i = nI j) (hj : j < n) (hd : decode (yC Y) pc = .ok (.iastore, 1)) (kk : V G Y d Q X (setI h a j x) (pc + 1) ls st) : V G Y d Q X h pc ls (.int x :: .int i :: .ref a :: st) :=
  V.astv (t := 0) (w := .int x) (h1 := setI h a j x) hs hi hj rfl rfl rfl (fun x j n => ⟨upd2_n n, rfl, rfl⟩) (by show Value.int (upd2 _ _ _ _ _ _) = _; rw [upd2_s]) (fun _ _ _ _ _ _ _ _ _ _ _ _ _ _ _ hx hb hT _ h0 h1 _ hin k => W.iast hx hb h1 ((hT.2.2.1 0 h0).1 _ _) (fun q => by cases q) hin rfl rfl hd k) kk
theorem V.last {a n j : Nat} {i : Int32} {x : Int64} (hs : hS h a = (101, n)) (hi : i = nI j) (hj : j < n) (hd : decode (yC Y) pc = .ok (.lastore, 1)) (kk : V G Y d Q X (setL h a j x) (pc + 1) ls st) : V G Y d Q X h pc ls (.long x :: .int i :: .ref a :: st) :=
  V.astv (t := 1) (w := .long x) (h1 := setL h a j x) hs hi hj rfl rfl rfl (fun x j n => ⟨rfl, upd2_n n, rfl⟩) (by show Value.long (upd2 _ _ _ _ _ _) = _; rw [upd2_s]) (fun _ _ _ _ _ _ _ _ _ _ _ _ _ _ _ hx hb hT _ h0 h1 _ hin k => W.last hx hb h1 ((hT.2.2.1 1 h0).1 _ _) (fun q => by cases q) hin rfl rfl hd k) kk
theorem V.bast {a n j : Nat} {i x : Int32} (hs : hS h a = (102, n)) (hi : i = nI j) (hj : j < n) (hd : decode (yC Y) pc = .ok (.bastore, 1)) (kk : V G Y d Q X (setI h a j x.toInt8.toInt32) (pc + 1) ls st) : V G Y d Q X h pc ls (.int x :: .int i :: .ref a :: st) :=
  V.astv (t := 2) (w := .int x.toInt8.toInt32) (h1 := setI h a j x.toInt8.toInt32) hs hi hj rfl rfl rfl (fun x j n => ⟨upd2_n n, rfl, rfl⟩) (by show Value.int (upd2 _ _ _ _ _ _) = _; rw [upd2_s]) (fun _ _ _ _ _ _ _ _ _ _ _ _ _ _ _ hx hb hT _ h0 h1 _ hin k => W.bast hx hb h1 ((hT.2.2.1 2 h0).1 _ _) (fun q => by cases q) hin rfl rfl hd k) kk
theorem V.zast {a n j : Nat} {i x : Int32} (hs : hS h a = (103, n)) (hi : i = nI j) (hj : j < n) (hz : narrow .boolean (.int x) = .int x) (hd : decode (yC Y) pc = .ok (.bastore, 1)) (kk : V G Y d Q X (setI h a j x) (pc + 1) ls st) : V G Y d Q X h pc ls (.int x :: .int i :: .ref a :: st) :=
  V.astv (t := 3) (w := .int x) (h1 := setI h a j x) hs hi hj rfl rfl rfl (fun x j n => ⟨upd2_n n, rfl, rfl⟩) (by show Value.int (upd2 _ _ _ _ _ _) = _; rw [upd2_s]) (fun _ _ _ _ _ _ _ _ _ _ _ _ _ _ _ hx hb hT _ h0 h1 _ hin k => W.zast hx hb h1 ((hT.2.2.1 3 h0).1 _ _) (fun q => by cases q) hin rfl rfl hd (fun H' e1 e2 e3 => k H' (by rw [hz] at e1; exact e1) e2 e3)) kk
/-- an object of class c into an array of that class -/
theorem V.aast {a n j t v c : Nat} {i : Int32} {r : vw_C} (hs : hS h a = (100 + t, n)) (hi : i = nI j) (hj : j < n) (hv : (hS h v).1 = c + 1) (hc : xcl[c]? = some r) (ht : xat t = .object r.1) (hd : decode (yC Y) pc = .ok (.aastore, 1)) (kk : V G Y d Q X (setR h a j (some v)) (pc + 1) ls st) : V G Y d Q X h pc ls (.ref v :: .int i :: .ref a :: st) :=
  V.astv (t := t) (w := .ref v) (h1 := setR h a j (some v)) hs hi hj rfl rfl rfl (fun x j n => ⟨rfl, rfl, upd2_n n⟩) (by rw [ht]; show va_rf (upd2 _ _ _ _ _ _) = _; rw [upd2_s]; rfl) (fun p e R s m args below meth c' H locs cells slots Q lsA hx hb hT hR h0 h1 h2 hin k => by
    obtain ⟨cellV, g1, g2, g3, -⟩ := (hR.2.2.2.2 v).1 c r hv hc
    have hcls := (hT.2.1 c r hc).2
    have hra := (hT.2.2.1 t h0).2
    rw [ht] at hra
    obtain ⟨kA, comp, k1, k2, k3, -⟩ := hra
    have hcomp : comp = gC G c := Option.some.inj (k3.symm.trans hcls.1)
    subst hcomp
    obtain ⟨kC, hkC, -⟩ := hcls.2
    refine W.aast hx hb h1 (fun q h => by cases h) (fun h => by cases h) k1 k2 rfl hkC ⟨nI_pos (by omega), by rw [arrV_size, nI_clamp (by omega)]; exact hj⟩ g1 (fun q h => by rw [g3] at h; cases h) (by rw [g2]; exact hkC) (by rw [g2]; exact va_assign hcls) rfl rfl hd k) kk
/-- an enum constant into an array of its class -/
theorem V.aastE {a n j t z : Nat} {i : Int32} {q : String × String × String × Int32} (hs : hS h a = (100 + t, n)) (hi : i = nI j) (hj : j < n) (hv : xen[z]? = some q) (ht : xat t = .object q.1) (hd : decode (yC Y) pc = .ok (.aastore, 1)) (kk : V G Y d Q X (setR h a j (some (gE G z))) (pc + 1) ls st) : V G Y d Q X h pc ls (.ref (gE G z) :: .int i :: .ref a :: st) :=
  V.astv (t := t) (w := .ref (gE G z)) (h1 := setR h a j (some (gE G z))) hs hi hj rfl rfl rfl (fun x j n => ⟨rfl, rfl, upd2_n n⟩) (by rw [ht]; show va_rf (upd2 _ _ _ _ _ _) = _; rw [upd2_s]; rfl) (fun p e R s m args below meth c' H locs cells slots Q lsA hx hb hT hR h0 h1 h2 hin k => by
    obtain ⟨cellV, g1, g2, g3, g4⟩ := (hT.2.2.2.1 z q hv).2.1
    have g1 : H[gE G z]? = some cellV := by rw [(hR.2.2.1 _ (Nat.not_le.mp g4)).1]; exact g1
    have hra := (hT.2.2.1 t h0).2
    rw [ht] at hra
    obtain ⟨kA, comp, k1, k2, k3, -⟩ := hra
    have hcomp : comp = cellV.cls := Option.some.inj (k3.symm.trans g3)
    subst hcomp
    obtain ⟨kC, hkC, -⟩ := Vm.findClass_spec g3
    refine W.aast hx hb h1 (fun q h => by cases h) (fun h => by cases h) k1 k2 rfl hkC ⟨nI_pos (by omega), by rw [arrV_size, nI_clamp (by omega)]; exact hj⟩ g1 (fun q h => by rw [h] at g2; cases g2) hkC (va_asg _ _) rfl rfl hd k) kk
theorem V.alen {a n t : Nat} (hs : hS h a = (100 + t, n)) (hd : decode (yC Y) pc = .ok (.arraylength, 1)) (kk : V G Y d Q X h (pc + 1) ls (.int (nI n) :: st)) : V G Y d Q X h pc ls (.ref a :: st) := by
  obtain ⟨p, e, s, m, args, below, meth, c, n0, k0⟩ := X
  intro ok H locs lsA hR hL hl hn hk
  have K := kk ok H locs lsA hR hL hl hn hk
  obtain ⟨hx, hb, -, -, hT, -⟩ := ok
  obtain ⟨h0, h1, h2⟩ := hR.arr hs
  exact W.alen (n := nI n) hx hb h1 ((hT.2.2.1 t h0).1 _ _) (by rw [arrV_size]; rfl) rfl rfl hd K
/-! new cells -/
def xNw (own : String) (idx c N : Nat) : Prop := ∃ (C : String) (T : u_T), xcl[c]? = some (C, T, N) ∧ Cond.classLink own idx C ∈ lw_tbl ∧ Cond.instantiable C N ∈ lw_tbl ∧ Cond.initialized C ∈ lw_tbl
theorem V.new {c N idx : Nat} (f : xNw Y.1.cls idx c N) (hd : decode (yC Y) pc = .ok (.new idx, 3)) (hcl : hN h < gB G + 600128) (hsl : hK h + N ≤ 7301098) (kk : V G Y d Q X (newO h (c + 1, 0) N) (pc + 3) ls (.ref (hN h) :: st)) : V G Y d Q X h pc ls st := by
  obtain ⟨C, T, hc, w1, w2, w3⟩ := f
  obtain ⟨p, e, s, m, args, below, meth, c', n0, k0⟩ := X
  intro ok H locs lsA hR hL hl hn hk
  have K := fun H1 hR1 => kk ok H1 locs lsA hR1 hL hl ⟨Nat.le_succ_of_le hn.1, hcl⟩ ⟨Nat.le_trans hk.1 (Nat.le_add_right _ _), hsl⟩
  have e1 : hN (newO h (c + 1, 0) N) - n0 = hN h - n0 + 1 := by show (hN h + 1) - n0 = _; omega
  have e2 : hK (newO h (c + 1, 0) N) - k0 = hK h - k0 + N := by show (hK h + N) - k0 = _; omega
  rw [e1, e2] at K
  obtain ⟨hx, hb, hml, hown, hT, hret, hlocks, hnm, htab⟩ := ok
  have hKn := hT.2.1 c _ hc
  obtain ⟨hin, hpf, -, hfk⟩ := xcl_ok hc
  refine W.newcK hx hb hown (hT.1 _ w1 rfl args) (hT.1 _ w2 rfl args) (hT.1 _ w3 rfl args) rfl hd (by show _ ≤ gB G + 600128 - n0; omega) (by show _ ≤ 7301098 - k0; omega) hKn.2.1 hR.1 fun H1 kC hkC g1 z1 o1 => ?_
  refine K H1 (hR.newC (by rw [hR.1]; exact z1) (fun q hq => o1 q (by rw [← hR.1]; exact hq)) (fun c2 r2 p1 p2 => ?_) (fun t p1 => ?_))
  · have hh : (c + 1, 0).1 = c2 + 1 := by rw [← p1]; show _ = (if hN h = hN h then (c + 1, 0) else _).1; simp
    have hcc : c2 = c := by simp only at hh; omega
    subst hcc
    have hrr : r2 = (C, T, N) := Option.some.inj (p2.symm.trans hc)
    subst hrr
    refine (u_born (xty c2) (hT.all args) hin hKn hkC g1 hpf).to fun k hk => ?_
    exact (fv_def (hfk k hk) ((hR.2.2.2.1 (hN h) (Nat.le_refl _)).2 k)).symm
  · have hh : (c + 1, 0).1 = 100 + t := by rw [← p1]; show _ = (if hN h = hN h then (c + 1, 0) else _).1; simp
    have := xcl_lt hc
    simp only at hh
    omega
theorem V.newa {t n : Nat} {i : Int32} {atype : ArrayType} (ht : newarray.typeOf atype = xat t) (h9 : t < 9) (hw : Cond.arrayClass (xat t) ∈ lw_tbl) (hg : goodWord (Cond.arrayClass (xat t)) = true) (hi : i = nI n) (hn : n ≤ 10000) (hcb : componentBytes (xat t) ≤ 8) (hfk : fk (xat t) < 3) (hra : ∀ cA U, va_RA U cA (xat t) → U.vm.findClass ("[" ++ (xat t).toString) = some cA) (hd : decode (yC Y) pc = .ok (.newarray atype, 2)) (hcl : hN h < gB G + 600128) (hsl : hK h + n ≤ 7301098) (kk : V G Y d Q X (newO h (100 + t, n) n) (pc + 2) ls (.ref (hN h) :: st)) : V G Y d Q X h pc ls (.int i :: st) := by
  obtain ⟨p, e, s, m, args, below, meth, c', n0, k0⟩ := X
  intro ok H locs lsA hR hL hl hn' hk
  have K := fun H1 hR1 => kk ok H1 locs lsA hR1 hL hl ⟨Nat.le_succ_of_le hn'.1, hcl⟩ ⟨Nat.le_trans hk.1 (Nat.le_add_right _ _), hsl⟩
  have e1 : hN (newO h (100 + t, n) n) - n0 = hN h - n0 + 1 := by show (hN h + 1) - n0 = _; omega
  have e2 : hK (newO h (100 + t, n) n) - k0 = hK h - k0 + n := by show (hK h + n) - k0 = _; omega
  rw [e1, e2] at K
  obtain ⟨hx, hb, hml, hown, hT, hret, hlocks, hnm, htab⟩ := ok
  subst hi
  have hs0 : hS (newO h (100 + t, n) n) (hN h) = (100 + t, n) := by show (if hN h = hN h then _ else _) = _; simp
  refine va_newaK hx hb (by rw [ht]; exact hT.1 _ hw (by cases hq : xat t <;> rw [hq] at hg <;> exact hg) args) rfl hd rfl (nI_pos (by omega)) (nI_clamp (by omega)) (by rw [ht]; have := Nat.mul_le_mul hn hcb; omega) (by show _ ≤ gB G + 600128 - n0; omega) (by show _ ≤ 7301098 - k0; omega) hR.1 fun H1 cA g1 z1 o1 hAr hNm => ?_
  rw [ht] at g1 hAr hNm
  have hcA : cA = gA G t := Option.some.inj (hNm.symm.trans (hra _ _ (hT.2.2.1 t h9).2))
  subst hcA
  refine K H1 (hR.newC (by rw [hR.1]; exact z1) (fun q hq => o1 q (by rw [← hR.1]; exact hq)) (fun c2 r2 p1 p2 => ?_) (fun t2 p1 => ?_))
  · rw [hs0] at p1
    have := xcl_lt p2
    simp only at p1
    omega
  · rw [hs0] at p1 ⊢
    have htt : t2 = t := by simp only at p1; omega
    subst htt
    refine ⟨h9, ?_, by show n < 2 ^ 31; omega⟩
    rw [g1]
    congr 2
    funext j
    exact (fv_def hfk ((hR.2.2.2.1 (hN h) (Nat.le_refl _)).2 j)).symm
theorem V.anewa {t n idx : Nat} {i : Int32} {C : String} (ht : xat t = .object C) (h9 : t < 9) (hw : Cond.classLink Y.1.cls idx C ∈ lw_tbl) (hC : C ∈ ["MemoryTransactions$Program", "MemoryTransactions$Exp", "MemoryTransactions$Client", "MemoryTransactions$Row", "MemoryTransactions$Level"]) (hi : i = nI n) (hn : n ≤ 10000) (hd : decode (yC Y) pc = .ok (.anewarray idx, 3)) (hcl : hN h < gB G + 600128) (hsl : hK h + n ≤ 7301098) (kk : V G Y d Q X (newO h (100 + t, n) n) (pc + 3) ls (.ref (hN h) :: st)) : V G Y d Q X h pc ls (.int i :: st) := by
  obtain ⟨p, e, s, m, args, below, meth, c', n0, k0⟩ := X
  intro ok H locs lsA hR hL hl hn' hk
  have K := fun H1 hR1 => kk ok H1 locs lsA hR1 hL hl ⟨Nat.le_succ_of_le hn'.1, hcl⟩ ⟨Nat.le_trans hk.1 (Nat.le_add_right _ _), hsl⟩
  have e1 : hN (newO h (100 + t, n) n) - n0 = hN h - n0 + 1 := by show (hN h + 1) - n0 = _; omega
  have e2 : hK (newO h (100 + t, n) n) - k0 = hK h - k0 + n := by show (hK h + n) - k0 = _; omega
  rw [e1, e2] at K
  obtain ⟨hx, hb, hml, hown, hT, hret, hlocks, hnm, htab⟩ := ok
  subst hi
  have hs0 : hS (newO h (100 + t, n) n) (hN h) = (100 + t, n) := by show (if hN h = hN h then _ else _) = _; simp
  have hcn : (nI n).toNatClampNeg = n := nI_clamp (by omega)
  refine W.anew hx hb hown (hT.1 _ hw rfl args) ((hT.2.2.2.2.2.2.2.2.1 C hC).use) rfl hd rfl (nI_pos (by omega)) (by rw [hcn]; omega) (by show _ ≤ gB G + 600128 - n0; omega) (by rw [hcn]; show _ ≤ 7301098 - k0; omega) fun cA kA comp f1 f2 f3 f4 => ?_
  have hra := (hT.2.2.1 t h9).2
  rw [ht] at hra
  obtain ⟨kA', comp', y1, y2, y3, y4⟩ := hra
  have hcA : cA = gA G t := Option.some.inj (f1.symm.trans y4)
  subst hcA
  rw [hcn, hR.1]
  refine K _ (hR.newC (by simp) (fun q hq => by rw [Array.getElem?_push, if_neg (Nat.ne_of_lt hq)]) (fun c2 r2 p1 p2 => ?_) (fun t2 p1 => ?_))
  · rw [hs0] at p1
    have := xcl_lt p2
    simp only at p1
    omega
  · rw [hs0] at p1 ⊢
    have htt : t2 = t := by simp only at p1; omega
    subst htt
    refine ⟨h9, ?_, by show n < 2 ^ 31; omega⟩
    rw [arrV_new, ← hR.1]
    simp only [Array.getElem?_push_size]
    congr 2
    funext j
    rw [ht, hR.1, fv_2 rfl]
    exact (congrArg va_rf ((hR.2.2.2.1 (hN h) (Nat.le_refl _)).2 j).2.2).symm
/-! constants of the tables -/
theorem V.ldc {idx : Nat} {v : Int32} (hw : Cond.constant Y.1.cls idx v ∈ lw_tbl) (hd : decode (yC Y) pc = .ok (.ldc idx, 2)) (kk : V G Y d Q X h (pc + 2) ls (.int v :: st)) : V G Y d Q X h pc ls st := by
  obtain ⟨p, e, s, m, args, below, meth, c, n0, k0⟩ := X
  intro ok H locs lsA hR hL hl hn hk
  have K := kk ok H locs lsA hR hL hl hn hk
  exact lv_ldc ok.1 ok.2.1 ok.2.2.2.1 (ok.2.2.2.2.1.1 _ hw rfl args) hd K
theorem V.ldc2 {idx : Nat} {v : Int64} (hw : Cond.constantLong Y.1.cls idx v ∈ lw_tbl) (hd : decode (yC Y) pc = .ok (.ldc2_w idx, 3)) (kk : V G Y d Q X h (pc + 3) ls (.long v :: st)) : V G Y d Q X h pc ls st := by
  obtain ⟨p, e, s, m, args, below, meth, c, n0, k0⟩ := X
  intro ok H locs lsA hR hL hl hn hk
  have K := kk ok H locs lsA hR hL hl hn hk
  exact lv_ldc2 ok.1 ok.2.1 ok.2.2.2.1 (ok.2.2.2.2.1.1 _ hw rfl args) hd K
theorem V.ldcS {i idx : Nat} {tx : String} {bs : List Int32} (hq : xstr[i]? = some (Y.1.cls, idx, tx, bs)) (hd : decode (yC Y) pc = .ok (.ldc idx, 2)) (kk : V G Y d Q X h (pc + 2) ls (.ref (gK G i) :: st)) : V G Y d Q X h pc ls st := by
  obtain ⟨p, e, s, m, args, below, meth, c, n0, k0⟩ := X
  intro ok H locs lsA hR hL hl hn hk
  have K := kk ok H locs lsA hR hL hl hn hk
  exact va_ldcS ok.1 ok.2.1 ok.2.2.2.1 (ok.2.2.2.2.1.2.2.2.2.2.2.1 i _ hq).1 hd K
theorem xReal.gS {G : xG} {H : Heap} {h : xH} (R : xReal G H h) {a : Nat} (ha : ¬ gP G a) : H[a]? = (gH G)[a]? := (R.2.2.1 a (Nat.not_le.mp ha)).1
theorem V.gets {C n ds : String} {v : Value} {idx : Nat} (hw : Cond.fieldLink Y.1.cls idx C n ds ∈ lw_tbl) (hz : ∀ s, xTb G s → va_Z C n ds v (gP G) s (gH G)) (hd : decode (yC Y) pc = .ok (.getstatic idx, 3)) (kk : V G Y d Q X h (pc + 3) ls (v :: st)) : V G Y d Q X h pc ls st := by
  obtain ⟨p, e, s, m, args, below, meth, c, n0, k0⟩ := X
  intro ok H locs lsA hR hL hl hn hk
  have K := kk ok H locs lsA hR hL hl hn hk
  obtain ⟨hx, hb, hml, hown, hT, hret, hlocks, hnm, htab⟩ := ok
  obtain ⟨cf, kf, fi, f, a, cell, h1, h2, h3, h4, h5, h6, h7, h8⟩ := hz s hT
  exact W.gets hx hb hown (hT.1 _ hw rfl args) h1 h2 h3 h4 (by rw [hR.gS h8]; exact h5) (fun e => by rw [e] at h6; cases h6) h7 rfl hd K
theorem V.getE {i idx : Nat} {q : String × String × String × Int32} (hq : xen[i]? = some q) (hw : Cond.fieldLink Y.1.cls idx q.1 q.2.1 q.2.2.1 ∈ lw_tbl) (hd : decode (yC Y) pc = .ok (.getstatic idx, 3)) (kk : V G Y d Q X h (pc + 3) ls (.ref (gE G i) :: st)) : V G Y d Q X h pc ls st := V.gets hw (fun s hT => (hT.2.2.2.1 i q hq).1) hd kk
/-- a field of a constant object -/
theorem V.getC {O n ds : String} {v : Value} {idx a : Nat} (hw : Cond.fieldLink Y.1.cls idx O n ds ∈ lw_tbl) (hz : ∀ s, xTb G s → va_OF O n ds v a (gP G) s (gH G)) (hd : decode (yC Y) pc = .ok (.getfield idx, 3)) (kk : V G Y d Q X h (pc + 3) ls (v :: st)) : V G Y d Q X h pc ls (.ref a :: st) := by
  obtain ⟨p, e, s, m, args, below, meth, c, n0, k0⟩ := X
  intro ok H locs lsA hR hL hl hn hk
  have K := kk ok H locs lsA hR hL hl hn hk
  obtain ⟨hx, hb, hml, hown, hT, hret, hlocks, hnm, htab⟩ := ok
  obtain ⟨cf, k, fi, f, cell, h1, h2, h3, h4, h5, h6⟩ := hz s hT
  exact W.getf hx hb hown (hT.1 _ hw rfl args) h1 h2 (by rw [hR.gS h6]; exact h3) h4 (v := v) h5 rfl rfl hd K
/-- a byte of a constant text -/
theorem V.baldC {z j : Nat} {i : Int32} {q : String × Nat × String × List Int32} (hq : xstr[z]? = some q) (hi : i = nI j) (hj : j < q.2.2.2.length) (hn : q.2.2.2.length < 100) (hd : decode (yC Y) pc = .ok (.baload, 1)) (kk : V G Y d Q X h (pc + 1) ls (.int (q.2.2.2.getD j 0) :: st)) : V G Y d Q X h pc ls (.int i :: .ref (gV G z) :: st) := by
  obtain ⟨p, e, s, m, args, below, meth, c, n0, k0⟩ := X
  intro ok H locs lsA hR hL hl hn' hk
  have K := kk ok H locs lsA hR hL hl hn' hk
  obtain ⟨hx, hb, hml, hown, hT, hret, hlocks, hnm, htab⟩ := ok
  obtain ⟨cell, g1, g2, g3, g4, g5, g6, g7⟩ := (hT.2.2.2.2.2.2.1 z q hq).2.2.2.2
  subst hi
  have hcl : (nI j).toNatClampNeg = j := nI_clamp (by omega)
  exact W.bald hx hb (by rw [hR.gS g7]; exact g1) g2 g3 (by
    intro zz
    rcases zz with z1 | z1
    · exact nI_pos (by omega) z1
    · rw [hcl] at z1; omega) (by rw [hcl]; exact g6 j hj) rfl rfl hd K
theorem V.alenC {z : Nat} {q : String × Nat × String × List Int32} (hq : xstr[z]? = some q) (hd : decode (yC Y) pc = .ok (.arraylength, 1)) (kk : V G Y d Q X h (pc + 1) ls (.int (nI q.2.2.2.length) :: st)) : V G Y d Q X h pc ls (.ref (gV G z) :: st) := by
  obtain ⟨p, e, s, m, args, below, meth, c, n0, k0⟩ := X
  intro ok H locs lsA hR hL hl hn' hk
  have K := kk ok H locs lsA hR hL hl hn' hk
  obtain ⟨hx, hb, hml, hown, hT, hret, hlocks, hnm, htab⟩ := ok
  obtain ⟨cell, g1, g2, g3, g4, g5, g6, g7⟩ := (hT.2.2.2.2.2.2.1 z q hq).2.2.2.2
  exact W.alen (n := nI q.2.2.2.length) hx hb (by rw [hR.gS g7]; exact g1) g2 g5 rfl rfl hd K
end Rows
