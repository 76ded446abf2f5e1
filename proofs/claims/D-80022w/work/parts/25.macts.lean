/-! the model: signs, acts, the pile (rows by a program) -/
set_option maxRecDepth 100000
def pl (f : Nat → Int32) : List Nat → Prop
  | [] => True
  | c :: Q => f Q.length = nI c ∧ pl f Q
theorem pl_cg {f g : Nat → Int32} : ∀ {P : List Nat}, (∀ i, i < P.length → g i = f i) → pl f P → pl g P := by
  intro P
  induction P with
  | nil => intro _ _; trivial
  | cons c P ih =>
    intro h q
    exact ⟨(h P.length (by simp)).trans q.1, ih (fun i hi => h i (by simp; omega)) q.2⟩
theorem pl.fr {R : Nat → Nat → Prop} {h u : xH} {x : Nat} {P : List Nat} (q : pl (hI h x) P) (f : Fr R h u) (n : ∀ i, i < P.length → ¬ R x i) : pl (hI u x) P := pl_cg (fun i hi => (f.2.2.2.2 x i (n i hi)).1) q
def cm (f : Nat → Int32) : List Bool → Prop
  | [] => True
  | b :: cs => f cs.length = bI (b = true) ∧ cm f cs
theorem cm_cg {f g : Nat → Int32} : ∀ {P : List Bool}, (∀ i, i < P.length → g i = f i) → cm f P → cm g P := by
  intro P
  induction P with
  | nil => intro _ _; trivial
  | cons c P ih =>
    intro h q
    exact ⟨(h P.length (by simp)).trans q.1, ih (fun i hi => h i (by simp; omega)) q.2⟩
theorem cm.fr {R : Nat → Nat → Prop} {h u : xH} {x : Nat} {P : List Bool} (q : cm (hI h x) P) (f : Fr R h u) (n : ∀ i, i < P.length → ¬ R x i) : cm (hI u x) P := cm_cg (fun i hi => (f.2.2.2.2 x i (n i hi)).1) q
/-- acts from e on -/
def AC (h : xH) (m e : Nat) (L : List xAct) : Prop := ∀ (i : Nat) (a : xAct), L[i]? = some a → hI h (m + 15) (e + i) = nI a.1 ∧ (a.1 = 2 → hI h (m + 16) (e + i) = nI a.2.1) ∧ (a.1 = 1 → hL h (m + 17) (e + i) = a.2.2)
theorem AC.fr {R : Nat → Nat → Prop} {h u : xH} {m e : Nat} {L : List xAct} (q : AC h m e L) (f : Fr R h u) (n : ∀ j, e ≤ j → j < e + L.length → ¬ R (m + 15) j ∧ ¬ R (m + 16) j ∧ ¬ R (m + 17) j) : AC u m e L := fun i a hi => by
  have hl := (List.getElem?_eq_some_iff.mp hi).1
  obtain ⟨n1, n2, n3⟩ := n (e + i) (by omega) (by omega)
  obtain ⟨q1, q2, q3⟩ := q i a hi
  exact ⟨f.I n1 q1, fun z => f.I n2 (q2 z), fun z => f.L n3 (q3 z)⟩
theorem AC.push {R : Nat → Nat → Prop} {h u : xH} {m e : Nat} {L : List xAct} {x : xAct} (q : AC h m e L) (f : Fr R h u) (n : ∀ j, e ≤ j → j < e + L.length → ¬ R (m + 15) j ∧ ¬ R (m + 16) j ∧ ¬ R (m + 17) j) (x1 : hI u (m + 15) (e + L.length) = nI x.1) (x2 : x.1 = 2 → hI u (m + 16) (e + L.length) = nI x.2.1) (x3 : x.1 = 1 → hL u (m + 17) (e + L.length) = x.2.2) : AC u m e (L ++ [x]) := fun i a hi => by
  rcases Nat.lt_or_ge i L.length with z | z
  · rw [List.getElem?_append_left z] at hi
    exact q.fr f n i a hi
  · rw [List.getElem?_append_right z] at hi
    have hl := (List.getElem?_eq_some_iff.mp hi).1
    simp only [List.length_singleton] at hl
    have : i = L.length := by omega
    subst this
    simp only [Nat.sub_self, List.getElem?_cons_zero, Option.some.injEq] at hi
    subst hi
    exact ⟨x1, x2, x3⟩
theorem AC_nil {h : xH} {m e : Nat} : AC h m e [] := fun i a hi => by simp at hi
theorem red_len (k : Nat) : ∀ P : List Nat, (red k P).1.length + (red k P).2.length = P.length := by
  intro P
  induction P with
  | nil => rfl
  | cons c P ih =>
    simp only [red]
    split
    · simp only [List.length_cons]; omega
    · simp
theorem pmn_len : ∀ P : List Nat, (pmn P).1.length + (pmn P).2.length = P.length := by
  intro P
  induction P with
  | nil => rfl
  | cons c P ih =>
    simp only [pmn]
    split
    · simp only [List.length_cons]; omega
    · simp
theorem pl_red {f : Nat → Int32} (k : Nat) : ∀ {P : List Nat}, pl f P → pl f (red k P).1 := by
  intro P
  induction P with
  | nil => intro q; exact q
  | cons c P ih =>
    intro q
    simp only [red]
    split
    · exact ih q.2
    · exact q
theorem pl_pmn {f : Nat → Int32} : ∀ {P : List Nat}, pl f P → pl f (pmn P).1 := by
  intro P
  induction P with
  | nil => intro q; exact q
  | cons c P ih =>
    intro q
    simp only [pmn]
    split
    · exact ih q.2
    · exact q
theorem opn_red (k : Nat) (hk : 1 ≤ k) : ∀ P : List Nat, opn (red k P).1 = opn P ∧ lvl (red k P).1 = lvl P := by
  intro P
  induction P with
  | nil => exact ⟨rfl, rfl⟩
  | cons c P ih =>
    simp only [red]
    split
    · next h =>
      have := sgs_op (c := c) (by omega)
      simp only [opn, lvl, this.1, this.2.1, or_self, if_false]
      exact ih
    · exact ⟨rfl, rfl⟩
theorem opn_pmn : ∀ P : List Nat, opn (pmn P).1 + (pmn P).2.length = opn P ∧ lvl (pmn P).1 = lvl P := by
  intro P
  induction P with
  | nil => exact ⟨rfl, rfl⟩
  | cons c P ih =>
    simp only [pmn]
    split
    · next h =>
      subst h
      simp [opn, lvl]
      omega
    · simp
theorem isg_1 {b : Nat → Nat} {n p : Nat} {h : xH} {m : Nat} (hb : ∀ j, j < n → b j < 256) (mt : MT h m b n p) (h4 : mtk (tC b n p) = 4) {c : Nat} (hc : c < 256) : hI h m 8 = nI c ↔ tC b n p = 100 + c := by
  have hr := tC_rng (b := b) (n := n) (p := p) hb
  have h1 := (mtk_4 hr).1.mp h4
  rw [mt.2.2.2.1 (by omega), nI_eq (by omega) (by omega)]
  omega
set_option maxHeartbeats 4000000 in
theorem m_isSign {G : xG} {m d n p : Nat} {h : xH} {b : Nat → Nat} (hms : MS m (hS h) (hR h)) (hb : ∀ j, j < n → b j < 256) (mt : MT h m b n p) (c : Nat) (hc : c < 256) : AM G Y13_isSign (d) h [.ref m, .int (nI c)] (xRet (.int (bI (tC b n p = 100 + c))) h) := by
  refine AM.of (by decide) (Nat.le_of_ble_eq_true rfl) fun X => ?_
  have hr := tC_rng (b := b) (n := n) (p := p) hb
  have hm4 := mtk_4 hr
  refine V.aload_n dX13_isSign_0 rfl ?_
  refine V.getIe fl_X13_209 hms.1 mt.1 dX13_isSign_1 rfl ?_
  refine V.iconst (4) dX13_isSign_4 (by decide) ?_
  refine V.icmp_neN (mtk (tC b n p)) (4) rfl rfl (by omega) (by omega) 20 dX13_isSign_5 (by decide) (fun c5 => ?_) (fun c5 => ?_)
  · refine V.iconst (0) dX13_isSign_20 (by decide) ?_
    exact V.ireturn dX13_isSign_21 rfl rfl (⟨by rw [bI_f (by omega)], rfl⟩)
  · refine V.aload_n dX13_isSign_8 rfl ?_
    refine V.getI fl_X13_234 hms.1 dX13_isSign_9 rfl ?_
    refine V.iload_n dX13_isSign_12 rfl ?_
    refine V.icmp_ne 20 dX13_isSign_13 (by decide) (fun c13 => ?_) (fun c13 => ?_)
    · refine V.iconst (0) dX13_isSign_20 (by decide) ?_
      exact V.ireturn dX13_isSign_21 rfl rfl (⟨by rw [bI_f (fun q => c13 ((isg_1 hb mt c5 hc).mpr q))], rfl⟩)
    · refine V.iconst (1) dX13_isSign_16 (by decide) ?_
      refine V.goto 21 dX13_isSign_17 (by decide) ?_
      exact V.ireturn dX13_isSign_21 rfl rfl (⟨by rw [bI_t ((isg_1 hb mt c5 hc).mp c13)], rfl⟩)
set_option maxHeartbeats 4000000 in
theorem m_misplaced {G : xG} {m d n p : Nat} {h : xH} {b : Nat → Nat} (hms : MS m (hS h) (hR h)) (mt : MT h m b n p) (hbad : hI h m 9 = nI 0) : AM G Y13_misplaced (d) h [.ref m] (xVoid (fun u => Fr (rG [(m, 9, 11)]) h u ∧ hI u m 9 = nI 1 ∧ hI u m 10 = nI (tS b n p))) := by
  refine AM.of (by decide) (Nat.le_of_ble_eq_true rfl) fun X => ?_
  have hfr : Fr (rG [(m, 9, 11)]) h h := Fr.rf
  refine V.aload_n dX13_misplaced_0 rfl ?_
  refine V.getIe fl_X13_240 hms.1 hbad dX13_misplaced_1 rfl ?_
  refine V.if_ne 20 dX13_misplaced_4 (by decide) (fun z => absurd z (by decide)) (fun _ => ?_)
  refine V.aload_n dX13_misplaced_7 rfl ?_
  refine V.iconst (1) dX13_misplaced_8 (by decide) ?_
  refine V.putIk fl_X13_240 hms.1 dX13_misplaced_9 rfl (by decide) (by decide) (fun hh1 ehh1 => ?_)
  have hFhh1 := Fr1I ehh1
  have hfrh1 := hfr.tr (hFhh1.mono (rG_mc (fun k h1 h2 => (rG_hd (by omega) (by omega))) rG_mn))
  have hmsh1 := hms.fr hfrh1
  have f2 := hI_ps ehh1
  refine V.aload_n dX13_misplaced_12 rfl ?_
  refine V.aload_n dX13_misplaced_13 rfl ?_
  have f3 := hFhh1.I (rG_nl (by decide) rG_nn) mt.2.1
  refine V.getIe fl_X13_206 hmsh1.1 f3 dX13_misplaced_14 rfl ?_
  refine V.putIk fl_X13_13 hmsh1.1 dX13_misplaced_17 rfl rfl rfl (fun hh4 ehh4 => ?_)
  have hFhh4 := Fr1I ehh4
  have hfrh4 := hfrh1.tr (hFhh4.mono (rG_mc (fun k h1 h2 => (rG_hd (by omega) (by omega))) rG_mn))
  have hmsh4 := hms.fr hfrh4
  have f5 := hI_ps ehh4
  have f6 := hFhh4.I (rG_nl (by decide) rG_nn) f2
  exact V.vreturn dX13_misplaced_20 rfl (⟨rfl, hfrh4, f6, f5⟩)
set_option maxHeartbeats 4000000 in
theorem m_misplaced1 {G : xG} {m d : Nat} {h : xH} (hms : MS m (hS h) (hR h)) (hbad : hI h m 9 = nI 1) : AM G Y13_misplaced (d) h [.ref m] (xVoid (fun u => u = h)) := by
  refine AM.of (by decide) (Nat.le_of_ble_eq_true rfl) fun X => ?_
  refine V.aload_n dX13_misplaced_0 rfl ?_
  refine V.getIe fl_X13_240 hms.1 hbad dX13_misplaced_1 rfl ?_
  refine V.if_ne 20 dX13_misplaced_4 (by decide) (fun _ => ?_) (fun z => absurd z (by decide))
  exact V.vreturn dX13_misplaced_20 rfl (⟨rfl, rfl⟩)
set_option maxHeartbeats 4000000 in
theorem m_act {G : xG} {m d r a : Nat} {h : xH} (hms : MS m (hS h) (hR h)) (hr : r < 12) (h28 : hI h m 28 = nI r) (hac : hI h (m + 6) r = nI a) (ha : a < 200) (k l : Int32) (v : Int64) : AM G Y13_act (d) h [.ref m, .int k, .int l, .long v] (xVoid (fun u => Fr (rG [((m + 6), r, r + 1), ((m + 15), 200 * r + a, 200 * r + a + 1), ((m + 16), 200 * r + a, 200 * r + a + 1), ((m + 17), 200 * r + a, 200 * r + a + 1)]) h u ∧ hI u (m + 6) r = nI (a + 1) ∧ hI u (m + 15) (200 * r + a) = k ∧ hI u (m + 16) (200 * r + a) = l ∧ hL u (m + 17) (200 * r + a) = v)) := by
  refine AM.of (by decide) (Nat.le_of_ble_eq_true rfl) fun X => ?_
  have hfr : Fr (rG [((m + 6), r, r + 1), ((m + 15), 200 * r + a, 200 * r + a + 1), ((m + 16), 200 * r + a, 200 * r + a + 1), ((m + 17), 200 * r + a, 200 * r + a + 1)]) h h := Fr.rf
  refine V.sipush (200) dX13_act_0 (by decide) ?_
  refine V.aload_n dX13_act_3 rfl ?_
  refine V.getIe fl_X13_253 hms.1 h28 dX13_act_4 rfl ?_
  refine V.imulN (200) (r) rfl rfl dX13_act_7 ?_
  refine V.aload_n dX13_act_8 rfl ?_
  refine V.getr fl_X13_30 hms.1 (hms.2.2 (16, 6) (by decide)) dX13_act_9 rfl ?_
  refine V.aload_n dX13_act_12 rfl ?_
  refine V.getIe fl_X13_253 hms.1 h28 dX13_act_13 rfl ?_
  refine V.ialde (j := r) (hms.2.1 6 (by decide)) rfl (by omega) (hac) dX13_act_16 ?_
  refine V.iaddN (200 * (r)) (a) rfl rfl dX13_act_17 ?_
  refine V.istore dX13_act_18 (by decide) ?_
  refine V.aload_n dX13_act_20 rfl ?_
  refine V.getr fl_X13_30 hms.1 (hms.2.2 (16, 6) (by decide)) dX13_act_21 rfl ?_
  refine V.aload_n dX13_act_24 rfl ?_
  refine V.getIe fl_X13_253 hms.1 h28 dX13_act_25 rfl ?_
  refine V.dup2_11 dX13_act_28 rfl rfl ?_
  refine V.ialde (j := r) (hms.2.1 6 (by decide)) rfl (by omega) (hac) dX13_act_29 ?_
  refine V.iconst (1) dX13_act_30 (by decide) ?_
  refine V.iaddN (a) (1) rfl rfl dX13_act_31 ?_
  refine V.iastk (j := r) (hms.2.1 6 (by decide)) rfl (by omega) dX13_act_32 (fun hh1 ehh1 => ?_)
  have hFhh1 := Fr1I ehh1
  have hfrh1 := hfr.tr (hFhh1.mono (rG_mc (fun k h1 h2 => (rG_hd (by omega) (by omega))) rG_mn))
  have hmsh1 := hms.fr hfrh1
  have f2 := hI_ps ehh1
  refine V.aload_n dX13_act_33 rfl ?_
  refine V.getr fl_X13_57 hmsh1.1 (hmsh1.2.2 (25, 15) (by decide)) dX13_act_34 rfl ?_
  refine V.iload dX13_act_37 rfl ?_
  refine V.iload_n dX13_act_39 rfl ?_
  refine V.iastk (j := 200 * (r) + a) (hmsh1.2.1 15 (by decide)) rfl (by omega) dX13_act_40 (fun hh3 ehh3 => ?_)
  have hFhh3 := Fr1I ehh3
  have hfrh3 := hfrh1.tr (hFhh3.mono (rG_mc (fun k h1 h2 => (rG_tl (rG_hd (by omega) (by omega)))) rG_mn))
  have hmsh3 := hms.fr hfrh3
  have f4 := hI_ps ehh3
  refine V.aload_n dX13_act_41 rfl ?_
  refine V.getr fl_X13_60 hmsh3.1 (hmsh3.2.2 (26, 16) (by decide)) dX13_act_42 rfl ?_
  refine V.iload dX13_act_45 rfl ?_
  refine V.iload_n dX13_act_47 rfl ?_
  refine V.iastk (j := 200 * (r) + a) (hmsh3.2.1 16 (by decide)) rfl (by omega) dX13_act_48 (fun hh5 ehh5 => ?_)
  have hFhh5 := Fr1I ehh5
  have hfrh5 := hfrh3.tr (hFhh5.mono (rG_mc (fun k h1 h2 => (rG_tl (rG_tl (rG_hd (by omega) (by omega))))) rG_mn))
  have hmsh5 := hms.fr hfrh5
  have f6 := hI_ps ehh5
  refine V.aload_n dX13_act_49 rfl ?_
  refine V.getr fl_X13_63 hmsh5.1 (hmsh5.2.2 (27, 17) (by decide)) dX13_act_50 rfl ?_
  refine V.iload dX13_act_53 rfl ?_
  refine V.lload_n dX13_act_55 rfl ?_
  refine V.lastk (j := 200 * (r) + a) (hmsh5.2.1 17 (by decide)) rfl (by omega) dX13_act_56 (fun hh7 ehh7 => ?_)
  have hFhh7 := Fr1L ehh7
  have hfrh7 := hfrh5.tr (hFhh7.mono (rG_mc (fun k h1 h2 => (rG_tl (rG_tl (rG_tl (rG_hd (by omega) (by omega)))))) rG_mn))
  have hmsh7 := hms.fr hfrh7
  have f8 := hL_ps ehh7
  have f9 := hFhh3.I (rG_na (am_ne (by decide)) rG_nn) f2
  have f10 := hFhh5.I (rG_na (am_ne (by decide)) rG_nn) f9
  have f11 := hFhh7.I (rG_na (am_ne (by decide)) rG_nn) f10
  have f12 := hFhh5.I (rG_na (am_ne (by decide)) rG_nn) f4
  have f13 := hFhh7.I (rG_na (am_ne (by decide)) rG_nn) f12
  have f14 := hFhh7.I (rG_na (am_ne (by decide)) rG_nn) f6
  exact V.vreturn dX13_act_57 rfl (⟨rfl, hfrh7, f11, f13, f14, f8⟩)
set_option maxHeartbeats 4000000 in
theorem m_strength {G : xG} {d : Nat} {h : xH} (c : Nat) (hc : c < 2 ^ 31) : AM G Y13_strength (d) h [.int (nI c)] (xRet (.int (nI (sgs c))) h) := by
  refine AM.of (by decide) (Nat.le_of_ble_eq_true rfl) fun X => ?_
  refine V.iload_n dX13_strength_0 rfl ?_
  refine V.bipush (42) dX13_strength_1 (by decide) ?_
  refine V.icmp_eqN (c) (42) rfl rfl (by omega) (by omega) 18 dX13_strength_3 (by decide) (fun c3 => ?_) (fun c3 => ?_)
  · refine V.iconst (3) dX13_strength_18 (by decide) ?_
    refine V.goto 61 dX13_strength_19 (by decide) ?_
    exact V.ireturn dX13_strength_61 rfl rfl (⟨by unfold sgs; simp [*]; rfl, rfl⟩)
  · refine V.iload_n dX13_strength_6 rfl ?_
    refine V.bipush (47) dX13_strength_7 (by decide) ?_
    refine V.icmp_eqN (c) (47) rfl rfl (by omega) (by omega) 18 dX13_strength_9 (by decide) (fun c9 => ?_) (fun c9 => ?_)
    · refine V.iconst (3) dX13_strength_18 (by decide) ?_
      refine V.goto 61 dX13_strength_19 (by decide) ?_
      exact V.ireturn dX13_strength_61 rfl rfl (⟨by unfold sgs; simp [*]; rfl, rfl⟩)
    · refine V.iload_n dX13_strength_12 rfl ?_
      refine V.bipush (37) dX13_strength_13 (by decide) ?_
      refine V.icmp_neN (c) (37) rfl rfl (by omega) (by omega) 22 dX13_strength_15 (by decide) (fun c15 => ?_) (fun c15 => ?_)
      · refine V.iload_n dX13_strength_22 rfl ?_
        refine V.bipush (43) dX13_strength_23 (by decide) ?_
        refine V.icmp_eqN (c) (43) rfl rfl (by omega) (by omega) 34 dX13_strength_25 (by decide) (fun c25 => ?_) (fun c25 => ?_)
        · refine V.iconst (2) dX13_strength_34 (by decide) ?_
          refine V.goto 61 dX13_strength_35 (by decide) ?_
          exact V.ireturn dX13_strength_61 rfl rfl (⟨by unfold sgs; simp [*]; rfl, rfl⟩)
        · refine V.iload_n dX13_strength_28 rfl ?_
          refine V.bipush (45) dX13_strength_29 (by decide) ?_
          refine V.icmp_neN (c) (45) rfl rfl (by omega) (by omega) 38 dX13_strength_31 (by decide) (fun c31 => ?_) (fun c31 => ?_)
          · refine V.iload_n dX13_strength_38 rfl ?_
            refine V.bipush (60) dX13_strength_39 (by decide) ?_
            refine V.icmp_eqN (c) (60) rfl rfl (by omega) (by omega) 56 dX13_strength_41 (by decide) (fun c41 => ?_) (fun c41 => ?_)
            · refine V.iconst (1) dX13_strength_56 (by decide) ?_
              refine V.goto 61 dX13_strength_57 (by decide) ?_
              exact V.ireturn dX13_strength_61 rfl rfl (⟨by unfold sgs; simp [*]; rfl, rfl⟩)
            · refine V.iload_n dX13_strength_44 rfl ?_
              refine V.bipush (61) dX13_strength_45 (by decide) ?_
              refine V.icmp_eqN (c) (61) rfl rfl (by omega) (by omega) 56 dX13_strength_47 (by decide) (fun c47 => ?_) (fun c47 => ?_)
              · refine V.iconst (1) dX13_strength_56 (by decide) ?_
                refine V.goto 61 dX13_strength_57 (by decide) ?_
                exact V.ireturn dX13_strength_61 rfl rfl (⟨by unfold sgs; simp [*]; rfl, rfl⟩)
              · refine V.iload_n dX13_strength_50 rfl ?_
                refine V.bipush (35) dX13_strength_51 (by decide) ?_
                refine V.icmp_neN (c) (35) rfl rfl (by omega) (by omega) 60 dX13_strength_53 (by decide) (fun c53 => ?_) (fun c53 => ?_)
                · refine V.iconst (0) dX13_strength_60 (by decide) ?_
                  exact V.ireturn dX13_strength_61 rfl rfl (⟨by unfold sgs; simp [*]; rfl, rfl⟩)
                · refine V.iconst (1) dX13_strength_56 (by decide) ?_
                  refine V.goto 61 dX13_strength_57 (by decide) ?_
                  exact V.ireturn dX13_strength_61 rfl rfl (⟨by unfold sgs; simp [*]; rfl, rfl⟩)
          · refine V.iconst (2) dX13_strength_34 (by decide) ?_
            refine V.goto 61 dX13_strength_35 (by decide) ?_
            exact V.ireturn dX13_strength_61 rfl rfl (⟨by unfold sgs; simp [*]; rfl, rfl⟩)
      · refine V.iconst (3) dX13_strength_18 (by decide) ?_
        refine V.goto 61 dX13_strength_19 (by decide) ?_
        exact V.ireturn dX13_strength_61 rfl rfl (⟨by unfold sgs; simp [*]; rfl, rfl⟩)
set_option maxHeartbeats 4000000 in
theorem m_reduce {G : xG} {m d r a0 e k : Nat} {h : xH} {P0 : List Nat} {o0 : List xAct} (hms : MS m (hS h) (hR h)) (hr : r < 12) (h28 : hI h m 28 = nI r) (hac : hI h (m + 6) r = nI a0) (ha : a0 + P0.length ≤ 200) (h30 : hI h m 30 = nI P0.length) (hpl : pl (hI h (m + 18)) P0) (hP : P0.length ≤ 64) (hc : ∀ c ∈ P0, c ≤ 1000) (hAC : AC h m e o0) (he : e + o0.length = 200 * r + a0) (hk1 : 1 ≤ k) (hk2 : k < 10) : AM G Y13_reduce (d + 1) h [.ref m, .int (nI k)] (xVoid (fun u => Fr (rG [(m, 30, 31), ((m + 6), r, r + 1), ((m + 15), 200 * r + a0, 200 * r + 200), ((m + 16), 200 * r + a0, 200 * r + 200), ((m + 17), 200 * r + a0, 200 * r + 200)]) h u ∧ hI u m 30 = nI (red k P0).1.length ∧ hI u (m + 6) r = nI (a0 + (red k P0).2.length) ∧ AC u m e (o0 ++ (red k P0).2))) := by
  refine AM.of (by decide) (Nat.le_of_ble_eq_true rfl) fun X => ?_
  have L0 : ∀ (P : List Nat) (a : Nat) (o : List xAct) (h0 : xH), Fr (rG [(m, 30, 31), ((m + 6), r, r + 1), ((m + 15), 200 * r + a0, 200 * r + 200), ((m + 16), 200 * r + a0, 200 * r + 200), ((m + 17), 200 * r + a0, 200 * r + 200)]) h h0 → hI h0 m 30 = nI P.length → pl (hI h0 (m + 18)) P → hI h0 (m + 6) r = nI a → a0 ≤ a → a + P.length ≤ 200 → P.length ≤ 64 → (∀ c ∈ P, c ≤ 1000) → AC h0 m e o → e + o.length = 200 * r + a → (red k P).1 = (red k P0).1 → o ++ (red k P).2 = o0 ++ (red k P0).2 → a + (red k P).2.length = a0 + (red k P0).2.length → V G Y13_reduce (d + 1) (xVoid (fun u => Fr (rG [(m, 30, 31), ((m + 6), r, r + 1), ((m + 15), 200 * r + a0, 200 * r + 200), ((m + 16), 200 * r + a0, 200 * r + 200), ((m + 17), 200 * r + a0, 200 * r + 200)]) h u ∧ hI u m 30 = nI (red k P0).1.length ∧ hI u (m + 6) r = nI (a0 + (red k P0).2.length) ∧ AC u m e (o0 ++ (red k P0).2))) X h0 0 [some (.ref m), some (.int (nI k))] [] := by
    intro P
    induction P with
    | nil =>
      intro a o h0 hfr0 h30 hpl hac ha0 ha hP hc hAC he e1 e2 e3
      have hms0 := hms.fr hfr0
      refine V.aload_n dX13_reduce_0 rfl ?_
      refine V.getIe fl_X13_256 hms0.1 h30 dX13_reduce_1 rfl ?_
      refine V.if_le 86 dX13_reduce_4 (by decide) (fun _ => ?_) (fun z => absurd z (by decide))
      exact V.vreturn dX13_reduce_86 rfl (⟨rfl, hfr0, by rw [← e1]; exact h30, by rw [← e3]; exact hac, by rw [← e2, red, List.append_nil]; exact hAC⟩)
    | cons c P ih =>
      intro a o h0 hfr0 h30 hpl hac ha0 ha hP hc hAC he e1 e2 e3
      have hms0 := hms.fr hfr0
      have hcc := hc c List.mem_cons_self
      simp only [List.length_cons] at h30 ha hP
      have h28' := hfr0.I (rG_nl (by decide) (rG_na (am_0n (by decide)) (rG_na (am_0n (by decide)) (rG_na (am_0n (by decide)) (rG_na (am_0n (by decide)) rG_nn))))) h28
      refine V.aload_n dX13_reduce_0 rfl ?_
      refine V.getIe fl_X13_256 hms0.1 h30 dX13_reduce_1 rfl ?_
      refine V.if_leN (P.length + 1) rfl (by omega) 86 dX13_reduce_4 (by decide) (fun c4 => absurd c4 (by omega)) (fun c4 => ?_)
      refine V.aload_n dX13_reduce_7 rfl ?_
      refine V.getr fl_X13_67 hms0.1 (hms0.2.2 (29, 18) (by decide)) dX13_reduce_8 rfl ?_
      refine V.aload_n dX13_reduce_11 rfl ?_
      refine V.getIe fl_X13_256 hms0.1 h30 dX13_reduce_12 rfl ?_
      refine V.iconst (1) dX13_reduce_15 (by decide) ?_
      refine V.isubD (P.length) (1) rfl rfl dX13_reduce_16 ?_
      refine V.ialde (j := P.length) (hms0.2.1 18 (by decide)) rfl (by omega) (hpl.1) dX13_reduce_17 ?_
      refine V.bipush (40) dX13_reduce_18 (by decide) ?_
      refine V.icmp_eqN (c) (40) rfl rfl (by omega) (by omega) 86 dX13_reduce_20 (by decide) (fun c20 => ?_) (fun c20 => ?_)
      · exact V.vreturn dX13_reduce_86 rfl (⟨rfl, hfr0, by rw [← e1, red, if_neg (by rw [show c = 40 from c20, sgs_40]; omega)]; exact h30, by rw [← e3, red, if_neg (by rw [show c = 40 from c20, sgs_40]; omega)]; exact hac, by rw [← e2, red, if_neg (by rw [show c = 40 from c20, sgs_40]; omega), List.append_nil]; exact hAC⟩)
      · refine V.aload_n dX13_reduce_23 rfl ?_
        refine V.getr fl_X13_67 hms0.1 (hms0.2.2 (29, 18) (by decide)) dX13_reduce_24 rfl ?_
        refine V.aload_n dX13_reduce_27 rfl ?_
        refine V.getIe fl_X13_256 hms0.1 h30 dX13_reduce_28 rfl ?_
        refine V.iconst (1) dX13_reduce_31 (by decide) ?_
        refine V.isubD (P.length) (1) rfl rfl dX13_reduce_32 ?_
        refine V.ialde (j := P.length) (hms0.2.1 18 (by decide)) rfl (by omega) (hpl.1) dX13_reduce_33 ?_
        refine V.sipush (1000) dX13_reduce_34 (by decide) ?_
        refine V.icmp_eqN (c) (1000) rfl rfl (by omega) (by omega) 86 dX13_reduce_37 (by decide) (fun c37 => ?_) (fun c37 => ?_)
        · exact V.vreturn dX13_reduce_86 rfl (⟨rfl, hfr0, by rw [← e1, red, if_neg (by rw [show c = 1000 from c37, show sgs 1000 = 0 from by decide]; omega)]; exact h30, by rw [← e3, red, if_neg (by rw [show c = 1000 from c37, show sgs 1000 = 0 from by decide]; omega)]; exact hac, by rw [← e2, red, if_neg (by rw [show c = 1000 from c37, show sgs 1000 = 0 from by decide]; omega), List.append_nil]; exact hAC⟩)
        · refine V.aload_n dX13_reduce_40 rfl ?_
          refine V.getr fl_X13_67 hms0.1 (hms0.2.2 (29, 18) (by decide)) dX13_reduce_41 rfl ?_
          refine V.aload_n dX13_reduce_44 rfl ?_
          refine V.getIe fl_X13_256 hms0.1 h30 dX13_reduce_45 rfl ?_
          refine V.iconst (1) dX13_reduce_48 (by decide) ?_
          refine V.isubD (P.length) (1) rfl rfl dX13_reduce_49 ?_
          refine V.ialde (j := P.length) (hms0.2.1 18 (by decide)) rfl (by omega) (hpl.1) dX13_reduce_50 ?_
          refine V.callS (m_strength (d := d) c (by omega)) ms_X13_259 ok_Y13_strength rfl rfl (by omega) (Nat.le_of_ble_eq_true rfl) dX13_reduce_51 rfl (fun rv uu hq hqn hqk => ?_) (fun _ _ hq _ _ => hq.elim)
          obtain ⟨rfl, hu⟩ := hq
          rw [hu]
          show V _ _ _ _ _ _ _ _ (.int _ :: _)
          refine V.iload_n dX13_reduce_54 rfl ?_
          refine V.icmp_ltN (sgs c) (k) rfl rfl (by have := sgs_le c; omega) (by omega) 86 dX13_reduce_55 (by decide) (fun c55 => ?_) (fun c55 => ?_)
          · exact V.vreturn dX13_reduce_86 rfl (⟨rfl, hfr0, by rw [← e1, red, if_neg (by omega)]; exact h30, by rw [← e3, red, if_neg (by omega)]; exact hac, by rw [← e2, red, if_neg (by omega), List.append_nil]; exact hAC⟩)
          · have hk : k ≤ sgs c := c55
            refine V.aload_n dX13_reduce_58 rfl ?_
            refine V.dup dX13_reduce_59 rfl ?_
            refine V.getIe fl_X13_256 hms0.1 h30 dX13_reduce_60 rfl ?_
            refine V.iconst (1) dX13_reduce_63 (by decide) ?_
            refine V.isubD (P.length) (1) rfl rfl dX13_reduce_64 ?_
            refine V.putIk fl_X13_256 hms0.1 dX13_reduce_65 rfl rfl rfl (fun hh1 ehh1 => ?_)
            have hFhh1 := Fr1I ehh1
            have hfrh1 := hfr0.tr (hFhh1.mono (rG_mc (fun k h1 h2 => (rG_hd (by omega) (by omega))) rG_mn))
            have hmsh1 := hms.fr hfrh1
            have f2 := hI_ps ehh1
            have hAC1 := hAC.fr hFhh1 (fun j h1 h2 => ⟨(rG_na (am_n0 (by decide)) rG_nn), (rG_na (am_n0 (by decide)) rG_nn), (rG_na (am_n0 (by decide)) rG_nn)⟩)
            refine V.aload_n dX13_reduce_68 rfl ?_
            refine V.aload_n dX13_reduce_69 rfl ?_
            refine V.getr fl_X13_67 hmsh1.1 (hmsh1.2.2 (29, 18) (by decide)) dX13_reduce_70 rfl ?_
            refine V.aload_n dX13_reduce_73 rfl ?_
            refine V.getIe fl_X13_256 hmsh1.1 f2 dX13_reduce_74 rfl ?_
            have f3 := hFhh1.I (rG_na (am_n0 (by decide)) rG_nn) hpl.1
            refine V.ialde (j := P.length) (hmsh1.2.1 18 (by decide)) rfl (by omega) (f3) dX13_reduce_77 ?_
            refine V.iconst (-1) dX13_reduce_78 (by decide) ?_
            refine V.lconst 0 dX13_reduce_79 (by decide) ?_
            have f4 := hFhh1.I (rG_nl (by decide) rG_nn) h28'
            have f5 := hFhh1.I (rG_na (am_n0 (by decide)) rG_nn) hac
            refine V.callV (m_act (d := d) hmsh1 hr f4 f5 (by omega) (nI c) (-1) 0) mv_X13_262 ok_Y13_act hmsh1.1 rfl rfl (by omega) (Nat.le_of_ble_eq_true rfl) dX13_reduce_80 rfl (fun rv hh6 hq hqn hqk => ?_) (fun _ _ hq _ _ => hq.elim)
            obtain ⟨rfl, hFhh6, q6hh6, q15hh6, q16hh6, q17hh6⟩ := hq
            have hfrh6 := hfrh1.tr (hFhh6.mono (rG_mc (fun k h1 h2 => (rG_tl (rG_hd (by omega) (by omega)))) (rG_mc (fun k h1 h2 => (rG_tl (rG_tl (rG_hd (by omega) (by omega))))) (rG_mc (fun k h1 h2 => (rG_tl (rG_tl (rG_tl (rG_hd (by omega) (by omega)))))) (rG_mc (fun k h1 h2 => (rG_tl (rG_tl (rG_tl (rG_tl (rG_hd (by omega) (by omega))))))) rG_mn)))))
            have hmsh6 := hms.fr hfrh6
            refine V.goto 0 dX13_reduce_83 (by decide) ?_
            have f7 := hFhh6.I (rG_na (am_0n (by decide)) (rG_na (am_0n (by decide)) (rG_na (am_0n (by decide)) (rG_na (am_0n (by decide)) rG_nn)))) f2
            have f8 := hpl.2.fr hFhh1 (fun i hi => (rG_na (am_n0 (by decide)) rG_nn))
            have f9 := f8.fr hFhh6 (fun i hi => (rG_na (am_ne (by decide)) (rG_na (am_ne (by decide)) (rG_na (am_ne (by decide)) (rG_na (am_ne (by decide)) rG_nn)))))
            exact ih (a + 1) (o ++ [(c, 0, 0)]) _ hfrh6 f7 f9 q6hh6 (by omega) (by omega) (by omega) (fun z hz => hc z (List.mem_cons_of_mem _ hz)) (hAC1.push hFhh6 (fun j h1 h2 => ⟨(rG_na (am_ne (by decide)) (rG_nk (by omega) (rG_na (am_ne (by decide)) (rG_na (am_ne (by decide)) rG_nn)))), (rG_na (am_ne (by decide)) (rG_na (am_ne (by decide)) (rG_nk (by omega) (rG_na (am_ne (by decide)) rG_nn)))), (rG_na (am_ne (by decide)) (rG_na (am_ne (by decide)) (rG_na (am_ne (by decide)) (rG_nk (by omega) rG_nn))))⟩) (by rw [he]; exact q15hh6) (fun z => absurd z (by have := sgs_op (c := c) (by omega); show ¬ c = 2; omega)) (fun z => absurd z (by have := sgs_op (c := c) (by omega); show ¬ c = 1; omega))) (by simp only [List.length_append, List.length_singleton]; omega) (by rw [← e1, red, if_pos hk]) (by rw [← e2, red, if_pos hk, List.append_assoc, List.singleton_append]) (by rw [← e3, red, if_pos hk, List.length_cons]; omega)
  exact L0 P0 a0 o0 h Fr.rf h30 hpl hac (Nat.le_refl _) ha hP hc hAC he rfl rfl rfl
set_option maxHeartbeats 4000000 in
theorem m_operand {G : xG} {m d r a0 e : Nat} {h : xH} {P0 : List Nat} {o0 : List xAct} (hms : MS m (hS h) (hR h)) (hr : r < 12) (h28 : hI h m 28 = nI r) (hac : hI h (m + 6) r = nI a0) (ha : a0 + P0.length ≤ 200) (h30 : hI h m 30 = nI P0.length) (h31 : hI h m 31 = nI (opn P0)) (hpl : pl (hI h (m + 18)) P0) (hP : P0.length ≤ 64) (hc : ∀ c ∈ P0, c ≤ 1000) (hAC : AC h m e o0) (he : e + o0.length = 200 * r + a0) : AM G Y13_operandIsThere (d + 1) h [.ref m] (xVoid (fun u => Fr (rG [(m, 30, 32), ((m + 6), r, r + 1), ((m + 15), 200 * r + a0, 200 * r + 200), ((m + 16), 200 * r + a0, 200 * r + 200), ((m + 17), 200 * r + a0, 200 * r + 200)]) h u ∧ hI u m 30 = nI (pmn P0).1.length ∧ hI u m 31 = nI (opn (pmn P0).1) ∧ hI u (m + 6) r = nI (a0 + (pmn P0).2.length) ∧ AC u m e (o0 ++ (pmn P0).2))) := by
  refine AM.of (by decide) (Nat.le_of_ble_eq_true rfl) fun X => ?_
  have L0 : ∀ (P : List Nat) (a : Nat) (o : List xAct) (h0 : xH), Fr (rG [(m, 30, 32), ((m + 6), r, r + 1), ((m + 15), 200 * r + a0, 200 * r + 200), ((m + 16), 200 * r + a0, 200 * r + 200), ((m + 17), 200 * r + a0, 200 * r + 200)]) h h0 → hI h0 m 30 = nI P.length → hI h0 m 31 = nI (opn P) → pl (hI h0 (m + 18)) P → hI h0 (m + 6) r = nI a → a0 ≤ a → a + P.length ≤ 200 → P.length ≤ 64 → (∀ c ∈ P, c ≤ 1000) → AC h0 m e o → e + o.length = 200 * r + a → (pmn P).1 = (pmn P0).1 → o ++ (pmn P).2 = o0 ++ (pmn P0).2 → a + (pmn P).2.length = a0 + (pmn P0).2.length → V G Y13_operandIsThere (d + 1) (xVoid (fun u => Fr (rG [(m, 30, 32), ((m + 6), r, r + 1), ((m + 15), 200 * r + a0, 200 * r + 200), ((m + 16), 200 * r + a0, 200 * r + 200), ((m + 17), 200 * r + a0, 200 * r + 200)]) h u ∧ hI u m 30 = nI (pmn P0).1.length ∧ hI u m 31 = nI (opn (pmn P0).1) ∧ hI u (m + 6) r = nI (a0 + (pmn P0).2.length) ∧ AC u m e (o0 ++ (pmn P0).2))) X h0 0 [some (.ref m)] [] := by
    intro P
    induction P with
    | nil =>
      intro a o h0 hfr0 h30 h31 hpl hac ha0 ha hP hc hAC he e1 e2 e3
      have hms0 := hms.fr hfr0
      refine V.aload_n dX13_operandIsThere_0 rfl ?_
      refine V.getIe fl_X13_256 hms0.1 h30 dX13_operandIsThere_1 rfl ?_
      refine V.if_le 54 dX13_operandIsThere_4 (by decide) (fun _ => ?_) (fun z => absurd z (by decide))
      exact V.vreturn dX13_operandIsThere_54 rfl (⟨rfl, hfr0, by rw [← e1]; exact h30, by rw [← e1]; exact h31, by rw [← e3]; exact hac, by rw [← e2, pmn, List.append_nil]; exact hAC⟩)
    | cons c P ih =>
      intro a o h0 hfr0 h30 h31 hpl hac ha0 ha hP hc hAC he e1 e2 e3
      have hms0 := hms.fr hfr0
      have hcc := hc c List.mem_cons_self
      simp only [List.length_cons] at h30 ha hP
      have h28' := hfr0.I (rG_nl (by decide) (rG_na (am_0n (by decide)) (rG_na (am_0n (by decide)) (rG_na (am_0n (by decide)) (rG_na (am_0n (by decide)) rG_nn))))) h28
      refine V.aload_n dX13_operandIsThere_0 rfl ?_
      refine V.getIe fl_X13_256 hms0.1 h30 dX13_operandIsThere_1 rfl ?_
      refine V.if_leN (P.length + 1) rfl (by omega) 54 dX13_operandIsThere_4 (by decide) (fun c4 => absurd c4 (by omega)) (fun c4 => ?_)
      refine V.aload_n dX13_operandIsThere_7 rfl ?_
      refine V.getr fl_X13_67 hms0.1 (hms0.2.2 (29, 18) (by decide)) dX13_operandIsThere_8 rfl ?_
      refine V.aload_n dX13_operandIsThere_11 rfl ?_
      refine V.getIe fl_X13_256 hms0.1 h30 dX13_operandIsThere_12 rfl ?_
      refine V.iconst (1) dX13_operandIsThere_15 (by decide) ?_
      refine V.isubD (P.length) (1) rfl rfl dX13_operandIsThere_16 ?_
      refine V.ialde (j := P.length) (hms0.2.1 18 (by decide)) rfl (by omega) (hpl.1) dX13_operandIsThere_17 ?_
      refine V.sipush (1000) dX13_operandIsThere_18 (by decide) ?_
      refine V.icmp_neN (c) (1000) rfl rfl (by omega) (by omega) 54 dX13_operandIsThere_21 (by decide) (fun c21 => ?_) (fun c21 => ?_)
      · exact V.vreturn dX13_operandIsThere_54 rfl (⟨rfl, hfr0, by rw [← e1, pmn, if_neg c21]; exact h30, by rw [← e1, pmn, if_neg c21]; exact h31, by rw [← e3, pmn, if_neg c21]; exact hac, by rw [← e2, pmn, if_neg c21, List.append_nil]; exact hAC⟩)
      · rw [opn, if_pos (Or.inr c21)] at h31
        refine V.aload_n dX13_operandIsThere_24 rfl ?_
        refine V.dup dX13_operandIsThere_25 rfl ?_
        refine V.getIe fl_X13_256 hms0.1 h30 dX13_operandIsThere_26 rfl ?_
        refine V.iconst (1) dX13_operandIsThere_29 (by decide) ?_
        refine V.isubD (P.length) (1) rfl rfl dX13_operandIsThere_30 ?_
        refine V.putIk fl_X13_256 hms0.1 dX13_operandIsThere_31 rfl rfl rfl (fun hh1 ehh1 => ?_)
        have hFhh1 := Fr1I ehh1
        have hfrh1 := hfr0.tr (hFhh1.mono (rG_mc (fun k h1 h2 => (rG_hd (by omega) (by omega))) rG_mn))
        have hmsh1 := hms.fr hfrh1
        have f2 := hI_ps ehh1
        refine V.aload_n dX13_operandIsThere_34 rfl ?_
        refine V.dup dX13_operandIsThere_35 rfl ?_
        have f3 := hFhh1.I (rG_nh (by decide) rG_nn) h31
        refine V.getIe fl_X13_266 hmsh1.1 f3 dX13_operandIsThere_36 rfl ?_
        refine V.iconst (1) dX13_operandIsThere_39 (by decide) ?_
        refine V.isubD (opn P) (1) rfl rfl dX13_operandIsThere_40 ?_
        refine V.putIk fl_X13_266 hmsh1.1 dX13_operandIsThere_41 rfl rfl rfl (fun hh4 ehh4 => ?_)
        have hFhh4 := Fr1I ehh4
        have hfrh4 := hfrh1.tr (hFhh4.mono (rG_mc (fun k h1 h2 => (rG_hd (by omega) (by omega))) rG_mn))
        have hmsh4 := hms.fr hfrh4
        have f5 := hI_ps ehh4
        have hAC0 := hAC.fr hFhh1 (fun j h1 h2 => ⟨(rG_na (am_n0 (by decide)) rG_nn), (rG_na (am_n0 (by decide)) rG_nn), (rG_na (am_n0 (by decide)) rG_nn)⟩)
        have hAC1 := hAC0.fr hFhh4 (fun j h1 h2 => ⟨(rG_na (am_n0 (by decide)) rG_nn), (rG_na (am_n0 (by decide)) rG_nn), (rG_na (am_n0 (by decide)) rG_nn)⟩)
        refine V.aload_n dX13_operandIsThere_44 rfl ?_
        refine V.iconst (3) dX13_operandIsThere_45 (by decide) ?_
        refine V.iconst (-1) dX13_operandIsThere_46 (by decide) ?_
        refine V.lconst 0 dX13_operandIsThere_47 (by decide) ?_
        have f6 := hFhh1.I (rG_nl (by decide) rG_nn) h28'
        have f7 := hFhh4.I (rG_nl (by decide) rG_nn) f6
        have f8 := hFhh1.I (rG_na (am_n0 (by decide)) rG_nn) hac
        have f9 := hFhh4.I (rG_na (am_n0 (by decide)) rG_nn) f8
        refine V.callV (m_act (d := d) hmsh4 hr f7 f9 (by omega) (nI 3) (-1) 0) mv_X13_262 ok_Y13_act hmsh4.1 rfl rfl (by omega) (Nat.le_of_ble_eq_true rfl) dX13_operandIsThere_48 rfl (fun rv hh10 hq hqn hqk => ?_) (fun _ _ hq _ _ => hq.elim)
        obtain ⟨rfl, hFhh10, q6hh10, q15hh10, q16hh10, q17hh10⟩ := hq
        have hfrh10 := hfrh4.tr (hFhh10.mono (rG_mc (fun k h1 h2 => (rG_tl (rG_hd (by omega) (by omega)))) (rG_mc (fun k h1 h2 => (rG_tl (rG_tl (rG_hd (by omega) (by omega))))) (rG_mc (fun k h1 h2 => (rG_tl (rG_tl (rG_tl (rG_hd (by omega) (by omega)))))) (rG_mc (fun k h1 h2 => (rG_tl (rG_tl (rG_tl (rG_tl (rG_hd (by omega) (by omega))))))) rG_mn)))))
        have hmsh10 := hms.fr hfrh10
        refine V.goto 0 dX13_operandIsThere_51 (by decide) ?_
        have f11 := hFhh4.I (rG_nl (by decide) rG_nn) f2
        have f12 := hFhh10.I (rG_na (am_0n (by decide)) (rG_na (am_0n (by decide)) (rG_na (am_0n (by decide)) (rG_na (am_0n (by decide)) rG_nn)))) f11
        have f13 := hFhh10.I (rG_na (am_0n (by decide)) (rG_na (am_0n (by decide)) (rG_na (am_0n (by decide)) (rG_na (am_0n (by decide)) rG_nn)))) f5
        have f14 := hpl.2.fr hFhh1 (fun i hi => (rG_na (am_n0 (by decide)) rG_nn))
        have f15 := f14.fr hFhh4 (fun i hi => (rG_na (am_n0 (by decide)) rG_nn))
        have f16 := f15.fr hFhh10 (fun i hi => (rG_na (am_ne (by decide)) (rG_na (am_ne (by decide)) (rG_na (am_ne (by decide)) (rG_na (am_ne (by decide)) rG_nn)))))
        exact ih (a + 1) (o ++ [(3, 0, 0)]) _ hfrh10 f12 f13 f16 q6hh10 (by omega) (by omega) (by omega) (fun z hz => hc z (List.mem_cons_of_mem _ hz)) (hAC1.push hFhh10 (fun j h1 h2 => ⟨(rG_na (am_ne (by decide)) (rG_nk (by omega) (rG_na (am_ne (by decide)) (rG_na (am_ne (by decide)) rG_nn)))), (rG_na (am_ne (by decide)) (rG_na (am_ne (by decide)) (rG_nk (by omega) (rG_na (am_ne (by decide)) rG_nn)))), (rG_na (am_ne (by decide)) (rG_na (am_ne (by decide)) (rG_na (am_ne (by decide)) (rG_nk (by omega) rG_nn))))⟩) (by rw [he]; exact q15hh10) (fun z => absurd (show (3 : Nat) = 2 from z) (by decide)) (fun z => absurd (show (3 : Nat) = 1 from z) (by decide))) (by simp only [List.length_append, List.length_singleton]; omega) (by rw [← e1, pmn, if_pos c21]) (by rw [← e2, pmn, if_pos c21, List.append_assoc, List.singleton_append]) (by rw [← e3, pmn, if_pos c21, List.length_cons]; omega)
  exact L0 P0 a0 o0 h Fr.rf h30 h31 hpl hac (Nat.le_refl _) ha hP hc hAC he rfl rfl rfl
