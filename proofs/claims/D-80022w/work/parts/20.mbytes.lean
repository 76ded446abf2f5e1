/-! the model: bytes and tokens (rows by a program) -/
set_option maxRecDepth 100000
theorem bI_cg {p q : Prop} [Decidable p] [Decidable q] (h : p ↔ q) : bI p = bI q := by
  unfold bI
  by_cases hp : p
  · rw [if_pos hp, if_pos (h.mp hp)]
  · rw [if_neg hp, if_neg (fun z => hp (h.mpr z))]
/-- the byte at i, or -1 -/
def bt (b : Nat → Nat) (n i : Nat) : Int32 := if i < n then nI (b i) else -1
theorem bt_in {b : Nat → Nat} {n i : Nat} (h : i < n) : bt b n i = nI (b i) := if_pos h
theorem bt_out {b : Nat → Nat} {n i : Nat} (h : ¬ i < n) : bt b n i = -1 := if_neg h
theorem bt_eq {b : Nat → Nat} {n i c : Nat} (hb : ∀ j, j < n → b j < 256) (hc : c < 256) : bt b n i = nI c ↔ (i < n ∧ b i = c) := by
  by_cases h : i < n
  · rw [bt_in h, nI_eq (by have := hb i h; omega) (by omega)]
    exact ⟨fun q => ⟨h, q⟩, fun q => q.2⟩
  · rw [bt_out h]
    constructor
    · intro q
      have h1 := congrArg Int32.toInt q
      rw [nI_toInt (by omega)] at h1
      have h2 : ((-1 : Int32)).toInt = -1 := by decide
      omega
    · intro q; exact absurd q.1 h
theorem bt_ge {b : Nat → Nat} {n i c : Nat} (hb : ∀ j, j < n → b j < 256) (hc : c < 256) : nI c ≤ bt b n i ↔ (i < n ∧ c ≤ b i) := by
  by_cases h : i < n
  · rw [bt_in h, nI_leI (by omega) (by have := hb i h; omega)]
    exact ⟨fun q => ⟨h, q⟩, fun q => q.2⟩
  · rw [bt_out h]
    constructor
    · intro q
      rw [Int32.le_iff_toInt_le, nI_toInt (by omega)] at q
      have h2 : ((-1 : Int32)).toInt = -1 := by decide
      omega
    · intro q; exact absurd q.1 h
theorem bt_neg {b : Nat → Nat} {n i : Nat} (hb : ∀ j, j < n → b j < 256) : 0 ≤ bt b n i ↔ i < n := by
  have := bt_ge (b := b) (n := n) (i := i) (c := 0) hb (by omega)
  rw [show (0 : Int32) = nI 0 from rfl, this]
  exact ⟨fun q => q.1, fun q => ⟨q, Nat.zero_le _⟩⟩
theorem bt_rng {b : Nat → Nat} {n i lo hi : Nat} (hb : ∀ j, j < n → b j < 256) (h1 : lo < 256) (h2 : hi < 256) : (nI lo ≤ bt b n i ∧ bt b n i ≤ nI hi) ↔ (i < n ∧ lo ≤ b i ∧ b i ≤ hi) := by
  by_cases h : i < n
  · rw [bt_in h, nI_leI (by omega) (by have := hb i h; omega), nI_leI (by have := hb i h; omega) (by omega)]
    exact ⟨fun q => ⟨h, q⟩, fun q => q.2⟩
  · constructor
    · intro q; exact absurd ((bt_ge hb h1).mp q.1).1 h
    · intro q; exact absurd q.1 h
/-- the model's tape: n bytes b -/
def TP (h : xH) (m : Nat) (b : Nat → Nat) (n : Nat) : Prop := hI h m 2 = nI n ∧ n ≤ 800 ∧ (∀ j, j < n → hI h (m + 1) j &&& 255 = nI (b j)) ∧ ∀ j, j < n → b j < 256
theorem TP.fr {P : Nat → Nat → Prop} {h u : xH} {m n : Nat} {b : Nat → Nat} (t : TP h m b n) (f : Fr P h u) (n1 : ¬ P m 2) (n2 : ∀ j, ¬ P (m + 1) j) : TP u m b n :=
  ⟨f.I n1 t.1, t.2.1, fun j hj => by rw [(f.2.2.2.2 (m + 1) j (n2 j)).1]; exact t.2.2.1 j hj, t.2.2.2⟩
set_option maxHeartbeats 4000000 in
theorem m_isSmall {G : xG} {d : Nat} {h : xH} (c : Int32) : AM G Y13_isSmall d h [.int c] (xRet (.int (bI (97 ≤ c ∧ c ≤ 122))) h) := by
  refine AM.of (by decide) (Nat.le_of_ble_eq_true rfl) fun X => ?_
  refine V.iload_n dX13_isSmall_0 rfl ?_
  refine V.bipush (97) dX13_isSmall_1 (by decide) ?_
  refine V.icmp_lt 16 dX13_isSmall_3 (by decide) (fun c3 => ?_) (fun c3 => ?_)
  · refine V.iconst (0) dX13_isSmall_16 (by decide) ?_
    exact V.ireturn dX13_isSmall_17 rfl rfl (⟨by rw [bI_f fun q => Int32.not_le.mpr c3 q.1], rfl⟩)
  · refine V.iload_n dX13_isSmall_6 rfl ?_
    refine V.bipush (122) dX13_isSmall_7 (by decide) ?_
    refine V.icmp_gt 16 dX13_isSmall_9 (by decide) (fun c9 => ?_) (fun c9 => ?_)
    · refine V.iconst (0) dX13_isSmall_16 (by decide) ?_
      exact V.ireturn dX13_isSmall_17 rfl rfl (⟨by rw [bI_f fun q => Int32.not_le.mpr c9 q.2], rfl⟩)
    · refine V.iconst (1) dX13_isSmall_12 (by decide) ?_
      refine V.goto 17 dX13_isSmall_13 (by decide) ?_
      exact V.ireturn dX13_isSmall_17 rfl rfl (⟨by rw [bI_t ⟨Int32.not_lt.mp c3, Int32.not_lt.mp c9⟩], rfl⟩)
theorem m_isSmallB {G : xG} {d : Nat} {h : xH} {b : Nat → Nat} {n : Nat} (hb : ∀ j, j < n → b j < 256) (i : Nat) : AM G Y13_isSmall d h [.int (bt b n i)] (xRet (.int (bI (i < n ∧ isLt (b i) = true))) h) := by
  have this : AM G Y13_isSmall d h [.int (bt b n i)] (xRet (.int (bI (nI 97 ≤ bt b n i ∧ bt b n i ≤ nI 122))) h) := m_isSmall (G := G) (d := d) (h := h) (bt b n i)
  rw [bI_cg (q := i < n ∧ isLt (b i) = true) ((bt_rng (lo := 97) (hi := 122) hb (by omega) (by omega)).trans (by simp [isLt]))] at this
  exact this
set_option maxHeartbeats 4000000 in
theorem m_isFigure {G : xG} {d : Nat} {h : xH} (c : Int32) : AM G Y13_isFigure d h [.int c] (xRet (.int (bI (48 ≤ c ∧ c ≤ 57))) h) := by
  refine AM.of (by decide) (Nat.le_of_ble_eq_true rfl) fun X => ?_
  refine V.iload_n dX13_isFigure_0 rfl ?_
  refine V.bipush (48) dX13_isFigure_1 (by decide) ?_
  refine V.icmp_lt 16 dX13_isFigure_3 (by decide) (fun c3 => ?_) (fun c3 => ?_)
  · refine V.iconst (0) dX13_isFigure_16 (by decide) ?_
    exact V.ireturn dX13_isFigure_17 rfl rfl (⟨by rw [bI_f fun q => Int32.not_le.mpr c3 q.1], rfl⟩)
  · refine V.iload_n dX13_isFigure_6 rfl ?_
    refine V.bipush (57) dX13_isFigure_7 (by decide) ?_
    refine V.icmp_gt 16 dX13_isFigure_9 (by decide) (fun c9 => ?_) (fun c9 => ?_)
    · refine V.iconst (0) dX13_isFigure_16 (by decide) ?_
      exact V.ireturn dX13_isFigure_17 rfl rfl (⟨by rw [bI_f fun q => Int32.not_le.mpr c9 q.2], rfl⟩)
    · refine V.iconst (1) dX13_isFigure_12 (by decide) ?_
      refine V.goto 17 dX13_isFigure_13 (by decide) ?_
      exact V.ireturn dX13_isFigure_17 rfl rfl (⟨by rw [bI_t ⟨Int32.not_lt.mp c3, Int32.not_lt.mp c9⟩], rfl⟩)
theorem m_isFigureB {G : xG} {d : Nat} {h : xH} {b : Nat → Nat} {n : Nat} (hb : ∀ j, j < n → b j < 256) (i : Nat) : AM G Y13_isFigure d h [.int (bt b n i)] (xRet (.int (bI (i < n ∧ isDg (b i) = true))) h) := by
  have this : AM G Y13_isFigure d h [.int (bt b n i)] (xRet (.int (bI (nI 48 ≤ bt b n i ∧ bt b n i ≤ nI 57))) h) := m_isFigure (G := G) (d := d) (h := h) (bt b n i)
  rw [bI_cg (q := i < n ∧ isDg (b i) = true) ((bt_rng (lo := 48) (hi := 57) hb (by omega) (by omega)).trans (by simp [isDg]))] at this
  exact this
set_option maxHeartbeats 4000000 in
theorem m_byteAt {G : xG} {m d n : Nat} {h : xH} {b : Nat → Nat} (hms : MS m (hS h) (hR h)) (ht : TP h m b n) (i : Nat) (hi : i < 2 ^ 30) : AM G Y13_byteAt d h [.ref m, .int (nI i)] (xRet (.int (bt b n i)) h) := by
  refine AM.of (by decide) (Nat.le_of_ble_eq_true rfl) fun X => ?_
  have hn8 := ht.2.1
  refine V.iload_n dX13_byteAt_0 rfl ?_
  refine V.aload_n dX13_byteAt_1 rfl ?_
  refine V.getIe fl_X13_176 hms.1 ht.1 dX13_byteAt_2 rfl ?_
  refine V.icmp_geN (i) (n) rfl rfl (by omega) (by omega) 21 dX13_byteAt_5 (by decide) (fun c5 => ?_) (fun c5 => ?_)
  · refine V.iconst (-1) dX13_byteAt_21 (by decide) ?_
    exact V.ireturn dX13_byteAt_22 rfl rfl (⟨by rw [bt_out (Nat.not_lt.mpr c5)], rfl⟩)
  · refine V.aload_n dX13_byteAt_8 rfl ?_
    refine V.getr fl_X13_7 hms.1 (hms.2.2 (1, 1) (by decide)) dX13_byteAt_9 rfl ?_
    refine V.iload_n dX13_byteAt_12 rfl ?_
    refine V.bald (j := i) (hms.2.1 1 (by decide)) rfl (by omega) dX13_byteAt_13 ?_
    refine V.sipush (255) dX13_byteAt_14 (by decide) ?_
    refine V.iand dX13_byteAt_17 ?_
    refine V.goto 22 dX13_byteAt_18 (by decide) ?_
    exact V.ireturn dX13_byteAt_22 rfl rfl (⟨by rw [ht.2.2.1 i c5, bt_in c5], rfl⟩)
theorem sgOff : ∀ k, k < 256 → Op.lookupswitch.offset (#[(35, 115), (37, 115), (40, 115), (41, 115), (42, 115), (43, 115), (45, 115), (47, 115), (59, 115), (60, 115), (61, 115), (123, 115), (125, 115)] : Array (Int × Int)).toList 117 (nI k).toInt = (if isSg k = true then 115 else 117) := by decide +kernel
set_option maxHeartbeats 4000000 in
theorem m_isSignByte {G : xG} {d : Nat} {h : xH} (k : Nat) (hk : k < 256) : AM G Y13_isSignByte d h [.int (nI k)] (xRet (.int (bI (isSg k = true))) h) := by
  refine AM.of (by decide) (Nat.le_of_ble_eq_true rfl) fun X => ?_
  refine V.iload_n dX13_isSignByte_0 rfl ?_
  by_cases hs : isSg k = true
  · refine V.lookup 116 dX13_isSignByte_1 (by decide) ((sgOff k hk).trans (if_pos hs)) (by decide) ?_
    refine V.iconst 1 dX13_isSignByte_116 (by decide) ?_
    exact V.ireturn dX13_isSignByte_117 rfl rfl ⟨by rw [bI_t hs], rfl⟩
  · refine V.lookup 118 dX13_isSignByte_1 (by decide) ((sgOff k hk).trans (if_neg hs)) (by decide) ?_
    refine V.iconst 0 dX13_isSignByte_118 (by decide) ?_
    exact V.ireturn dX13_isSignByte_119 rfl rfl ⟨by rw [bI_f hs], rfl⟩
set_option maxHeartbeats 4000000 in
theorem m_wordOf {G : xG} {d : Nat} {h : xH} (v : Int64) : AM G Y13_wordOf d h [.long v] (xRet (.int (wOf v)) h) := by
  refine AM.of (by decide) (Nat.le_of_ble_eq_true rfl) fun X => ?_
  refine V.lload_n dX13_wordOf_0 rfl ?_
  refine V.ldc2 q1408 dX13_wordOf_1 ?_
  refine V.lcmp dX13_wordOf_4 ?_
  refine V.if_ne 10 dX13_wordOf_5 (by decide) (fun c5 => ?_) (fun c5 => ?_)
  · refine V.lload_n dX13_wordOf_10 rfl ?_
    refine V.ldc2 q1409 dX13_wordOf_11 ?_
    refine V.lcmp dX13_wordOf_14 ?_
    refine V.if_ne 20 dX13_wordOf_15 (by decide) (fun c15 => ?_) (fun c15 => ?_)
    · refine V.lload_n dX13_wordOf_20 rfl ?_
      refine V.ldc2 q1410 dX13_wordOf_21 ?_
      refine V.lcmp dX13_wordOf_24 ?_
      refine V.if_ne 30 dX13_wordOf_25 (by decide) (fun c25 => ?_) (fun c25 => ?_)
      · refine V.lload_n dX13_wordOf_30 rfl ?_
        refine V.ldc2 q1411 dX13_wordOf_31 ?_
        refine V.lcmp dX13_wordOf_34 ?_
        refine V.if_ne 40 dX13_wordOf_35 (by decide) (fun c35 => ?_) (fun c35 => ?_)
        · refine V.lload_n dX13_wordOf_40 rfl ?_
          refine V.ldc2 q1412 dX13_wordOf_41 ?_
          refine V.lcmp dX13_wordOf_44 ?_
          refine V.if_ne 50 dX13_wordOf_45 (by decide) (fun c45 => ?_) (fun c45 => ?_)
          · refine V.lload_n dX13_wordOf_50 rfl ?_
            refine V.ldc2 q1413 dX13_wordOf_51 ?_
            refine V.lcmp dX13_wordOf_54 ?_
            refine V.if_ne 60 dX13_wordOf_55 (by decide) (fun c55 => ?_) (fun c55 => ?_)
            · refine V.lload_n dX13_wordOf_60 rfl ?_
              refine V.ldc2 q1414 dX13_wordOf_61 ?_
              refine V.lcmp dX13_wordOf_64 ?_
              refine V.if_ne 71 dX13_wordOf_65 (by decide) (fun c65 => ?_) (fun c65 => ?_)
              · refine V.lload_n dX13_wordOf_71 rfl ?_
                refine V.ldc2 q1415 dX13_wordOf_72 ?_
                refine V.lcmp dX13_wordOf_75 ?_
                refine V.if_ne 82 dX13_wordOf_76 (by decide) (fun c76 => ?_) (fun c76 => ?_)
                · refine V.lload_n dX13_wordOf_82 rfl ?_
                  refine V.ldc2 q1416 dX13_wordOf_83 ?_
                  refine V.lcmp dX13_wordOf_86 ?_
                  refine V.if_ne 93 dX13_wordOf_87 (by decide) (fun c87 => ?_) (fun c87 => ?_)
                  · refine V.lload_n dX13_wordOf_93 rfl ?_
                    refine V.ldc2 q1417 dX13_wordOf_94 ?_
                    refine V.lcmp dX13_wordOf_97 ?_
                    refine V.if_ne 104 dX13_wordOf_98 (by decide) (fun c98 => ?_) (fun c98 => ?_)
                    · refine V.iconst (-1) dX13_wordOf_104 (by decide) ?_
                      exact V.ireturn dX13_wordOf_105 rfl rfl (⟨by simp only [lg_cmp_eq] at *; simp [wOf, *], rfl⟩)
                    · refine V.bipush (9) dX13_wordOf_101 (by decide) ?_
                      exact V.ireturn dX13_wordOf_103 rfl rfl (⟨by simp only [lg_cmp_eq] at *; simp [wOf, *], rfl⟩)
                  · refine V.bipush (8) dX13_wordOf_90 (by decide) ?_
                    exact V.ireturn dX13_wordOf_92 rfl rfl (⟨by simp only [lg_cmp_eq] at *; simp [wOf, *], rfl⟩)
                · refine V.bipush (7) dX13_wordOf_79 (by decide) ?_
                  exact V.ireturn dX13_wordOf_81 rfl rfl (⟨by simp only [lg_cmp_eq] at *; simp [wOf, *], rfl⟩)
              · refine V.bipush (6) dX13_wordOf_68 (by decide) ?_
                exact V.ireturn dX13_wordOf_70 rfl rfl (⟨by simp only [lg_cmp_eq] at *; simp [wOf, *], rfl⟩)
            · refine V.iconst (5) dX13_wordOf_58 (by decide) ?_
              exact V.ireturn dX13_wordOf_59 rfl rfl (⟨by simp only [lg_cmp_eq] at *; simp [wOf, *], rfl⟩)
          · refine V.iconst (4) dX13_wordOf_48 (by decide) ?_
            exact V.ireturn dX13_wordOf_49 rfl rfl (⟨by simp only [lg_cmp_eq] at *; simp [wOf, *], rfl⟩)
        · refine V.iconst (3) dX13_wordOf_38 (by decide) ?_
          exact V.ireturn dX13_wordOf_39 rfl rfl (⟨by simp only [lg_cmp_eq] at *; simp [wOf, *], rfl⟩)
      · refine V.iconst (2) dX13_wordOf_28 (by decide) ?_
        exact V.ireturn dX13_wordOf_29 rfl rfl (⟨by simp only [lg_cmp_eq] at *; simp [wOf, *], rfl⟩)
    · refine V.iconst (1) dX13_wordOf_18 (by decide) ?_
      exact V.ireturn dX13_wordOf_19 rfl rfl (⟨by simp only [lg_cmp_eq] at *; simp [wOf, *], rfl⟩)
  · refine V.iconst (0) dX13_wordOf_8 (by decide) ?_
    exact V.ireturn dX13_wordOf_9 rfl rfl (⟨by simp only [lg_cmp_eq] at *; simp [wOf, *], rfl⟩)
