/-! the model: next() -/
set_option maxRecDepth 100000
def nxP (m : Nat) : Nat → Nat → Prop := fun a k => a = m ∧ 3 ≤ k ∧ k ≤ 8
/-- the model's code of a token -/
def mtk (c : Nat) : Nat := if 100 ≤ c then 4 else c
/-- the token read from p on is at hand -/
def MT (h : xH) (m : Nat) (b : Nat → Nat) (n p : Nat) : Prop := hI h m 4 = nI (mtk (tC b n p)) ∧ hI h m 5 = nI (tS b n p) ∧ hI h m 3 = nI (tE b n p) ∧ (100 ≤ tC b n p → hI h m 8 = nI (tC b n p - 100)) ∧ (tC b n p = 2 → hI h m 6 = nI (tLt b n p)) ∧ (tC b n p = 3 → hL h m 7 = lN (tNm b n p))
theorem MT.fr {P : Nat → Nat → Prop} {h u : xH} {m n p : Nat} {b : Nat → Nat} (t : MT h m b n p) (f : Fr P h u) (n1 : ∀ k, 3 ≤ k → k ≤ 8 → ¬ P m k) : MT u m b n p :=
  ⟨f.I (n1 4 (by omega) (by omega)) t.1, f.I (n1 5 (by omega) (by omega)) t.2.1, f.I (n1 3 (by omega) (by omega)) t.2.2.1, fun q => f.I (n1 8 (by omega) (by omega)) (t.2.2.2.1 q), fun q => f.I (n1 6 (by omega) (by omega)) (t.2.2.2.2.1 q), fun q => f.L (n1 7 (by omega) (by omega)) (t.2.2.2.2.2 q)⟩
theorem nx_pk {b : Nat → Nat} {s j : Nat} (hj : j < 7) (hb : ∀ i, i ≤ j → b (s + i) < 256) : (lN (pkn b s j) <<< ((8 : Int32).toInt64 &&& 63)) ||| (nI (b (s + j))).toInt64 = lN (pkn b s (j + 1)) := by
  have h1 := pkn_lt (b := b) (s := s) j (fun i hi => hb i (by omega))
  have h2 := hb j (Nat.le_refl _)
  have h3 : 256 ^ j ≤ 256 ^ 6 := Nat.pow_le_pow_right (by omega) (by omega)
  have h4 : pkn b s j < 2 ^ 48 := Nat.lt_of_lt_of_le h1 (by simpa using h3)
  rw [nI_l (by omega)]
  simp only [pkn]
  generalize pkn b s j = x at h4
  generalize b (s + j) = y at h2
  have e1 : ((8 : Int32).toInt64 &&& 63) = 8 := by decide
  rw [e1]
  apply Int64.toBitVec_inj.mp
  rw [Int64.toBitVec_or, Int64.toBitVec_shiftLeft]
  have e2 : ((8 : Int64).toBitVec.smod 64).toNat = 8 := by decide
  have e3 : ∀ z : Nat, (lN z).toBitVec = BitVec.ofNat 64 z := fun z => rfl
  rw [e3, e3, e3]
  apply BitVec.eq_of_toNat_eq
  have e4 : (BitVec.ofNat 64 x <<< ((8 : Int64).toBitVec.smod 64)).toNat = x * 256 := by
    rw [BitVec.shiftLeft_eq', e2, BitVec.toNat_shiftLeft, BitVec.toNat_ofNat, Nat.shiftLeft_eq, Nat.mod_eq_of_lt (by omega : x < 2 ^ 64)]
    exact Nat.mod_eq_of_lt (by omega)
  rw [BitVec.toNat_or, e4, BitVec.toNat_ofNat, BitVec.toNat_ofNat, Nat.mod_eq_of_lt (by omega : y < 2 ^ 64), Nat.mod_eq_of_lt (by omega : x * 256 + y < 2 ^ 64)]
  have := Nat.shiftLeft_add_eq_or_of_lt (b := y) (i := 8) (by omega) x
  rw [Nat.shiftLeft_eq] at this
  rw [← this]
theorem nx_dg {b : Nat → Nat} {s j : Nat} (hb : 48 ≤ b (s + j) ∧ b (s + j) ≤ 57) : (10 : Int64) * lN (dgn b s j) + (nI (b (s + j))).toInt64 - 48 = lN (dgn b s (j + 1)) := by
  rw [nI_l (by omega), show (10 : Int64) = lN 10 from rfl, lN_mul, lN_add, show (48 : Int64) = lN 48 from rfl, lN_sub (by omega)]
  congr 1
  simp only [dgn]
  omega
theorem wCd_rng (b : Nat → Nat) (s k : Nat) : wCd b s k = 1 ∨ (10 ≤ wCd b s k ∧ wCd b s k ≤ 19) := by
  unfold wCd
  repeat' split
  all_goals omega
theorem nx_wd {b : Nat → Nat} {s j : Nat} {v : Int64} (h2 : 2 ≤ j) (h7 : j < 7) (hl : ∀ i, i < j → 97 ≤ b (s + i) ∧ b (s + i) ≤ 122) (hv : v = lN (pkn b s (min j 7))) : (if 0 ≤ wOf v then (10 : Int32) + wOf v else 1) = nI (mtk (wCd b s j)) := by
  have h1 := pkn_lt (b := b) (s := s) j (fun i hi => by have := hl i hi; omega)
  have h3 : 256 ^ j ≤ 256 ^ 6 := Nat.pow_le_pow_right (by omega) (by omega)
  have h4 : pkn b s j < 2 ^ 48 := Nat.lt_of_lt_of_le h1 (by simpa using h3)
  rw [hv, show min j 7 = j by omega, wOf_lN (by omega), ← wCd_of h2 h7 hl]
  generalize pkn b s j = x
  by_cases e0 : x = 26982
  · rw [if_pos e0, if_pos e0]; decide
  rw [if_neg e0, if_neg e0]
  by_cases e1 : x = 1701606245
  · rw [if_pos e1, if_pos e1]; decide
  rw [if_neg e1, if_neg e1]
  by_cases e2 : x = 512852847717
  · rw [if_pos e2, if_pos e2]; decide
  rw [if_neg e2, if_neg e2]
  by_cases e3 : x = 491328402041
  · rw [if_pos e3, if_pos e3]; decide
  rw [if_neg e3, if_neg e3]
  by_cases e4 : x = 499968536439
  · rw [if_pos e4, if_pos e4]; decide
  rw [if_neg e4, if_neg e4]
  by_cases e5 : x = 111503598970226
  · rw [if_pos e5, if_pos e5]; decide
  rw [if_neg e5, if_neg e5]
  by_cases e6 : x = 28530
  · rw [if_pos e6, if_pos e6]; decide
  rw [if_neg e6, if_neg e6]
  by_cases e7 : x = 7631481
  · rw [if_pos e7, if_pos e7]; decide
  rw [if_neg e7, if_neg e7]
  by_cases e8 : x = 426836779880
  · rw [if_pos e8, if_pos e8]; decide
  rw [if_neg e8, if_neg e8]
  by_cases e9 : x = 107118487239027
  · rw [if_pos e9, if_pos e9]; decide
  rw [if_neg e9, if_neg e9]
  decide
set_option maxHeartbeats 8000000 in
theorem m_next {G : xG} {m n : Nat} {h : xH} {b : Nat → Nat} (hms : MS m (hS h) (hR h)) (ht : TP h m b n) (p : Nat) (hp : p ≤ n) (h3 : hI h m 3 = nI p) : AM G Y13_next 1 h [.ref m] (xVoid (fun u => Fr (nxP m) h u ∧ MT u m b n p)) := by
  refine AM.of (by decide) (Nat.le_of_ble_eq_true rfl) fun X => ?_
  have hn8 := ht.2.1
  have hb := ht.2.2.2
  have nP2 : ¬ nxP m m 2 := fun q => absurd q.2.1 (by decide)
  have nP1 : ∀ j, ¬ nxP m (m + 1) j := fun j q => absurd q.1 (by omega)
  have hs1 := tS_ge (b := b) (n := n) (p := p)
  have hs2 := tS_le (b := b) hp
  obtain ⟨s, hse⟩ : ∃ s, tS b n p = s := ⟨_, rfl⟩
  rw [hse] at hs1 hs2
  have L79 : isLt (b s) = true → s < n → ∀ (k j : Nat) (v : Int64) (h0 : xH), scan isLt b n s - (s + j) < k → s + j ≤ scan isLt b n s → v = lN (pkn b s (min j 7)) → Fr (nxP m) h h0 → hI h0 m 3 = nI (s + j) → hI h0 m 5 = nI s → V G Y13_next 1 (xVoid (fun u => Fr (nxP m) h u ∧ MT u m b n p)) X h0 79 [some (.ref m), some (.int (nI (b s))), some (.int (nI j)), some (.long v), none, none] [] := by
    intro hL hsn k
    have he1 := scan_le (f := isLt) (b := b) (p := s) (Nat.le_of_lt hsn)
    have hbs := hb s hsn
    have h97 : 97 ≤ b s := by simp [isLt] at hL; omega
    induction k with
    | zero => intro j v h0 hk; omega
    | succ k ih =>
      intro j v h0 hk hj hv hfr0 f3 f5
      have hms0 := hms.fr hfr0
      refine V.aload_n dX13_next_79 rfl ?_
      refine V.aload_n dX13_next_80 rfl ?_
      refine V.getIe fl_X13_199 hms0.1 f3 dX13_next_81 rfl ?_
      refine V.callV (m_byteAt (d := 0) hms0 (ht.fr hfr0 nP2 nP1) ((s + j)) (by omega)) mv_X13_202 ok_Y13_byteAt hms0.1 rfl rfl (by decide) (Nat.le_of_ble_eq_true rfl) dX13_next_84 rfl (fun rv u hq hqn hqk => ?_) (fun _ _ hq _ _ => hq.elim)
      obtain ⟨rfl, rfl⟩ := hq
      show V _ _ _ _ _ _ _ _ (.int _ :: _)
      refine V.callS (m_isSmallB (d := 0) hb (s + j)) ms_X13_212 ok_Y13_isSmall rfl rfl (by decide) (Nat.le_of_ble_eq_true rfl) dX13_next_87 rfl (fun rv u hq hqn hqk => ?_) (fun _ _ hq _ _ => hq.elim)
      obtain ⟨rfl, rfl⟩ := hq
      show V _ _ _ _ _ _ _ _ (.int _ :: _)
      refine V.if_eqB 134 dX13_next_90 (by decide) (fun c90 => ?_) (fun c90 => ?_)
      · have hje : s + j = scan isLt b n s := by
          rcases Nat.lt_or_ge (s + j) (scan isLt b n s) with q | q
          · exact absurd (scan_in (by omega) q) c90
          · omega
        have hj0 : j ≠ 0 := by
          intro q
          have := scan_go (f := isLt) (b := b) hsn hL
          have := scan_ge (f := isLt) (b := b) (n := n) (p := s + 1)
          omega
        have hC : tC b n p = if j = 1 then 2 else wCd b s j := by
          unfold tC
          rw [hse, if_neg (by omega), if_pos hL, show scan isLt b n s - s = j by omega]
        have hE : tE b n p = s + j := by
          unfold tE
          rw [hse, if_neg (by omega), if_pos hL, hje]
        have hal : ∀ i, i < j → 97 ≤ b (s + i) ∧ b (s + i) ≤ 122 := fun i hi => by
          have := (scan_in (f := isLt) (b := b) (n := n) (p := s) (q := s + i) (by omega) (by omega)).2
          simpa [isLt] using this
        have hr := wCd_rng b s j
        refine V.aload_n dX13_next_134 rfl ?_
        refine V.iload_n dX13_next_135 rfl ?_
        refine V.bipush (97) dX13_next_136 (by decide) ?_
        refine V.isubN ((b s)) (97) rfl rfl (h97) dX13_next_138 ?_
        refine V.putIk fl_X13_216 hms0.1 dX13_next_139 rfl rfl rfl (fun h1 eh1 => ?_)
        have hfr1 := hfr0.pI eh1 ⟨rfl, by decide, by decide⟩
        have hms1 := hms.fr hfr1
        have fI_0_3h1 := hI_pk eh1 (by decide) f3
        have fI_0_5h1 := hI_pk eh1 (by decide) f5
        have fI_0_6h1 := hI_ps eh1
        refine V.iload_n dX13_next_142 rfl ?_
        refine V.bipush (7) dX13_next_143 (by decide) ?_
        refine V.icmp_geN (j) (7) rfl rfl (by omega) (by omega) 155 dX13_next_145 (by decide) (fun c145 => ?_) (fun c145 => ?_)
        · refine V.iconst (-1) dX13_next_155 (by decide) ?_
          refine V.istore dX13_next_156 (by decide) ?_
          refine V.aload_n dX13_next_158 rfl ?_
          refine V.iload_n dX13_next_159 rfl ?_
          refine V.iconst (1) dX13_next_160 (by decide) ?_
          refine V.icmp_neN (j) (1) rfl rfl (by omega) (by omega) 168 dX13_next_161 (by decide) (fun c161 => ?_) (fun c161 => ?_)
          · refine V.iload dX13_next_168 rfl ?_
            refine V.if_ge 177 dX13_next_170 (by decide) (fun c170 => absurd c170 (by decide)) (fun c170 => ?_)
            refine V.iconst (1) dX13_next_173 (by decide) ?_
            refine V.goto 182 dX13_next_174 (by decide) ?_
            refine V.putIk fl_X13_209 hms1.1 dX13_next_182 rfl rfl rfl (fun h2 eh2 => ?_)
            have hfr2 := hfr1.pI eh2 ⟨rfl, by decide, by decide⟩
            have hms2 := hms.fr hfr2
            have fI_0_3h2 := hI_pk eh2 (by decide) fI_0_3h1
            have fI_0_5h2 := hI_pk eh2 (by decide) fI_0_5h1
            have fI_0_6h2 := hI_pk eh2 (by decide) fI_0_6h1
            have fI_0_4h2 := hI_ps eh2
            refine V.goto 320 dX13_next_185 (by decide) ?_
            exact V.vreturn dX13_next_320 rfl (⟨rfl, hfr2, by rw [fI_0_4h2, hC, if_neg c161, wCd_big c145]; rfl, by rw [hse]; exact fI_0_5h2, by rw [hE]; exact fI_0_3h2, fun q => absurd q (by rw [hC, if_neg c161]; omega), fun _ => by rw [fI_0_6h2]; unfold tLt; rw [hse], fun q => absurd q (by rw [hC, if_neg c161]; omega)⟩)
          · refine V.iconst (2) dX13_next_164 (by decide) ?_
            refine V.goto 182 dX13_next_165 (by decide) ?_
            refine V.putIk fl_X13_209 hms1.1 dX13_next_182 rfl rfl rfl (fun h3 eh3 => ?_)
            have hfr3 := hfr1.pI eh3 ⟨rfl, by decide, by decide⟩
            have hms3 := hms.fr hfr3
            have fI_0_3h3 := hI_pk eh3 (by decide) fI_0_3h1
            have fI_0_5h3 := hI_pk eh3 (by decide) fI_0_5h1
            have fI_0_6h3 := hI_pk eh3 (by decide) fI_0_6h1
            have fI_0_4h3 := hI_ps eh3
            refine V.goto 320 dX13_next_185 (by decide) ?_
            exact V.vreturn dX13_next_320 rfl (⟨rfl, hfr3, by rw [fI_0_4h3, hC, if_pos c161]; rfl, by rw [hse]; exact fI_0_5h3, by rw [hE]; exact fI_0_3h3, fun q => absurd q (by rw [hC, if_pos c161]; omega), fun _ => by rw [fI_0_6h3]; unfold tLt; rw [hse], fun q => absurd q (by rw [hC, if_pos c161]; omega)⟩)
        · refine V.lload_n dX13_next_148 rfl ?_
          refine V.callS (m_wordOf (d := 0) v) ms_X13_219 ok_Y13_wordOf rfl rfl (by decide) (Nat.le_of_ble_eq_true rfl) dX13_next_149 rfl (fun rv u hq hqn hqk => ?_) (fun _ _ hq _ _ => hq.elim)
          obtain ⟨rfl, rfl⟩ := hq
          show V _ _ _ _ _ _ _ _ (.int _ :: _)
          refine V.goto 156 dX13_next_152 (by decide) ?_
          refine V.istore dX13_next_156 (by decide) ?_
          refine V.aload_n dX13_next_158 rfl ?_
          refine V.iload_n dX13_next_159 rfl ?_
          refine V.iconst (1) dX13_next_160 (by decide) ?_
          refine V.icmp_neN (j) (1) rfl rfl (by omega) (by omega) 168 dX13_next_161 (by decide) (fun c161 => ?_) (fun c161 => ?_)
          · refine V.iload dX13_next_168 rfl ?_
            refine V.if_ge 177 dX13_next_170 (by decide) (fun c170 => ?_) (fun c170 => ?_)
            · refine V.bipush (10) dX13_next_177 (by decide) ?_
              refine V.iload dX13_next_179 rfl ?_
              refine V.iadd dX13_next_181 ?_
              refine V.putIk fl_X13_209 hms1.1 dX13_next_182 rfl rfl rfl (fun h4 eh4 => ?_)
              have hfr4 := hfr1.pI eh4 ⟨rfl, by decide, by decide⟩
              have hms4 := hms.fr hfr4
              have fI_0_3h4 := hI_pk eh4 (by decide) fI_0_3h1
              have fI_0_5h4 := hI_pk eh4 (by decide) fI_0_5h1
              have fI_0_6h4 := hI_pk eh4 (by decide) fI_0_6h1
              have fI_0_4h4 := hI_ps eh4
              refine V.goto 320 dX13_next_185 (by decide) ?_
              exact V.vreturn dX13_next_320 rfl (⟨rfl, hfr4, by rw [fI_0_4h4, hC, if_neg c161, ← nx_wd (by omega) c145 hal hv, if_pos c170], by rw [hse]; exact fI_0_5h4, by rw [hE]; exact fI_0_3h4, fun q => absurd q (by rw [hC, if_neg c161]; omega), fun _ => by rw [fI_0_6h4]; unfold tLt; rw [hse], fun q => absurd q (by rw [hC, if_neg c161]; omega)⟩)
            · refine V.iconst (1) dX13_next_173 (by decide) ?_
              refine V.goto 182 dX13_next_174 (by decide) ?_
              refine V.putIk fl_X13_209 hms1.1 dX13_next_182 rfl rfl rfl (fun h5 eh5 => ?_)
              have hfr5 := hfr1.pI eh5 ⟨rfl, by decide, by decide⟩
              have hms5 := hms.fr hfr5
              have fI_0_3h5 := hI_pk eh5 (by decide) fI_0_3h1
              have fI_0_5h5 := hI_pk eh5 (by decide) fI_0_5h1
              have fI_0_6h5 := hI_pk eh5 (by decide) fI_0_6h1
              have fI_0_4h5 := hI_ps eh5
              refine V.goto 320 dX13_next_185 (by decide) ?_
              exact V.vreturn dX13_next_320 rfl (⟨rfl, hfr5, by rw [fI_0_4h5, hC, if_neg c161, ← nx_wd (by omega) c145 hal hv, if_neg c170], by rw [hse]; exact fI_0_5h5, by rw [hE]; exact fI_0_3h5, fun q => absurd q (by rw [hC, if_neg c161]; omega), fun _ => by rw [fI_0_6h5]; unfold tLt; rw [hse], fun q => absurd q (by rw [hC, if_neg c161]; omega)⟩)
          · refine V.iconst (2) dX13_next_164 (by decide) ?_
            refine V.goto 182 dX13_next_165 (by decide) ?_
            refine V.putIk fl_X13_209 hms1.1 dX13_next_182 rfl rfl rfl (fun h6 eh6 => ?_)
            have hfr6 := hfr1.pI eh6 ⟨rfl, by decide, by decide⟩
            have hms6 := hms.fr hfr6
            have fI_0_3h6 := hI_pk eh6 (by decide) fI_0_3h1
            have fI_0_5h6 := hI_pk eh6 (by decide) fI_0_5h1
            have fI_0_6h6 := hI_pk eh6 (by decide) fI_0_6h1
            have fI_0_4h6 := hI_ps eh6
            refine V.goto 320 dX13_next_185 (by decide) ?_
            exact V.vreturn dX13_next_320 rfl (⟨rfl, hfr6, by rw [fI_0_4h6, hC, if_pos c161]; rfl, by rw [hse]; exact fI_0_5h6, by rw [hE]; exact fI_0_3h6, fun q => absurd q (by rw [hC, if_pos c161]; omega), fun _ => by rw [fI_0_6h6]; unfold tLt; rw [hse], fun q => absurd q (by rw [hC, if_pos c161]; omega)⟩)
      · have hlt : s + (j + 1) ≤ scan isLt b n s := by
          rcases Nat.lt_or_ge (s + j) (scan isLt b n s) with q | q
          · omega
          · exact absurd (show s + j < n ∧ isLt (b (s + j)) = true from c90) (by rw [show s + j = scan isLt b n s by omega]; exact scan_end)
        refine V.iload_n dX13_next_93 rfl ?_
        refine V.bipush (7) dX13_next_94 (by decide) ?_
        refine V.icmp_geN (j) (7) rfl rfl (by omega) (by omega) 116 dX13_next_96 (by decide) (fun c96 => ?_) (fun c96 => ?_)
        · refine V.lload_n dX13_next_116 rfl ?_
          refine V.lstore_n dX13_next_117 (by decide) ?_
          refine V.iincN (j) 1 dX13_next_118 rfl rfl (by decide) (by decide) ?_
          refine V.aload_n dX13_next_121 rfl ?_
          refine V.dup dX13_next_122 rfl ?_
          refine V.getIe fl_X13_199 hms0.1 f3 dX13_next_123 rfl ?_
          refine V.iconst (1) dX13_next_126 (by decide) ?_
          refine V.iaddN ((s + j)) (1) rfl rfl dX13_next_127 ?_
          refine V.putIk fl_X13_199 hms0.1 dX13_next_128 rfl rfl rfl (fun h7 eh7 => ?_)
          have hfr7 := hfr0.pI eh7 ⟨rfl, by decide, by decide⟩
          have hms7 := hms.fr hfr7
          have fI_0_5h7 := hI_pk eh7 (by decide) f5
          have fI_0_3h7 := hI_ps eh7
          refine V.goto 79 dX13_next_131 (by decide) ?_
          exact ih (j + 1) _ _ (by omega) hlt (by rw [show min (j + 1) 7 = 7 by omega, hv, show min j 7 = 7 by omega]) hfr7 (by rw [fI_0_3h7, Nat.add_assoc]) fI_0_5h7
        · refine V.lload_n dX13_next_99 rfl ?_
          refine V.bipush (8) dX13_next_100 (by decide) ?_
          refine V.lshl dX13_next_102 ?_
          refine V.aload_n dX13_next_103 rfl ?_
          refine V.aload_n dX13_next_104 rfl ?_
          refine V.getIe fl_X13_199 hms0.1 f3 dX13_next_105 rfl ?_
          refine V.callV (m_byteAt (d := 0) hms0 (ht.fr hfr0 nP2 nP1) ((s + j)) (by omega)) mv_X13_202 ok_Y13_byteAt hms0.1 rfl rfl (by decide) (Nat.le_of_ble_eq_true rfl) dX13_next_108 rfl (fun rv u hq hqn hqk => ?_) (fun _ _ hq _ _ => hq.elim)
          obtain ⟨rfl, rfl⟩ := hq
          show V _ _ _ _ _ _ _ _ (.int _ :: _)
          refine V.i2l dX13_next_111 ?_
          refine V.lor dX13_next_112 ?_
          refine V.goto 117 dX13_next_113 (by decide) ?_
          refine V.lstore_n dX13_next_117 (by decide) ?_
          refine V.iincN (j) 1 dX13_next_118 rfl rfl (by decide) (by decide) ?_
          refine V.aload_n dX13_next_121 rfl ?_
          refine V.dup dX13_next_122 rfl ?_
          refine V.getIe fl_X13_199 hms0.1 f3 dX13_next_123 rfl ?_
          refine V.iconst (1) dX13_next_126 (by decide) ?_
          refine V.iaddN ((s + j)) (1) rfl rfl dX13_next_127 ?_
          refine V.putIk fl_X13_199 hms0.1 dX13_next_128 rfl rfl rfl (fun h8 eh8 => ?_)
          have hfr8 := hfr0.pI eh8 ⟨rfl, by decide, by decide⟩
          have hms8 := hms.fr hfr8
          have fI_0_5h8 := hI_pk eh8 (by decide) f5
          have fI_0_3h8 := hI_ps eh8
          refine V.goto 79 dX13_next_131 (by decide) ?_
          exact ih (j + 1) _ _ (by omega) hlt (by rw [show min (j + 1) 7 = j + 1 by omega, hv, show min j 7 = j by omega, bt_in c90.1]; exact nx_pk (by omega) (fun i hi => by have := scan_in (f := isLt) (b := b) (n := n) (p := s) (q := s + i) (by omega) (by omega); exact hb _ this.1)) hfr8 (by rw [fI_0_3h8, Nat.add_assoc]) fI_0_5h8
  have L202 : isLt (b s) = false → isDg (b s) = true → s < n → ∀ (k j : Nat) (h0 : xH), scan isDg b n s - (s + j) < k → s + j ≤ scan isDg b n s → hL h0 m 7 = lN (dgn b s (min j 9)) → Fr (nxP m) h h0 → hI h0 m 3 = nI (s + j) → hI h0 m 5 = nI s → V G Y13_next 1 (xVoid (fun u => Fr (nxP m) h u ∧ MT u m b n p)) X h0 202 [some (.ref m), some (.int (nI (b s))), some (.int (nI j)), none, none, none] [] := by
    intro hNL hL hsn k
    have he1 := scan_le (f := isDg) (b := b) (p := s) (Nat.le_of_lt hsn)
    induction k with
    | zero => intro j h0 hk; omega
    | succ k ih =>
      intro j h0 hk hj f7 hfr0 f3 f5
      have hms0 := hms.fr hfr0
      refine V.aload_n dX13_next_202 rfl ?_
      refine V.aload_n dX13_next_203 rfl ?_
      refine V.getIe fl_X13_199 hms0.1 f3 dX13_next_204 rfl ?_
      refine V.callV (m_byteAt (d := 0) hms0 (ht.fr hfr0 nP2 nP1) ((s + j)) (by omega)) mv_X13_202 ok_Y13_byteAt hms0.1 rfl rfl (by decide) (Nat.le_of_ble_eq_true rfl) dX13_next_207 rfl (fun rv u hq hqn hqk => ?_) (fun _ _ hq _ _ => hq.elim)
      obtain ⟨rfl, rfl⟩ := hq
      show V _ _ _ _ _ _ _ _ (.int _ :: _)
      refine V.callS (m_isFigureB (d := 0) hb (s + j)) ms_X13_223 ok_Y13_isFigure rfl rfl (by decide) (Nat.le_of_ble_eq_true rfl) dX13_next_210 rfl (fun rv u hq hqn hqk => ?_) (fun _ _ hq _ _ => hq.elim)
      obtain ⟨rfl, rfl⟩ := hq
      show V _ _ _ _ _ _ _ _ (.int _ :: _)
      refine V.if_eqB 271 dX13_next_213 (by decide) (fun c213 => ?_) (fun c213 => ?_)
      · have hje : s + j = scan isDg b n s := by
          rcases Nat.lt_or_ge (s + j) (scan isDg b n s) with q | q
          · exact absurd (scan_in (by omega) q) c213
          · omega
        have hC : tC b n p = if j ≤ 9 then 3 else 1 := by
          unfold tC
          rw [hse, if_neg (by omega), if_neg (by rw [hNL]; decide), if_pos hL, show scan isDg b n s - s = j by omega]
        have hE : tE b n p = s + j := by
          unfold tE
          rw [hse, if_neg (by omega), if_neg (by rw [hNL]; decide), if_pos hL, hje]
        refine V.aload_n dX13_next_271 rfl ?_
        refine V.iload_n dX13_next_272 rfl ?_
        refine V.bipush (9) dX13_next_273 (by decide) ?_
        refine V.icmp_leN (j) (9) rfl rfl (by omega) (by omega) 282 dX13_next_275 (by decide) (fun c275 => ?_) (fun c275 => ?_)
        · refine V.iconst (3) dX13_next_282 (by decide) ?_
          refine V.putIk fl_X13_209 hms0.1 dX13_next_283 rfl rfl rfl (fun h1 eh1 => ?_)
          have hfr1 := hfr0.pI eh1 ⟨rfl, by decide, by decide⟩
          have hms1 := hms.fr hfr1
          have fI_0_3h1 := hI_pk eh1 (by decide) f3
          have fI_0_5h1 := hI_pk eh1 (by decide) f5
          have fL_0_7h1 := hL_pI eh1 f7
          have fI_0_4h1 := hI_ps eh1
          refine V.goto 320 dX13_next_286 (by decide) ?_
          exact V.vreturn dX13_next_320 rfl (⟨rfl, hfr1, by rw [fI_0_4h1, hC, if_pos c275]; rfl, by rw [hse]; exact fI_0_5h1, by rw [hE]; exact fI_0_3h1, fun q => absurd q (by rw [hC, if_pos c275]; omega), fun q => absurd q (by rw [hC, if_pos c275]; omega), fun _ => by rw [fL_0_7h1, show min j 9 = j by omega]; unfold tNm; rw [hE, hse, Nat.add_sub_cancel_left]⟩)
        · refine V.iconst (1) dX13_next_278 (by decide) ?_
          refine V.goto 283 dX13_next_279 (by decide) ?_
          refine V.putIk fl_X13_209 hms0.1 dX13_next_283 rfl rfl rfl (fun h2 eh2 => ?_)
          have hfr2 := hfr0.pI eh2 ⟨rfl, by decide, by decide⟩
          have hms2 := hms.fr hfr2
          have fI_0_3h2 := hI_pk eh2 (by decide) f3
          have fI_0_5h2 := hI_pk eh2 (by decide) f5
          have fL_0_7h2 := hL_pI eh2 f7
          have fI_0_4h2 := hI_ps eh2
          refine V.goto 320 dX13_next_286 (by decide) ?_
          exact V.vreturn dX13_next_320 rfl (⟨rfl, hfr2, by rw [fI_0_4h2, hC, if_neg (Nat.not_le.mpr c275)]; rfl, by rw [hse]; exact fI_0_5h2, by rw [hE]; exact fI_0_3h2, fun q => absurd q (by rw [hC, if_neg (Nat.not_le.mpr c275)]; omega), fun q => absurd q (by rw [hC, if_neg (Nat.not_le.mpr c275)]; omega), fun q => absurd q (by rw [hC, if_neg (Nat.not_le.mpr c275)]; omega)⟩)
      · have hlt : s + (j + 1) ≤ scan isDg b n s := by
          rcases Nat.lt_or_ge (s + j) (scan isDg b n s) with q | q
          · omega
          · exact absurd (show s + j < n ∧ isDg (b (s + j)) = true from c213) (by rw [show s + j = scan isDg b n s by omega]; exact scan_end)
        have hdj : 48 ≤ b (s + j) ∧ b (s + j) ≤ 57 := by
          have := c213.2
          simpa [isDg] using this
        refine V.aload_n dX13_next_216 rfl ?_
        refine V.iload_n dX13_next_217 rfl ?_
        refine V.bipush (9) dX13_next_218 (by decide) ?_
        refine V.icmp_geN (j) (9) rfl rfl (by omega) (by omega) 248 dX13_next_220 (by decide) (fun c220 => ?_) (fun c220 => ?_)
        · refine V.aload_n dX13_next_248 rfl ?_
          refine V.getLe fl_X13_226 hms0.1 f7 dX13_next_249 rfl ?_
          refine V.putLk fl_X13_226 hms0.1 dX13_next_252 (fun h3 eh3 => ?_)
          have hfr3 := hfr0.pL eh3 ⟨rfl, by decide, by decide⟩
          have hms3 := hms.fr hfr3
          have fI_0_3h3 := hI_pL eh3 f3
          have fI_0_5h3 := hI_pL eh3 f5
          have fL_0_7h3 := hL_ps eh3
          refine V.iincN (j) 1 dX13_next_255 rfl rfl (by decide) (by decide) ?_
          refine V.aload_n dX13_next_258 rfl ?_
          refine V.dup dX13_next_259 rfl ?_
          refine V.getIe fl_X13_199 hms3.1 fI_0_3h3 dX13_next_260 rfl ?_
          refine V.iconst (1) dX13_next_263 (by decide) ?_
          refine V.iaddN ((s + j)) (1) rfl rfl dX13_next_264 ?_
          refine V.putIk fl_X13_199 hms3.1 dX13_next_265 rfl rfl rfl (fun h4 eh4 => ?_)
          have hfr4 := hfr3.pI eh4 ⟨rfl, by decide, by decide⟩
          have hms4 := hms.fr hfr4
          have fI_0_5h4 := hI_pk eh4 (by decide) fI_0_5h3
          have fL_0_7h4 := hL_pI eh4 fL_0_7h3
          have fI_0_3h4 := hI_ps eh4
          refine V.goto 202 dX13_next_268 (by decide) ?_
          exact ih (j + 1) _ (by omega) hlt (by rw [fL_0_7h4, show min (j + 1) 9 = 9 by omega, show min j 9 = 9 by omega]) hfr4 (by rw [fI_0_3h4, Nat.add_assoc]) fI_0_5h4
        · refine V.ldc2 q1421 dX13_next_223 ?_
          refine V.aload_n dX13_next_226 rfl ?_
          refine V.getLe fl_X13_226 hms0.1 f7 dX13_next_227 rfl ?_
          refine V.lmul dX13_next_230 ?_
          refine V.aload_n dX13_next_231 rfl ?_
          refine V.aload_n dX13_next_232 rfl ?_
          refine V.getIe fl_X13_199 hms0.1 f3 dX13_next_233 rfl ?_
          refine V.callV (m_byteAt (d := 0) hms0 (ht.fr hfr0 nP2 nP1) ((s + j)) (by omega)) mv_X13_202 ok_Y13_byteAt hms0.1 rfl rfl (by decide) (Nat.le_of_ble_eq_true rfl) dX13_next_236 rfl (fun rv u hq hqn hqk => ?_) (fun _ _ hq _ _ => hq.elim)
          obtain ⟨rfl, rfl⟩ := hq
          show V _ _ _ _ _ _ _ _ (.int _ :: _)
          refine V.i2l dX13_next_239 ?_
          refine V.ladd dX13_next_240 ?_
          refine V.ldc2 q1422 dX13_next_241 ?_
          refine V.lsub dX13_next_244 ?_
          refine V.goto 252 dX13_next_245 (by decide) ?_
          refine V.putLk fl_X13_226 hms0.1 dX13_next_252 (fun h5 eh5 => ?_)
          have hfr5 := hfr0.pL eh5 ⟨rfl, by decide, by decide⟩
          have hms5 := hms.fr hfr5
          have fI_0_3h5 := hI_pL eh5 f3
          have fI_0_5h5 := hI_pL eh5 f5
          have fL_0_7h5 := hL_ps eh5
          refine V.iincN (j) 1 dX13_next_255 rfl rfl (by decide) (by decide) ?_
          refine V.aload_n dX13_next_258 rfl ?_
          refine V.dup dX13_next_259 rfl ?_
          refine V.getIe fl_X13_199 hms5.1 fI_0_3h5 dX13_next_260 rfl ?_
          refine V.iconst (1) dX13_next_263 (by decide) ?_
          refine V.iaddN ((s + j)) (1) rfl rfl dX13_next_264 ?_
          refine V.putIk fl_X13_199 hms5.1 dX13_next_265 rfl rfl rfl (fun h6 eh6 => ?_)
          have hfr6 := hfr5.pI eh6 ⟨rfl, by decide, by decide⟩
          have hms6 := hms.fr hfr6
          have fI_0_5h6 := hI_pk eh6 (by decide) fI_0_5h5
          have fL_0_7h6 := hL_pI eh6 fL_0_7h5
          have fI_0_3h6 := hI_ps eh6
          refine V.goto 202 dX13_next_268 (by decide) ?_
          exact ih (j + 1) _ (by omega) hlt (by rw [fL_0_7h6, show min (j + 1) 9 = j + 1 by omega, show min j 9 = j by omega, bt_in c213.1]; exact nx_dg hdj) hfr6 (by rw [fI_0_3h6, Nat.add_assoc]) fI_0_5h6
  have E39 : ∀ h0 : xH, Fr (nxP m) h h0 → hI h0 m 3 = nI s → V G Y13_next 1 (xVoid (fun u => Fr (nxP m) h u ∧ MT u m b n p)) X h0 39 [some (.ref m), none, none, none, none, none] [] := by
    intro h0 hfr0 f3
    have hms0 := hms.fr hfr0
    refine V.aload_n dX13_next_39 rfl ?_
    refine V.aload_n dX13_next_40 rfl ?_
    refine V.getIe fl_X13_199 hms0.1 f3 dX13_next_41 rfl ?_
    refine V.putIk fl_X13_206 hms0.1 dX13_next_44 rfl rfl rfl (fun h1 eh1 => ?_)
    have hfr1 := hfr0.pI eh1 ⟨rfl, by decide, by decide⟩
    have hms1 := hms.fr hfr1
    have fI_0_3h1 := hI_pk eh1 (by decide) f3
    have fI_0_5h1 := hI_ps eh1
    refine V.aload_n dX13_next_47 rfl ?_
    refine V.aload_n dX13_next_48 rfl ?_
    refine V.getIe fl_X13_199 hms1.1 fI_0_3h1 dX13_next_49 rfl ?_
    refine V.callV (m_byteAt (d := 0) hms1 (ht.fr hfr1 nP2 nP1) (s) (by omega)) mv_X13_202 ok_Y13_byteAt hms1.1 rfl rfl (by decide) (Nat.le_of_ble_eq_true rfl) dX13_next_52 rfl (fun rv u hq hqn hqk => ?_) (fun _ _ hq _ _ => hq.elim)
    obtain ⟨rfl, rfl⟩ := hq
    show V _ _ _ _ _ _ _ _ (.int _ :: _)
    refine V.istore_n dX13_next_55 (by decide) ?_
    refine V.iload_n dX13_next_56 rfl ?_
    refine V.if_ge 68 dX13_next_57 (by decide) (fun c57 => ?_) (fun c57 => ?_)
    · have hsn : s < n := (bt_neg hb).mp c57
      refine V.iload_n dX13_next_68 rfl ?_
      refine V.callS (m_isSmallB (d := 0) hb s) ms_X13_212 ok_Y13_isSmall rfl rfl (by decide) (Nat.le_of_ble_eq_true rfl) dX13_next_69 rfl (fun rv u hq hqn hqk => ?_) (fun _ _ hq _ _ => hq.elim)
      obtain ⟨rfl, rfl⟩ := hq
      show V _ _ _ _ _ _ _ _ (.int _ :: _)
      refine V.if_eqB 188 dX13_next_72 (by decide) (fun c72 => ?_) (fun c72 => ?_)
      · have hNL : isLt (b s) = false := by
          cases hq : isLt (b s) with
          | false => rfl
          | true => exact absurd ⟨hsn, hq⟩ c72
        refine V.iload_n dX13_next_188 rfl ?_
        refine V.callS (m_isFigureB (d := 0) hb s) ms_X13_223 ok_Y13_isFigure rfl rfl (by decide) (Nat.le_of_ble_eq_true rfl) dX13_next_189 rfl (fun rv u hq hqn hqk => ?_) (fun _ _ hq _ _ => hq.elim)
        obtain ⟨rfl, rfl⟩ := hq
        show V _ _ _ _ _ _ _ _ (.int _ :: _)
        refine V.if_eqB 289 dX13_next_192 (by decide) (fun c192 => ?_) (fun c192 => ?_)
        · have hND : isDg (b s) = false := by
            cases hq : isDg (b s) with
            | false => rfl
            | true => exact absurd ⟨hsn, hq⟩ c192
          have hE : tE b n p = s + 1 := by
            unfold tE
            rw [hse, if_neg (by omega), if_neg (by rw [hNL]; decide), if_neg (by rw [hND]; decide)]
          have hC : tC b n p = if isSg (b s) = true then 100 + b s else 1 := by
            unfold tC
            rw [hse, if_neg (by omega), if_neg (by rw [hNL]; decide), if_neg (by rw [hND]; decide)]
          have hb1 := bt_in (b := b) hsn
          have hbs := hb s hsn
          refine V.aload_n dX13_next_289 rfl ?_
          refine V.iload_n dX13_next_290 rfl ?_
          refine V.putIk fl_X13_234 hms1.1 dX13_next_291 rfl rfl rfl (fun h2 eh2 => ?_)
          have hfr2 := hfr1.pI eh2 ⟨rfl, by decide, by decide⟩
          have hms2 := hms.fr hfr2
          have fI_0_3h2 := hI_pk eh2 (by decide) fI_0_3h1
          have fI_0_5h2 := hI_pk eh2 (by decide) fI_0_5h1
          have fI_0_8h2 := hI_ps eh2
          rw [hb1]
          refine V.aload_n dX13_next_294 rfl ?_
          refine V.iload_n dX13_next_295 rfl ?_
          refine V.callS (m_isSignByte (d := 0) (b s) (hb s hsn)) ms_X13_237 ok_Y13_isSignByte rfl rfl (by decide) (Nat.le_of_ble_eq_true rfl) dX13_next_296 rfl (fun rv u hq hqn hqk => ?_) (fun _ _ hq _ _ => hq.elim)
          obtain ⟨rfl, rfl⟩ := hq
          show V _ _ _ _ _ _ _ _ (.int _ :: _)
          refine V.if_eqB 306 dX13_next_299 (by decide) (fun c299 => ?_) (fun c299 => ?_)
          · refine V.iconst (1) dX13_next_306 (by decide) ?_
            refine V.putIk fl_X13_209 hms2.1 dX13_next_307 rfl rfl rfl (fun h3 eh3 => ?_)
            have hfr3 := hfr2.pI eh3 ⟨rfl, by decide, by decide⟩
            have hms3 := hms.fr hfr3
            have fI_0_3h3 := hI_pk eh3 (by decide) fI_0_3h2
            have fI_0_5h3 := hI_pk eh3 (by decide) fI_0_5h2
            have fI_0_8h3 := hI_pk eh3 (by decide) fI_0_8h2
            have fI_0_4h3 := hI_ps eh3
            refine V.aload_n dX13_next_310 rfl ?_
            refine V.dup dX13_next_311 rfl ?_
            refine V.getIe fl_X13_199 hms3.1 fI_0_3h3 dX13_next_312 rfl ?_
            refine V.iconst (1) dX13_next_315 (by decide) ?_
            refine V.iaddN (s) (1) rfl rfl dX13_next_316 ?_
            refine V.putIk fl_X13_199 hms3.1 dX13_next_317 rfl rfl rfl (fun h4 eh4 => ?_)
            have hfr4 := hfr3.pI eh4 ⟨rfl, by decide, by decide⟩
            have hms4 := hms.fr hfr4
            have fI_0_5h4 := hI_pk eh4 (by decide) fI_0_5h3
            have fI_0_8h4 := hI_pk eh4 (by decide) fI_0_8h3
            have fI_0_4h4 := hI_pk eh4 (by decide) fI_0_4h3
            have fI_0_3h4 := hI_ps eh4
            exact V.vreturn dX13_next_320 rfl (⟨rfl, hfr4, by rw [fI_0_4h4, hC, if_neg c299]; rfl, by rw [hse]; exact fI_0_5h4, by rw [hE]; exact fI_0_3h4, fun q => absurd q (by rw [hC, if_neg c299]; omega), fun q => absurd q (by rw [hC, if_neg c299]; omega), fun q => absurd q (by rw [hC, if_neg c299]; omega)⟩)
          · refine V.iconst (4) dX13_next_302 (by decide) ?_
            refine V.goto 307 dX13_next_303 (by decide) ?_
            refine V.putIk fl_X13_209 hms2.1 dX13_next_307 rfl rfl rfl (fun h5 eh5 => ?_)
            have hfr5 := hfr2.pI eh5 ⟨rfl, by decide, by decide⟩
            have hms5 := hms.fr hfr5
            have fI_0_3h5 := hI_pk eh5 (by decide) fI_0_3h2
            have fI_0_5h5 := hI_pk eh5 (by decide) fI_0_5h2
            have fI_0_8h5 := hI_pk eh5 (by decide) fI_0_8h2
            have fI_0_4h5 := hI_ps eh5
            refine V.aload_n dX13_next_310 rfl ?_
            refine V.dup dX13_next_311 rfl ?_
            refine V.getIe fl_X13_199 hms5.1 fI_0_3h5 dX13_next_312 rfl ?_
            refine V.iconst (1) dX13_next_315 (by decide) ?_
            refine V.iaddN (s) (1) rfl rfl dX13_next_316 ?_
            refine V.putIk fl_X13_199 hms5.1 dX13_next_317 rfl rfl rfl (fun h6 eh6 => ?_)
            have hfr6 := hfr5.pI eh6 ⟨rfl, by decide, by decide⟩
            have hms6 := hms.fr hfr6
            have fI_0_5h6 := hI_pk eh6 (by decide) fI_0_5h5
            have fI_0_8h6 := hI_pk eh6 (by decide) fI_0_8h5
            have fI_0_4h6 := hI_pk eh6 (by decide) fI_0_4h5
            have fI_0_3h6 := hI_ps eh6
            exact V.vreturn dX13_next_320 rfl (⟨rfl, hfr6, by rw [fI_0_4h6, hC, if_pos c299, mtk, if_pos (by omega)]; rfl, by rw [hse]; exact fI_0_5h6, by rw [hE]; exact fI_0_3h6, fun _ => by rw [fI_0_8h6, hC, if_pos c299, Nat.add_sub_cancel_left]; exact hb1, fun q => absurd q (by rw [hC, if_pos c299]; omega), fun q => absurd q (by rw [hC, if_pos c299]; omega)⟩)
        · refine V.iconst (0) dX13_next_195 (by decide) ?_
          refine V.istore_n dX13_next_196 (by decide) ?_
          refine V.aload_n dX13_next_197 rfl ?_
          refine V.lconst 0 dX13_next_198 (by decide) ?_
          refine V.putLk fl_X13_226 hms1.1 dX13_next_199 (fun h7 eh7 => ?_)
          have hfr7 := hfr1.pL eh7 ⟨rfl, by decide, by decide⟩
          have hms7 := hms.fr hfr7
          have fI_0_3h7 := hI_pL eh7 fI_0_3h1
          have fI_0_5h7 := hI_pL eh7 fI_0_5h1
          have fL_0_7h7 := hL_ps eh7
          exact (by have := L202 hNL c192.2 hsn (n + 1) 0 _ (by have := scan_le (f := isDg) (b := b) (p := s) (Nat.le_of_lt hsn); omega) scan_ge fL_0_7h7 hfr7 (fI_0_3h7) fI_0_5h7; rw [bt_in hsn]; exact this)
      · refine V.iconst (0) dX13_next_75 (by decide) ?_
        refine V.istore_n dX13_next_76 (by decide) ?_
        refine V.lconst 0 dX13_next_77 (by decide) ?_
        refine V.lstore_n dX13_next_78 (by decide) ?_
        exact (by have := L79 c72.2 hsn (n + 1) 0 0 _ (by have := scan_le (f := isLt) (b := b) (p := s) (Nat.le_of_lt hsn); omega) scan_ge rfl hfr1 (fI_0_3h1) fI_0_5h1; rw [bt_in hsn]; exact this)
    · have hsn : ¬ s < n := fun q => c57 ((bt_neg hb).mpr q)
      refine V.aload_n dX13_next_60 rfl ?_
      refine V.iconst (0) dX13_next_61 (by decide) ?_
      refine V.putIk fl_X13_209 hms1.1 dX13_next_62 rfl rfl rfl (fun h8 eh8 => ?_)
      have hfr8 := hfr1.pI eh8 ⟨rfl, by decide, by decide⟩
      have hms8 := hms.fr hfr8
      have fI_0_3h8 := hI_pk eh8 (by decide) fI_0_3h1
      have fI_0_5h8 := hI_pk eh8 (by decide) fI_0_5h1
      have fI_0_4h8 := hI_ps eh8
      refine V.goto 320 dX13_next_65 (by decide) ?_
      exact V.vreturn dX13_next_320 rfl (⟨rfl, hfr8, by rw [fI_0_4h8, tC_0.mpr (by rw [hse]; omega)]; rfl, by rw [hse]; exact fI_0_5h8, by unfold tE; rw [hse, if_pos (by omega)]; exact fI_0_3h8, fun q => absurd q (by rw [tC_0.mpr (by rw [hse]; omega)]; omega), fun q => absurd q (by rw [tC_0.mpr (by rw [hse]; omega)]; omega), fun q => absurd q (by rw [tC_0.mpr (by rw [hse]; omega)]; omega)⟩)
  have L0 : ∀ (k q : Nat) (h0 : xH), n - q < k → q ≤ n → scan isWs b n q = s → Fr (nxP m) h h0 → hI h0 m 3 = nI q → V G Y13_next 1 (xVoid (fun u => Fr (nxP m) h u ∧ MT u m b n p)) X h0 0 [some (.ref m), none, none, none, none, none] [] := by
    intro k
    induction k with
    | zero => intro q h0 hk; omega
    | succ k ih =>
      intro q h0 hk hq hsc hfr0 f3
      have hms0 := hms.fr hfr0
      refine V.aload_n dX13_next_0 rfl ?_
      refine V.aload_n dX13_next_1 rfl ?_
      refine V.getIe fl_X13_199 hms0.1 f3 dX13_next_2 rfl ?_
      refine V.callV (m_byteAt (d := 0) hms0 (ht.fr hfr0 nP2 nP1) (q) (by omega)) mv_X13_202 ok_Y13_byteAt hms0.1 rfl rfl (by decide) (Nat.le_of_ble_eq_true rfl) dX13_next_5 rfl (fun rv u hq hqn hqk => ?_) (fun _ _ hq _ _ => hq.elim)
      obtain ⟨rfl, rfl⟩ := hq
      show V _ _ _ _ _ _ _ _ (.int _ :: _)
      refine V.bipush (32) dX13_next_8 (by decide) ?_
      refine V.icmp_eq 26 dX13_next_10 (by decide) (fun c10 => ?_) (fun c10 => ?_)
      · have hw : q < n ∧ isWs (b q) = true := by
          have z := (bt_eq (c := 32) hb (by omega)).mp c10
          exact ⟨z.1, by simp [isWs, z.2]⟩
        refine V.aload_n dX13_next_26 rfl ?_
        refine V.dup dX13_next_27 rfl ?_
        refine V.getIe fl_X13_199 hms0.1 f3 dX13_next_28 rfl ?_
        refine V.iconst (1) dX13_next_31 (by decide) ?_
        refine V.iaddN (q) (1) rfl rfl dX13_next_32 ?_
        refine V.putIk fl_X13_199 hms0.1 dX13_next_33 rfl rfl rfl (fun h1 eh1 => ?_)
        have hfr1 := hfr0.pI eh1 ⟨rfl, by decide, by decide⟩
        have hms1 := hms.fr hfr1
        have fI_0_3h1 := hI_ps eh1
        refine V.goto 0 dX13_next_36 (by decide) ?_
        exact ih (q + 1) _ (by omega) (by omega) (by rw [← hsc]; exact (scan_go hw.1 hw.2).symm) hfr1 fI_0_3h1
      · refine V.aload_n dX13_next_13 rfl ?_
        refine V.aload_n dX13_next_14 rfl ?_
        refine V.getIe fl_X13_199 hms0.1 f3 dX13_next_15 rfl ?_
        refine V.callV (m_byteAt (d := 0) hms0 (ht.fr hfr0 nP2 nP1) (q) (by omega)) mv_X13_202 ok_Y13_byteAt hms0.1 rfl rfl (by decide) (Nat.le_of_ble_eq_true rfl) dX13_next_18 rfl (fun rv u hq hqn hqk => ?_) (fun _ _ hq _ _ => hq.elim)
        obtain ⟨rfl, rfl⟩ := hq
        show V _ _ _ _ _ _ _ _ (.int _ :: _)
        refine V.bipush (10) dX13_next_21 (by decide) ?_
        refine V.icmp_ne 39 dX13_next_23 (by decide) (fun c23 => ?_) (fun c23 => ?_)
        · exact E39 _ hfr0 (by rw [f3, ← hsc, scan_stop (f := isWs) (fun z => by have z2 := z.2; simp only [isWs, Bool.or_eq_true, decide_eq_true_eq] at z2; rcases z2 with y | y; exact c10 ((bt_eq (c := 32) hb (by omega)).mpr ⟨z.1, y⟩); exact c23 ((bt_eq (c := 10) hb (by omega)).mpr ⟨z.1, y⟩))])
        · have hw : q < n ∧ isWs (b q) = true := by
            have z := (bt_eq (c := 10) hb (by omega)).mp c23
            exact ⟨z.1, by simp [isWs, z.2]⟩
          refine V.aload_n dX13_next_26 rfl ?_
          refine V.dup dX13_next_27 rfl ?_
          refine V.getIe fl_X13_199 hms0.1 f3 dX13_next_28 rfl ?_
          refine V.iconst (1) dX13_next_31 (by decide) ?_
          refine V.iaddN (q) (1) rfl rfl dX13_next_32 ?_
          refine V.putIk fl_X13_199 hms0.1 dX13_next_33 rfl rfl rfl (fun h2 eh2 => ?_)
          have hfr2 := hfr0.pI eh2 ⟨rfl, by decide, by decide⟩
          have hms2 := hms.fr hfr2
          have fI_0_3h2 := hI_ps eh2
          refine V.goto 0 dX13_next_36 (by decide) ?_
          exact ih (q + 1) _ (by omega) (by omega) (by rw [← hsc]; exact (scan_go hw.1 hw.2).symm) hfr2 fI_0_3h2
  exact L0 (n + 1) p h (by omega) hp hse Fr.rf h3
