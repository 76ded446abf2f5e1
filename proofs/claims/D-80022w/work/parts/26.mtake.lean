/-! the model: take, takeWord, readUnary (rows by a program) -/
set_option maxRecDepth 100000
theorem m_nextR {G : xG} {m n : Nat} {h : xH} {b : Nat → Nat} (hms : MS m (hS h) (hR h)) (ht : TP h m b n) (p : Nat) (hp : p ≤ n) (h3 : hI h m 3 = nI p) : AM G Y13_next 1 h [.ref m] (xVoid (fun u => Fr (rG [(m, 3, 9)]) h u ∧ MT u m b n p)) := by
  refine (m_next hms ht p hp h3).mono (fun v u q => ⟨q.1, q.2.1.mono (fun a k z => ?_), q.2.2⟩) (fun v u q => q)
  simp only [rG, or_false]
  obtain ⟨z1, z2, z3⟩ := z
  omega
theorem mtk_c {b : Nat → Nat} {n p : Nat} (hb : ∀ j, j < n → b j < 256) : (tC b n p < 100 ∧ mtk (tC b n p) = tC b n p ∧ (tC b n p ≤ 3 ∨ (10 ≤ tC b n p ∧ tC b n p ≤ 19))) ∨ (100 < tC b n p ∧ mtk (tC b n p) = 4 ∧ tC b n p < 356) := by
  have := tC_rng (b := b) (n := n) (p := p) hb
  unfold mtk
  split <;> omega
section Est
variable {b : Nat → Nat} {n p u : Nat} {nl : Bool} {P : List Nat} {cs : List Bool} {o : List xAct}
theorem est_bad (h : ¬ ((tC b n p = 145 ∨ tC b n p = 140) ∨ tC b n p = 3 ∨ (tC b n p = 2 ∧ ¬ (nl = true ∧ 16 ≤ tLt b n p))) ∨ u = 60 ∨ ((tC b n p = 145 ∨ tC b n p = 140) ∧ opn P = 8)) : est b n nl (0, p, u, P, cs, o) = (4, p, u, P, cs, o) := by
  unfold est
  simp only
  rw [if_pos trivial]
  by_cases q : tC b n p = 140 ∨ tC b n p = 145
  · rw [if_pos q]
    by_cases q2 : u = 60 ∨ opn P = 8
    · rw [if_pos q2]
    · exfalso
      rcases h with h | h | h
      · exact h (Or.inl (by omega))
      · exact q2 (Or.inl h)
      · exact q2 (Or.inr h.2)
  · rw [if_neg q]
    by_cases q2 : tC b n p = 3 ∨ (tC b n p = 2 ∧ ¬ (nl = true ∧ 16 ≤ tLt b n p))
    · rw [if_pos q2]
      by_cases q3 : u = 60
      · rw [if_pos q3]
      · exfalso
        rcases h with h | h | h
        · exact h (Or.inr q2)
        · exact q3 h
        · omega
    · rw [if_neg q2]
theorem est_par (h : tC b n p = 140) (hu : u ≠ 60) (ho : opn P ≠ 8) : est b n nl (0, p, u, P, cs, o) = (0, tE b n p, u + 1, 40 :: P, false :: cs, o) := by
  unfold est
  simp only
  rw [if_pos trivial, if_pos (Or.inl h), if_neg (by omega), if_pos h]
theorem est_min (h : tC b n p = 145) (hu : u ≠ 60) (ho : opn P ≠ 8) : est b n nl (0, p, u, P, cs, o) = (0, tE b n p, u + 1, 1000 :: P, cs, o) := by
  unfold est
  simp only
  rw [if_pos trivial, if_pos (Or.inr h), if_neg (by omega), if_neg (by omega)]
theorem est_num (h : tC b n p = 3) (hu : u ≠ 60) : est b n nl (0, p, u, P, cs, o) = (2, tE b n p, u + 1, P, cs, o ++ [(1, 0, lN (tNm b n p))]) := by
  unfold est
  simp only
  rw [if_pos trivial, if_neg (by omega), if_pos (Or.inl h), if_neg hu, if_pos h]
theorem est_let (h : tC b n p = 2) (hn : ¬ (nl = true ∧ 16 ≤ tLt b n p)) (hu : u ≠ 60) : est b n nl (0, p, u, P, cs, o) = (2, tE b n p, u + 1, P, cs, o ++ [(2, tLt b n p, 0)]) := by
  unfold est
  simp only
  rw [if_pos trivial, if_neg (by omega), if_pos (Or.inr ⟨h, hn⟩), if_neg hu, if_neg (by omega)]
end Est
/-- an exp that is being read, in the picture: text r, its acts from a0 on -/
def EXs (h : xH) (m : Nat) (b : Nat → Nat) (n r a0 p u : Nat) (P : List Nat) (cs : List Bool) (o : List xAct) : Prop :=
  MT h m b n p ∧ hI h m 28 = nI r ∧ hI h (m + 6) r = nI (a0 + o.length) ∧ AC h m (200 * r + a0) o ∧ hI h m 30 = nI P.length ∧ pl (hI h (m + 18)) P ∧ hI h m 31 = nI (opn P) ∧ hI h m 33 = nI (lvl P) ∧ cm (hI h (m + 19)) cs ∧ hI h (m + 3) r = nI u
theorem lvl_opn : ∀ P : List Nat, lvl P ≤ opn P ∧ P.length = nop P + lvl P := by
  intro P
  induction P with
  | nil => exact ⟨Nat.le_refl _, rfl⟩
  | cons c P ih =>
    simp only [lvl, opn, nop, List.length_cons]
    by_cases q : c = 40
    · simp [q]; omega
    · simp only [if_neg q]
      split <;> omega
theorem mok_le {P : List Nat} (h : mok P) : ∀ c ∈ P, c ≤ 1000 := by
  induction P with
  | nil => intro c hc; cases hc
  | cons a P ih =>
    intro c hc
    rcases List.mem_cons.mp hc with rfl | hc
    · rcases h.1 with q | q | q
      · omega
      · omega
      · have := sgs_op q.1; omega
    · exact ih h.2 c hc
set_option maxHeartbeats 4000000 in
theorem m_take {G : xG} {m n p : Nat} {h : xH} {b : Nat → Nat} (hms : MS m (hS h) (hR h)) (ht : TP h m b n) (mt : MT h m b n p) (hpn : p ≤ n) (hbad : hI h m 9 = nI 0) (c : Nat) (hc : c < 256) : AM G Y13_take (2) h [.ref m, .int (nI c)] (xVoid (fun u => Fr (rG [(m, 3, 11)]) h u ∧ ((tC b n p = 100 + c ∧ hI u m 9 = nI 0 ∧ MT u m b n (tE b n p) ∧ hI u m 10 = hI h m 10) ∨ (tC b n p ≠ 100 + c ∧ hI u m 9 = nI 1 ∧ hI u m 10 = nI (tS b n p) ∧ MT u m b n p)))) := by
  refine AM.of (by decide) (Nat.le_of_ble_eq_true rfl) fun X => ?_
  have hb := ht.2.2.2
  have hE := tE_le (b := b) hpn
  have hfr : Fr (rG [(m, 3, 11)]) h h := Fr.rf
  refine V.aload_n dX13_take_0 rfl ?_
  refine V.iload_n dX13_take_1 rfl ?_
  refine V.callV (m_isSign (d := 0) hms hb mt c hc) mv_X13_244 ok_Y13_isSign hms.1 rfl rfl (by omega) (Nat.le_of_ble_eq_true rfl) dX13_take_2 rfl (fun rv uu hq hqn hqk => ?_) (fun _ _ hq _ _ => hq.elim)
  obtain ⟨rfl, hu⟩ := hq
  rw [hu]
  show V _ _ _ _ _ _ _ _ (.int _ :: _)
  refine V.if_neB 12 dX13_take_5 (by decide) (fun c5 => ?_) (fun c5 => ?_)
  · refine V.aload_n dX13_take_12 rfl ?_
    refine V.getIe fl_X13_240 hms.1 hbad dX13_take_13 rfl ?_
    refine V.if_ne 23 dX13_take_16 (by decide) (fun z => absurd z (by decide)) (fun _ => ?_)
    refine V.aload_n dX13_take_19 rfl ?_
    refine V.callV (m_nextR hms ht (tE b n p) (by omega) mt.2.2.1) mv_X13_250 ok_Y13_next hms.1 rfl rfl (by omega) (Nat.le_of_ble_eq_true rfl) dX13_take_20 rfl (fun rv hh1 hq hqn hqk => ?_) (fun _ _ hq _ _ => hq.elim)
    obtain ⟨rfl, hFhh1, mthh1⟩ := hq
    have hfrh1 := hfr.tr (hFhh1.mono (rG_mc (fun k h1 h2 => (rG_hd (by omega) (by omega))) rG_mn))
    have hmsh1 := hms.fr hfrh1
    have f2 := hFhh1.I (rG_nh (by decide) rG_nn) hbad
    have f3 := hFhh1.I (rG_nh (by decide) rG_nn) (rfl : hI h m 10 = hI h m 10)
    exact V.vreturn dX13_take_23 rfl (⟨rfl, hfrh1, Or.inl ⟨c5, f2, mthh1, f3⟩⟩)
  · refine V.aload_n dX13_take_8 rfl ?_
    refine V.callV (m_misplaced (d := 0) hms mt hbad) mv_X13_247 ok_Y13_misplaced hms.1 rfl rfl (by omega) (Nat.le_of_ble_eq_true rfl) dX13_take_9 rfl (fun rv hh4 hq hqn hqk => ?_) (fun _ _ hq _ _ => hq.elim)
    obtain ⟨rfl, hFhh4, q9hh4, q10hh4⟩ := hq
    have hfrh4 := hfr.tr (hFhh4.mono (rG_mc (fun k h1 h2 => (rG_hd (by omega) (by omega))) rG_mn))
    have hmsh4 := hms.fr hfrh4
    refine V.aload_n dX13_take_12 rfl ?_
    refine V.getIe fl_X13_240 hmsh4.1 q9hh4 dX13_take_13 rfl ?_
    refine V.if_ne 23 dX13_take_16 (by decide) (fun _ => ?_) (fun z => absurd z (by decide))
    have f5 := mt.fr hFhh4 (fun k h1 h2 => (rG_nk (by omega) rG_nn))
    exact V.vreturn dX13_take_23 rfl (⟨rfl, hfrh4, Or.inr ⟨c5, q9hh4, q10hh4, f5⟩⟩)
set_option maxHeartbeats 4000000 in
theorem m_take1 {G : xG} {m n p : Nat} {h : xH} {b : Nat → Nat} (hms : MS m (hS h) (hR h)) (ht : TP h m b n) (mt : MT h m b n p) (hpn : p ≤ n) (hbad : hI h m 9 = nI 1) (c : Nat) (hc : c < 256) : AM G Y13_take (2) h [.ref m, .int (nI c)] (xVoid (fun u => u = h)) := by
  refine AM.of (by decide) (Nat.le_of_ble_eq_true rfl) fun X => ?_
  have hb := ht.2.2.2
  refine V.aload_n dX13_take_0 rfl ?_
  refine V.iload_n dX13_take_1 rfl ?_
  refine V.callV (m_isSign (d := 0) hms hb mt c hc) mv_X13_244 ok_Y13_isSign hms.1 rfl rfl (by omega) (Nat.le_of_ble_eq_true rfl) dX13_take_2 rfl (fun rv uu hq hqn hqk => ?_) (fun _ _ hq _ _ => hq.elim)
  obtain ⟨rfl, hu⟩ := hq
  rw [hu]
  show V _ _ _ _ _ _ _ _ (.int _ :: _)
  refine V.if_neB 12 dX13_take_5 (by decide) (fun c5 => ?_) (fun c5 => ?_)
  · refine V.aload_n dX13_take_12 rfl ?_
    refine V.getIe fl_X13_240 hms.1 hbad dX13_take_13 rfl ?_
    refine V.if_ne 23 dX13_take_16 (by decide) (fun _ => ?_) (fun z => absurd z (by decide))
    exact V.vreturn dX13_take_23 rfl (⟨rfl, rfl⟩)
  · refine V.aload_n dX13_take_8 rfl ?_
    refine V.callV (m_misplaced1 (d := 0) hms hbad) mv_X13_247 ok_Y13_misplaced hms.1 rfl rfl (by omega) (Nat.le_of_ble_eq_true rfl) dX13_take_9 rfl (fun rv uu hq hqn hqk => ?_) (fun _ _ hq _ _ => hq.elim)
    obtain ⟨rfl, hu⟩ := hq
    rw [hu]
    refine V.aload_n dX13_take_12 rfl ?_
    refine V.getIe fl_X13_240 hms.1 hbad dX13_take_13 rfl ?_
    refine V.if_ne 23 dX13_take_16 (by decide) (fun _ => ?_) (fun z => absurd z (by decide))
    exact V.vreturn dX13_take_23 rfl (⟨rfl, rfl⟩)
set_option maxHeartbeats 4000000 in
theorem m_takeWord {G : xG} {m n p : Nat} {h : xH} {b : Nat → Nat} (hms : MS m (hS h) (hR h)) (ht : TP h m b n) (mt : MT h m b n p) (hpn : p ≤ n) (hbad : hI h m 9 = nI 0) (c : Nat) (hc : c < 10) : AM G Y13_takeWord (2) h [.ref m, .int (nI c)] (xVoid (fun u => Fr (rG [(m, 3, 11)]) h u ∧ ((tC b n p = 10 + c ∧ hI u m 9 = nI 0 ∧ MT u m b n (tE b n p) ∧ hI u m 10 = hI h m 10) ∨ (tC b n p ≠ 10 + c ∧ hI u m 9 = nI 1 ∧ hI u m 10 = nI (tS b n p) ∧ MT u m b n p)))) := by
  refine AM.of (by decide) (Nat.le_of_ble_eq_true rfl) fun X => ?_
  have hb := ht.2.2.2
  have hE := tE_le (b := b) hpn
  have hfr : Fr (rG [(m, 3, 11)]) h h := Fr.rf
  have hm := mtk_c (b := b) (n := n) (p := p) hb
  refine V.aload_n dX13_takeWord_0 rfl ?_
  refine V.getIe fl_X13_209 hms.1 mt.1 dX13_takeWord_1 rfl ?_
  refine V.bipush (10) dX13_takeWord_4 (by decide) ?_
  refine V.iload_n dX13_takeWord_6 rfl ?_
  refine V.iaddN (10) (c) rfl rfl dX13_takeWord_7 ?_
  refine V.icmp_eqN (mtk (tC b n p)) (10 + c) rfl rfl (by omega) (by omega) 15 dX13_takeWord_8 (by decide) (fun c8 => ?_) (fun c8 => ?_)
  · refine V.aload_n dX13_takeWord_15 rfl ?_
    refine V.getIe fl_X13_240 hms.1 hbad dX13_takeWord_16 rfl ?_
    refine V.if_ne 26 dX13_takeWord_19 (by decide) (fun z => absurd z (by decide)) (fun _ => ?_)
    refine V.aload_n dX13_takeWord_22 rfl ?_
    refine V.callV (m_nextR hms ht (tE b n p) (by omega) mt.2.2.1) mv_X13_250 ok_Y13_next hms.1 rfl rfl (by omega) (Nat.le_of_ble_eq_true rfl) dX13_takeWord_23 rfl (fun rv hh1 hq hqn hqk => ?_) (fun _ _ hq _ _ => hq.elim)
    obtain ⟨rfl, hFhh1, mthh1⟩ := hq
    have hfrh1 := hfr.tr (hFhh1.mono (rG_mc (fun k h1 h2 => (rG_hd (by omega) (by omega))) rG_mn))
    have hmsh1 := hms.fr hfrh1
    have f2 := hFhh1.I (rG_nh (by decide) rG_nn) hbad
    have f3 := hFhh1.I (rG_nh (by decide) rG_nn) (rfl : hI h m 10 = hI h m 10)
    exact V.vreturn dX13_takeWord_26 rfl (⟨rfl, hfrh1, Or.inl ⟨(by omega), f2, mthh1, f3⟩⟩)
  · refine V.aload_n dX13_takeWord_11 rfl ?_
    refine V.callV (m_misplaced (d := 0) hms mt hbad) mv_X13_247 ok_Y13_misplaced hms.1 rfl rfl (by omega) (Nat.le_of_ble_eq_true rfl) dX13_takeWord_12 rfl (fun rv hh4 hq hqn hqk => ?_) (fun _ _ hq _ _ => hq.elim)
    obtain ⟨rfl, hFhh4, q9hh4, q10hh4⟩ := hq
    have hfrh4 := hfr.tr (hFhh4.mono (rG_mc (fun k h1 h2 => (rG_hd (by omega) (by omega))) rG_mn))
    have hmsh4 := hms.fr hfrh4
    refine V.aload_n dX13_takeWord_15 rfl ?_
    refine V.getIe fl_X13_240 hmsh4.1 q9hh4 dX13_takeWord_16 rfl ?_
    refine V.if_ne 26 dX13_takeWord_19 (by decide) (fun _ => ?_) (fun z => absurd z (by decide))
    have f5 := mt.fr hFhh4 (fun k h1 h2 => (rG_nk (by omega) rG_nn))
    exact V.vreturn dX13_takeWord_26 rfl (⟨rfl, hfrh4, Or.inr ⟨(by omega), q9hh4, q10hh4, f5⟩⟩)
abbrev REX (m r a0 : Nat) : List (Nat × Nat × Nat) := [(m, 3, 11), (m, 30, 34), ((m + 3), r, r + 1), ((m + 6), r, r + 1), ((m + 15), 200 * r + a0, 200 * r + 200), ((m + 16), 200 * r + a0, 200 * r + 200), ((m + 17), 200 * r + a0, 200 * r + 200), ((m + 18), 0, 64), ((m + 19), 0, 16)]
set_option maxHeartbeats 8000000 in
theorem m_readUnary {G : xG} {m n r a0 p u u0 : Nat} {h : xH} {b : Nat → Nat} {nl : Bool} {P : List Nat} {cs : List Bool} {o : List xAct} (hms : MS m (hS h) (hR h)) (ht : TP h m b n) (hr : r < 12) (hE : EXs h m b n r a0 p u P cs o) (hbad : hI h m 9 = nI 0) (hi : eI n u0 nl (0, p, u, P, cs, o)) (ha0 : a0 ≤ 2 * u0 + 40) : AM G Y13_readUnary (2) h [.ref m, .int (bI (nl = true))] (xInt (fun rv w => Fr (rG (REX m r a0)) h w ∧ ∃ md p' u' P' cs' o', Rc b n nl (0, p, u, P, cs, o) (md, p', u', P', cs', o') ∧ EXs w m b n r a0 p' u' P' cs' o' ∧ ((rv = nI 1 ∧ md = 0 ∧ hI w m 9 = nI 0 ∧ hI w m 10 = hI h m 10 ∧ p < p') ∨ (rv = nI 0 ∧ md = 1 ∧ hI w m 9 = nI 0 ∧ hI w m 10 = hI h m 10 ∧ p < p') ∨ (rv = nI 0 ∧ md = 4 ∧ hI w m 9 = nI 1 ∧ hI w m 10 = nI (tS b n p'))))) := by
  refine AM.of (by decide) (Nat.le_of_ble_eq_true rfl) fun X => ?_
  have hb := ht.2.2.2
  have hfr : Fr (rG (REX m r a0)) h h := Fr.rf
  obtain ⟨mt, h28, hac, hAC, h30, hpl, h31, h33, hcm, h3u⟩ := hE
  obtain ⟨i1, i2, i3, i4, i5, i6, i7, i8, i9, i10, i11, i12, i13, i14⟩ := hi
  have hw0 : wmd 0 = 0 := rfl
  rw [hw0] at i5 i6
  have hlo := lvl_opn P
  have hmc := mok_le i9
  have hcsl : cs.length = lvl P + 1 := i8
  have hm := mtk_c (b := b) (n := n) (p := p) hb
  have hEle := tE_le (b := b) i1
  have J23 : V G Y13_readUnary (2) (xInt (fun rv w => Fr (rG (REX m r a0)) h w ∧ ∃ md p' u' P' cs' o', Rc b n nl (0, p, u, P, cs, o) (md, p', u', P', cs', o') ∧ EXs w m b n r a0 p' u' P' cs' o' ∧ ((rv = nI 1 ∧ md = 0 ∧ hI w m 9 = nI 0 ∧ hI w m 10 = hI h m 10 ∧ p < p') ∨ (rv = nI 0 ∧ md = 1 ∧ hI w m 9 = nI 0 ∧ hI w m 10 = hI h m 10 ∧ p < p') ∨ (rv = nI 0 ∧ md = 4 ∧ hI w m 9 = nI 1 ∧ hI w m 10 = nI (tS b n p'))))) X h 23 [some (.ref (m)), some (.int (bI (nl = true))), none, none] [.int (bI (tC b n p = 145 ∨ tC b n p = 140))] := by
    refine V.istore_n dX13_readUnary_23 (by decide) ?_
    have J62 : V G Y13_readUnary (2) (xInt (fun rv w => Fr (rG (REX m r a0)) h w ∧ ∃ md p' u' P' cs' o', Rc b n nl (0, p, u, P, cs, o) (md, p', u', P', cs', o') ∧ EXs w m b n r a0 p' u' P' cs' o' ∧ ((rv = nI 1 ∧ md = 0 ∧ hI w m 9 = nI 0 ∧ hI w m 10 = hI h m 10 ∧ p < p') ∨ (rv = nI 0 ∧ md = 1 ∧ hI w m 9 = nI 0 ∧ hI w m 10 = hI h m 10 ∧ p < p') ∨ (rv = nI 0 ∧ md = 4 ∧ hI w m 9 = nI 1 ∧ hI w m 10 = nI (tS b n p'))))) X h 62 [some (.ref (m)), some (.int (bI (nl = true))), some (.int (bI (tC b n p = 145 ∨ tC b n p = 140))), none] [.int (bI ((tC b n p = 145 ∨ tC b n p = 140) ∨ tC b n p = 3 ∨ (tC b n p = 2 ∧ ¬ (nl = true ∧ 16 ≤ tLt b n p))))] := by
      refine V.istore_n dX13_readUnary_62 (by decide) ?_
      refine V.iload_n dX13_readUnary_63 rfl ?_
      refine V.if_eqB 94 dX13_readUnary_64 (by decide) (fun c64 => ?_) (fun c64 => ?_)
      · refine V.aload_n dX13_readUnary_94 rfl ?_
        refine V.callV (m_misplaced (d := 0) hms mt hbad) mv_X13_247 ok_Y13_misplaced hms.1 rfl rfl (by omega) (Nat.le_of_ble_eq_true rfl) dX13_readUnary_95 rfl (fun rv hh1 hq hqn hqk => ?_) (fun _ _ hq _ _ => hq.elim)
        obtain ⟨rfl, hFhh1, q9hh1, q10hh1⟩ := hq
        have hfrh1 := hfr.tr (hFhh1.mono (rG_mc (fun k h1 h2 => (rG_hd (by omega) (by omega))) rG_mn))
        have hmsh1 := hms.fr hfrh1
        refine V.iconst (0) dX13_readUnary_98 (by decide) ?_
        have f2 := hFhh1.I (rG_na (am_n0 (by decide)) rG_nn) hac
        have f3 := mt.fr hFhh1 (fun k h1 h2 => (rG_nk (by omega) rG_nn))
        have f4 := hFhh1.I (rG_nh (by decide) rG_nn) h28
        have f5 := hAC.fr hFhh1 (fun j h1 h2 => ⟨(rG_na (am_n0 (by decide)) rG_nn), (rG_na (am_n0 (by decide)) rG_nn), (rG_na (am_n0 (by decide)) rG_nn)⟩)
        have f6 := hFhh1.I (rG_nh (by decide) rG_nn) h30
        have f7 := hpl.fr hFhh1 (fun i hi => (rG_na (am_n0 (by decide)) rG_nn))
        have f8 := hFhh1.I (rG_nh (by decide) rG_nn) h31
        have f9 := hFhh1.I (rG_nh (by decide) rG_nn) h33
        have f10 := hcm.fr hFhh1 (fun i hi => (rG_na (am_n0 (by decide)) rG_nn))
        have f11 := hFhh1.I (rG_na (am_n0 (by decide)) rG_nn) h3u
        exact V.ireturn dX13_readUnary_99 rfl rfl (⟨_, rfl, hfrh1, 4, p, u, P, cs, o, Rc.st (est_bad (Or.inl (fun z => c64 z))), ⟨f3, f4, f2, f5, f6, f7, f8, f9, f10, f11⟩, Or.inr (Or.inr ⟨rfl, rfl, q9hh1, q10hh1⟩)⟩)
      · refine V.aload_n dX13_readUnary_67 rfl ?_
        refine V.getr fl_X13_21 hms.1 (hms.2.2 (13, 3) (by decide)) dX13_readUnary_68 rfl ?_
        refine V.aload_n dX13_readUnary_71 rfl ?_
        refine V.getIe fl_X13_253 hms.1 h28 dX13_readUnary_72 rfl ?_
        refine V.ialde (j := r) (hms.2.1 3 (by decide)) rfl (by omega) (h3u) dX13_readUnary_75 ?_
        refine V.bipush (60) dX13_readUnary_76 (by decide) ?_
        refine V.icmp_eqN (u) (60) rfl rfl (by omega) (by omega) 94 dX13_readUnary_78 (by decide) (fun c78 => ?_) (fun c78 => ?_)
        · refine V.aload_n dX13_readUnary_94 rfl ?_
          refine V.callV (m_misplaced (d := 0) hms mt hbad) mv_X13_247 ok_Y13_misplaced hms.1 rfl rfl (by omega) (Nat.le_of_ble_eq_true rfl) dX13_readUnary_95 rfl (fun rv hh12 hq hqn hqk => ?_) (fun _ _ hq _ _ => hq.elim)
          obtain ⟨rfl, hFhh12, q9hh12, q10hh12⟩ := hq
          have hfrh12 := hfr.tr (hFhh12.mono (rG_mc (fun k h1 h2 => (rG_hd (by omega) (by omega))) rG_mn))
          have hmsh12 := hms.fr hfrh12
          refine V.iconst (0) dX13_readUnary_98 (by decide) ?_
          have f13 := hFhh12.I (rG_na (am_n0 (by decide)) rG_nn) hac
          have f14 := mt.fr hFhh12 (fun k h1 h2 => (rG_nk (by omega) rG_nn))
          have f15 := hFhh12.I (rG_nh (by decide) rG_nn) h28
          have f16 := hAC.fr hFhh12 (fun j h1 h2 => ⟨(rG_na (am_n0 (by decide)) rG_nn), (rG_na (am_n0 (by decide)) rG_nn), (rG_na (am_n0 (by decide)) rG_nn)⟩)
          have f17 := hFhh12.I (rG_nh (by decide) rG_nn) h30
          have f18 := hpl.fr hFhh12 (fun i hi => (rG_na (am_n0 (by decide)) rG_nn))
          have f19 := hFhh12.I (rG_nh (by decide) rG_nn) h31
          have f20 := hFhh12.I (rG_nh (by decide) rG_nn) h33
          have f21 := hcm.fr hFhh12 (fun i hi => (rG_na (am_n0 (by decide)) rG_nn))
          have f22 := hFhh12.I (rG_na (am_n0 (by decide)) rG_nn) h3u
          exact V.ireturn dX13_readUnary_99 rfl rfl (⟨_, rfl, hfrh12, 4, p, u, P, cs, o, Rc.st (est_bad (Or.inr (Or.inl c78))), ⟨f14, f15, f13, f16, f17, f18, f19, f20, f21, f22⟩, Or.inr (Or.inr ⟨rfl, rfl, q9hh12, q10hh12⟩)⟩)
        · refine V.iload_n dX13_readUnary_81 rfl ?_
          refine V.if_eqB 100 dX13_readUnary_82 (by decide) (fun c82 => ?_) (fun c82 => ?_)
          · refine V.aload_n dX13_readUnary_100 rfl ?_
            refine V.getr fl_X13_21 hms.1 (hms.2.2 (13, 3) (by decide)) dX13_readUnary_101 rfl ?_
            refine V.aload_n dX13_readUnary_104 rfl ?_
            refine V.getIe fl_X13_253 hms.1 h28 dX13_readUnary_105 rfl ?_
            refine V.dup2_11 dX13_readUnary_108 rfl rfl ?_
            refine V.ialde (j := r) (hms.2.1 3 (by decide)) rfl (by omega) (h3u) dX13_readUnary_109 ?_
            refine V.iconst (1) dX13_readUnary_110 (by decide) ?_
            refine V.iaddN (u) (1) rfl rfl dX13_readUnary_111 ?_
            refine V.iastk (j := r) (hms.2.1 3 (by decide)) rfl (by omega) dX13_readUnary_112 (fun hh23 ehh23 => ?_)
            have hFhh23 := Fr1I ehh23
            have hfrh23 := hfr.tr (hFhh23.mono (rG_mc (fun k h1 h2 => (rG_tl (rG_tl (rG_hd (by omega) (by omega))))) rG_mn))
            have hmsh23 := hms.fr hfrh23
            have f24 := hI_ps ehh23
            refine V.iload_n dX13_readUnary_113 rfl ?_
            refine V.if_eqB 198 dX13_readUnary_114 (by decide) (fun c114 => ?_) (fun c114 => absurd c114 c82)
            have hgd : tC b n p = 3 ∨ (tC b n p = 2 ∧ ¬ (nl = true ∧ 16 ≤ tLt b n p)) := c64.resolve_left c82
            have hg2 : tC b n p = 3 ∨ tC b n p = 2 := by rcases hgd with z | z; exact Or.inl z; exact Or.inr z.1
            refine V.aload_n dX13_readUnary_198 rfl ?_
            refine V.aload_n dX13_readUnary_199 rfl ?_
            have f25 := hFhh23.I (rG_na (am_0n (by decide)) rG_nn) mt.1
            refine V.getIe fl_X13_209 hmsh23.1 f25 dX13_readUnary_200 rfl ?_
            refine V.iconst (3) dX13_readUnary_203 (by decide) ?_
            refine V.icmp_neN (mtk (tC b n p)) (3) rfl rfl (by omega) (by omega) 211 dX13_readUnary_204 (by decide) (fun c204 => ?_) (fun c204 => ?_)
            · have hnn : ¬ (nl = true ∧ 16 ≤ tLt b n p) := by rcases hgd with z | z; exact absurd z (by omega); exact z.2
              refine V.iconst (2) dX13_readUnary_211 (by decide) ?_
              refine V.aload_n dX13_readUnary_212 rfl ?_
              refine V.getIe fl_X13_209 hmsh23.1 f25 dX13_readUnary_213 rfl ?_
              refine V.iconst (2) dX13_readUnary_216 (by decide) ?_
              refine V.icmp_neN (mtk (tC b n p)) (2) rfl rfl (by omega) (by omega) 227 dX13_readUnary_217 (by decide) (fun c217 => absurd (show mtk (tC b n p) = 2 by omega) c217) (fun c217 => ?_)
              have f26 := mt.fr hFhh23 (fun k h1 h2 => (rG_na (am_0n (by decide)) rG_nn))
              have hlt := f26.2.2.2.2.1 (by omega)
              refine V.aload_n dX13_readUnary_220 rfl ?_
              refine V.getIe fl_X13_216 hmsh23.1 hlt dX13_readUnary_221 rfl ?_
              refine V.goto 228 dX13_readUnary_224 (by decide) ?_
              refine V.aload_n dX13_readUnary_228 rfl ?_
              refine V.getIe fl_X13_209 hmsh23.1 f25 dX13_readUnary_229 rfl ?_
              refine V.iconst (3) dX13_readUnary_232 (by decide) ?_
              refine V.icmp_neN (mtk (tC b n p)) (3) rfl rfl (by omega) (by omega) 243 dX13_readUnary_233 (by decide) (fun c233 => ?_) (fun c233 => absurd c233 (by omega))
              refine V.lconst 0 dX13_readUnary_243 (by decide) ?_
              have f27 := hAC.fr hFhh23 (fun j h1 h2 => ⟨(rG_na (am_ne (by decide)) rG_nn), (rG_na (am_ne (by decide)) rG_nn), (rG_na (am_ne (by decide)) rG_nn)⟩)
              have f28 := hFhh23.I (rG_na (am_0n (by decide)) rG_nn) h28
              have f29 := hFhh23.I (rG_na (am_ne (by decide)) rG_nn) hac
              refine V.callV (m_act (d := 0) hmsh23 hr f28 f29 (by omega) (nI 2) (nI (tLt b n p)) 0) mv_X13_262 ok_Y13_act hmsh23.1 rfl rfl (by omega) (Nat.le_of_ble_eq_true rfl) dX13_readUnary_244 rfl (fun rv hh30 hq hqn hqk => ?_) (fun _ _ hq _ _ => hq.elim)
              obtain ⟨rfl, hFhh30, q6hh30, q15hh30, q16hh30, q17hh30⟩ := hq
              have hfrh30 := hfrh23.tr (hFhh30.mono (rG_mc (fun k h1 h2 => (rG_tl (rG_tl (rG_tl (rG_hd (by omega) (by omega)))))) (rG_mc (fun k h1 h2 => (rG_tl (rG_tl (rG_tl (rG_tl (rG_hd (by omega) (by omega))))))) (rG_mc (fun k h1 h2 => (rG_tl (rG_tl (rG_tl (rG_tl (rG_tl (rG_hd (by omega) (by omega)))))))) (rG_mc (fun k h1 h2 => (rG_tl (rG_tl (rG_tl (rG_tl (rG_tl (rG_tl (rG_hd (by omega) (by omega))))))))) rG_mn)))))
              have hmsh30 := hms.fr hfrh30
              have hAChh30 : AC hh30 m (200 * r + a0) (o ++ [(2, tLt b n p, 0)]) := f27.push hFhh30 (fun j h1 h2 => ⟨(rG_na (am_ne (by decide)) (rG_nk (by omega) (rG_na (am_ne (by decide)) (rG_na (am_ne (by decide)) rG_nn)))), (rG_na (am_ne (by decide)) (rG_na (am_ne (by decide)) (rG_nk (by omega) (rG_na (am_ne (by decide)) rG_nn)))), (rG_na (am_ne (by decide)) (rG_na (am_ne (by decide)) (rG_na (am_ne (by decide)) (rG_nk (by omega) rG_nn))))⟩) (by rw [Nat.add_assoc]; exact q15hh30) (fun z => by rw [Nat.add_assoc]; exact q16hh30) (fun z => absurd (show (2 : Nat) = 1 from z) (by decide))
              refine V.aload_n dX13_readUnary_247 rfl ?_
              have f31 := f26.fr hFhh30 (fun k h1 h2 => (rG_na (am_0n (by decide)) (rG_na (am_0n (by decide)) (rG_na (am_0n (by decide)) (rG_na (am_0n (by decide)) rG_nn)))))
              have f32 := ht.fr hFhh23 (rG_na (am_0n (by decide)) rG_nn) (fun j => (rG_na (am_ne (by decide)) rG_nn))
              have f33 := f32.fr hFhh30 (rG_na (am_0n (by decide)) (rG_na (am_0n (by decide)) (rG_na (am_0n (by decide)) (rG_na (am_0n (by decide)) rG_nn)))) (fun j => (rG_na (am_ne (by decide)) (rG_na (am_ne (by decide)) (rG_na (am_ne (by decide)) (rG_na (am_ne (by decide)) rG_nn)))))
              refine V.callV (m_nextR hmsh30 f33 (tE b n p) (by omega) f31.2.2.1) mv_X13_250 ok_Y13_next hmsh30.1 rfl rfl (by omega) (Nat.le_of_ble_eq_true rfl) dX13_readUnary_248 rfl (fun rv hh34 hq hqn hqk => ?_) (fun _ _ hq _ _ => hq.elim)
              obtain ⟨rfl, hFhh34, mthh34⟩ := hq
              have hfrh34 := hfrh30.tr (hFhh34.mono (rG_mc (fun k h1 h2 => (rG_hd (by omega) (by omega))) rG_mn))
              have hmsh34 := hms.fr hfrh34
              refine V.aload_n dX13_readUnary_251 rfl ?_
              have f35 := hFhh30.I (rG_na (am_0n (by decide)) (rG_na (am_0n (by decide)) (rG_na (am_0n (by decide)) (rG_na (am_0n (by decide)) rG_nn)))) f28
              have f36 := hFhh34.I (rG_nh (by decide) rG_nn) f35
              have f37 := hFhh34.I (rG_na (am_n0 (by decide)) rG_nn) q6hh30
              have f38 := hFhh23.I (rG_na (am_0n (by decide)) rG_nn) h30
              have f39 := hFhh30.I (rG_na (am_0n (by decide)) (rG_na (am_0n (by decide)) (rG_na (am_0n (by decide)) (rG_na (am_0n (by decide)) rG_nn)))) f38
              have f40 := hFhh34.I (rG_nh (by decide) rG_nn) f39
              have f41 := hFhh23.I (rG_na (am_0n (by decide)) rG_nn) h31
              have f42 := hFhh30.I (rG_na (am_0n (by decide)) (rG_na (am_0n (by decide)) (rG_na (am_0n (by decide)) (rG_na (am_0n (by decide)) rG_nn)))) f41
              have f43 := hFhh34.I (rG_nh (by decide) rG_nn) f42
              have f44 := hpl.fr hFhh23 (fun i hi => (rG_na (am_ne (by decide)) rG_nn))
              have f45 := f44.fr hFhh30 (fun i hi => (rG_na (am_ne (by decide)) (rG_na (am_ne (by decide)) (rG_na (am_ne (by decide)) (rG_na (am_ne (by decide)) rG_nn)))))
              have f46 := f45.fr hFhh34 (fun i hi => (rG_na (am_n0 (by decide)) rG_nn))
              have f47 := hAChh30.fr hFhh34 (fun j h1 h2 => ⟨(rG_na (am_n0 (by decide)) rG_nn), (rG_na (am_n0 (by decide)) rG_nn), (rG_na (am_n0 (by decide)) rG_nn)⟩)
              refine V.callV (m_operand (d := 0) (a0 := a0 + o.length + 1) (P0 := P) hmsh34 hr f36 f37 (by omega) f40 f43 f46 (by omega) hmc f47 (by simp only [List.length_append, List.length_singleton]; omega)) mv_X13_280 ok_Y13_operandIsThere hmsh34.1 rfl rfl (by omega) (Nat.le_of_ble_eq_true rfl) dX13_readUnary_252 rfl (fun rv hh48 hq hqn hqk => ?_) (fun _ _ hq _ _ => hq.elim)
              obtain ⟨rfl, hFhh48, q30hh48, q31hh48, q6hh48, hAChh48⟩ := hq
              have hfrh48 := hfrh34.tr (hFhh48.mono (rG_mc (fun k h1 h2 => (rG_tl (rG_hd (by omega) (by omega)))) (rG_mc (fun k h1 h2 => (rG_tl (rG_tl (rG_tl (rG_hd (by omega) (by omega)))))) (rG_mc (fun k h1 h2 => (rG_tl (rG_tl (rG_tl (rG_tl (rG_hd (by omega) (by omega))))))) (rG_mc (fun k h1 h2 => (rG_tl (rG_tl (rG_tl (rG_tl (rG_tl (rG_hd (by omega) (by omega)))))))) (rG_mc (fun k h1 h2 => (rG_tl (rG_tl (rG_tl (rG_tl (rG_tl (rG_tl (rG_hd (by omega) (by omega))))))))) rG_mn))))))
              have hmsh48 := hms.fr hfrh48
              refine V.iconst (0) dX13_readUnary_255 (by decide) ?_
              have f49 := mthh34.fr hFhh48 (fun k h1 h2 => (rG_nk (by omega) (rG_na (am_0n (by decide)) (rG_na (am_0n (by decide)) (rG_na (am_0n (by decide)) (rG_na (am_0n (by decide)) rG_nn))))))
              have f50 := hFhh48.I (rG_nl (by decide) (rG_na (am_0n (by decide)) (rG_na (am_0n (by decide)) (rG_na (am_0n (by decide)) (rG_na (am_0n (by decide)) rG_nn))))) f36
              have f51 := f46.fr hFhh48 (fun i hi => (rG_na (am_n0 (by decide)) (rG_na (am_ne (by decide)) (rG_na (am_ne (by decide)) (rG_na (am_ne (by decide)) (rG_na (am_ne (by decide)) rG_nn))))))
              have f52 := hFhh23.I (rG_na (am_0n (by decide)) rG_nn) h33
              have f53 := hFhh30.I (rG_na (am_0n (by decide)) (rG_na (am_0n (by decide)) (rG_na (am_0n (by decide)) (rG_na (am_0n (by decide)) rG_nn)))) f52
              have f54 := hFhh34.I (rG_nh (by decide) rG_nn) f53
              have f55 := hFhh48.I (rG_nh (by decide) (rG_na (am_0n (by decide)) (rG_na (am_0n (by decide)) (rG_na (am_0n (by decide)) (rG_na (am_0n (by decide)) rG_nn))))) f54
              have f56 := hcm.fr hFhh23 (fun i hi => (rG_na (am_ne (by decide)) rG_nn))
              have f57 := f56.fr hFhh30 (fun i hi => (rG_na (am_ne (by decide)) (rG_na (am_ne (by decide)) (rG_na (am_ne (by decide)) (rG_na (am_ne (by decide)) rG_nn)))))
              have f58 := f57.fr hFhh34 (fun i hi => (rG_na (am_n0 (by decide)) rG_nn))
              have f59 := f58.fr hFhh48 (fun i hi => (rG_na (am_n0 (by decide)) (rG_na (am_ne (by decide)) (rG_na (am_ne (by decide)) (rG_na (am_ne (by decide)) (rG_na (am_ne (by decide)) rG_nn))))))
              have f60 := hFhh30.I (rG_na (am_ne (by decide)) (rG_na (am_ne (by decide)) (rG_na (am_ne (by decide)) (rG_na (am_ne (by decide)) rG_nn)))) f24
              have f61 := hFhh34.I (rG_na (am_n0 (by decide)) rG_nn) f60
              have f62 := hFhh48.I (rG_na (am_n0 (by decide)) (rG_na (am_ne (by decide)) (rG_na (am_ne (by decide)) (rG_na (am_ne (by decide)) (rG_na (am_ne (by decide)) rG_nn))))) f61
              have f63 := hFhh23.I (rG_na (am_0n (by decide)) rG_nn) hbad
              have f64 := hFhh30.I (rG_na (am_0n (by decide)) (rG_na (am_0n (by decide)) (rG_na (am_0n (by decide)) (rG_na (am_0n (by decide)) rG_nn)))) f63
              have f65 := hFhh34.I (rG_nh (by decide) rG_nn) f64
              have f66 := hFhh48.I (rG_nl (by decide) (rG_na (am_0n (by decide)) (rG_na (am_0n (by decide)) (rG_na (am_0n (by decide)) (rG_na (am_0n (by decide)) rG_nn))))) f65
              have f67 := hFhh23.I (rG_na (am_0n (by decide)) rG_nn) (rfl : hI h m 10 = hI h m 10)
              have f68 := hFhh30.I (rG_na (am_0n (by decide)) (rG_na (am_0n (by decide)) (rG_na (am_0n (by decide)) (rG_na (am_0n (by decide)) rG_nn)))) f67
              have f69 := hFhh34.I (rG_nh (by decide) rG_nn) f68
              have f70 := hFhh48.I (rG_nl (by decide) (rG_na (am_0n (by decide)) (rG_na (am_0n (by decide)) (rG_na (am_0n (by decide)) (rG_na (am_0n (by decide)) rG_nn))))) f69
              exact V.ireturn dX13_readUnary_256 rfl rfl (⟨_, rfl, hfrh48, 1, tE b n p, u + 1, (pmn P).1, cs, o ++ [(2, tLt b n p, 0)] ++ (pmn P).2, Rc.tr (Rc.st (est_let (by omega) hnn c78)) (Rc_pmn P _), ⟨f49, f50, (q6hh48).trans (congrArg nI (by simp only [List.length_append, List.length_singleton]; omega)), hAChh48, q30hh48, pl_pmn f51, q31hh48, by rw [(opn_pmn P).2]; exact f55, f59, f62⟩, Or.inr (Or.inl ⟨rfl, rfl, f66, f70, tE_gt (by omega)⟩)⟩)
            · refine V.iconst (1) dX13_readUnary_207 (by decide) ?_
              refine V.goto 212 dX13_readUnary_208 (by decide) ?_
              refine V.aload_n dX13_readUnary_212 rfl ?_
              refine V.getIe fl_X13_209 hmsh23.1 f25 dX13_readUnary_213 rfl ?_
              refine V.iconst (2) dX13_readUnary_216 (by decide) ?_
              refine V.icmp_neN (mtk (tC b n p)) (2) rfl rfl (by omega) (by omega) 227 dX13_readUnary_217 (by decide) (fun c217 => ?_) (fun c217 => absurd c217 (by omega))
              refine V.iconst (-1) dX13_readUnary_227 (by decide) ?_
              refine V.aload_n dX13_readUnary_228 rfl ?_
              refine V.getIe fl_X13_209 hmsh23.1 f25 dX13_readUnary_229 rfl ?_
              refine V.iconst (3) dX13_readUnary_232 (by decide) ?_
              refine V.icmp_neN (mtk (tC b n p)) (3) rfl rfl (by omega) (by omega) 243 dX13_readUnary_233 (by decide) (fun c233 => absurd (show mtk (tC b n p) = 3 by omega) c233) (fun c233 => ?_)
              have f71 := mt.fr hFhh23 (fun k h1 h2 => (rG_na (am_0n (by decide)) rG_nn))
              have hnm := f71.2.2.2.2.2 (by omega)
              refine V.aload_n dX13_readUnary_236 rfl ?_
              refine V.getLe fl_X13_226 hmsh23.1 hnm dX13_readUnary_237 rfl ?_
              refine V.goto 244 dX13_readUnary_240 (by decide) ?_
              have f72 := hAC.fr hFhh23 (fun j h1 h2 => ⟨(rG_na (am_ne (by decide)) rG_nn), (rG_na (am_ne (by decide)) rG_nn), (rG_na (am_ne (by decide)) rG_nn)⟩)
              have f73 := hFhh23.I (rG_na (am_0n (by decide)) rG_nn) h28
              have f74 := hFhh23.I (rG_na (am_ne (by decide)) rG_nn) hac
              refine V.callV (m_act (d := 0) hmsh23 hr f73 f74 (by omega) (nI 1) (-1) (lN (tNm b n p))) mv_X13_262 ok_Y13_act hmsh23.1 rfl rfl (by omega) (Nat.le_of_ble_eq_true rfl) dX13_readUnary_244 rfl (fun rv hh75 hq hqn hqk => ?_) (fun _ _ hq _ _ => hq.elim)
              obtain ⟨rfl, hFhh75, q6hh75, q15hh75, q16hh75, q17hh75⟩ := hq
              have hfrh75 := hfrh23.tr (hFhh75.mono (rG_mc (fun k h1 h2 => (rG_tl (rG_tl (rG_tl (rG_hd (by omega) (by omega)))))) (rG_mc (fun k h1 h2 => (rG_tl (rG_tl (rG_tl (rG_tl (rG_hd (by omega) (by omega))))))) (rG_mc (fun k h1 h2 => (rG_tl (rG_tl (rG_tl (rG_tl (rG_tl (rG_hd (by omega) (by omega)))))))) (rG_mc (fun k h1 h2 => (rG_tl (rG_tl (rG_tl (rG_tl (rG_tl (rG_tl (rG_hd (by omega) (by omega))))))))) rG_mn)))))
              have hmsh75 := hms.fr hfrh75
              have hAChh75 : AC hh75 m (200 * r + a0) (o ++ [(1, 0, lN (tNm b n p))]) := f72.push hFhh75 (fun j h1 h2 => ⟨(rG_na (am_ne (by decide)) (rG_nk (by omega) (rG_na (am_ne (by decide)) (rG_na (am_ne (by decide)) rG_nn)))), (rG_na (am_ne (by decide)) (rG_na (am_ne (by decide)) (rG_nk (by omega) (rG_na (am_ne (by decide)) rG_nn)))), (rG_na (am_ne (by decide)) (rG_na (am_ne (by decide)) (rG_na (am_ne (by decide)) (rG_nk (by omega) rG_nn))))⟩) (by rw [Nat.add_assoc]; exact q15hh75) (fun z => absurd (show (1 : Nat) = 2 from z) (by decide)) (fun z => by rw [Nat.add_assoc]; exact q17hh75)
              refine V.aload_n dX13_readUnary_247 rfl ?_
              have f76 := f71.fr hFhh75 (fun k h1 h2 => (rG_na (am_0n (by decide)) (rG_na (am_0n (by decide)) (rG_na (am_0n (by decide)) (rG_na (am_0n (by decide)) rG_nn)))))
              have f77 := ht.fr hFhh23 (rG_na (am_0n (by decide)) rG_nn) (fun j => (rG_na (am_ne (by decide)) rG_nn))
              have f78 := f77.fr hFhh75 (rG_na (am_0n (by decide)) (rG_na (am_0n (by decide)) (rG_na (am_0n (by decide)) (rG_na (am_0n (by decide)) rG_nn)))) (fun j => (rG_na (am_ne (by decide)) (rG_na (am_ne (by decide)) (rG_na (am_ne (by decide)) (rG_na (am_ne (by decide)) rG_nn)))))
              refine V.callV (m_nextR hmsh75 f78 (tE b n p) (by omega) f76.2.2.1) mv_X13_250 ok_Y13_next hmsh75.1 rfl rfl (by omega) (Nat.le_of_ble_eq_true rfl) dX13_readUnary_248 rfl (fun rv hh79 hq hqn hqk => ?_) (fun _ _ hq _ _ => hq.elim)
              obtain ⟨rfl, hFhh79, mthh79⟩ := hq
              have hfrh79 := hfrh75.tr (hFhh79.mono (rG_mc (fun k h1 h2 => (rG_hd (by omega) (by omega))) rG_mn))
              have hmsh79 := hms.fr hfrh79
              refine V.aload_n dX13_readUnary_251 rfl ?_
              have f80 := hFhh75.I (rG_na (am_0n (by decide)) (rG_na (am_0n (by decide)) (rG_na (am_0n (by decide)) (rG_na (am_0n (by decide)) rG_nn)))) f73
              have f81 := hFhh79.I (rG_nh (by decide) rG_nn) f80
              have f82 := hFhh79.I (rG_na (am_n0 (by decide)) rG_nn) q6hh75
              have f83 := hFhh23.I (rG_na (am_0n (by decide)) rG_nn) h30
              have f84 := hFhh75.I (rG_na (am_0n (by decide)) (rG_na (am_0n (by decide)) (rG_na (am_0n (by decide)) (rG_na (am_0n (by decide)) rG_nn)))) f83
              have f85 := hFhh79.I (rG_nh (by decide) rG_nn) f84
              have f86 := hFhh23.I (rG_na (am_0n (by decide)) rG_nn) h31
              have f87 := hFhh75.I (rG_na (am_0n (by decide)) (rG_na (am_0n (by decide)) (rG_na (am_0n (by decide)) (rG_na (am_0n (by decide)) rG_nn)))) f86
              have f88 := hFhh79.I (rG_nh (by decide) rG_nn) f87
              have f89 := hpl.fr hFhh23 (fun i hi => (rG_na (am_ne (by decide)) rG_nn))
              have f90 := f89.fr hFhh75 (fun i hi => (rG_na (am_ne (by decide)) (rG_na (am_ne (by decide)) (rG_na (am_ne (by decide)) (rG_na (am_ne (by decide)) rG_nn)))))
              have f91 := f90.fr hFhh79 (fun i hi => (rG_na (am_n0 (by decide)) rG_nn))
              have f92 := hAChh75.fr hFhh79 (fun j h1 h2 => ⟨(rG_na (am_n0 (by decide)) rG_nn), (rG_na (am_n0 (by decide)) rG_nn), (rG_na (am_n0 (by decide)) rG_nn)⟩)
              refine V.callV (m_operand (d := 0) (a0 := a0 + o.length + 1) (P0 := P) hmsh79 hr f81 f82 (by omega) f85 f88 f91 (by omega) hmc f92 (by simp only [List.length_append, List.length_singleton]; omega)) mv_X13_280 ok_Y13_operandIsThere hmsh79.1 rfl rfl (by omega) (Nat.le_of_ble_eq_true rfl) dX13_readUnary_252 rfl (fun rv hh93 hq hqn hqk => ?_) (fun _ _ hq _ _ => hq.elim)
              obtain ⟨rfl, hFhh93, q30hh93, q31hh93, q6hh93, hAChh93⟩ := hq
              have hfrh93 := hfrh79.tr (hFhh93.mono (rG_mc (fun k h1 h2 => (rG_tl (rG_hd (by omega) (by omega)))) (rG_mc (fun k h1 h2 => (rG_tl (rG_tl (rG_tl (rG_hd (by omega) (by omega)))))) (rG_mc (fun k h1 h2 => (rG_tl (rG_tl (rG_tl (rG_tl (rG_hd (by omega) (by omega))))))) (rG_mc (fun k h1 h2 => (rG_tl (rG_tl (rG_tl (rG_tl (rG_tl (rG_hd (by omega) (by omega)))))))) (rG_mc (fun k h1 h2 => (rG_tl (rG_tl (rG_tl (rG_tl (rG_tl (rG_tl (rG_hd (by omega) (by omega))))))))) rG_mn))))))
              have hmsh93 := hms.fr hfrh93
              refine V.iconst (0) dX13_readUnary_255 (by decide) ?_
              have f94 := mthh79.fr hFhh93 (fun k h1 h2 => (rG_nk (by omega) (rG_na (am_0n (by decide)) (rG_na (am_0n (by decide)) (rG_na (am_0n (by decide)) (rG_na (am_0n (by decide)) rG_nn))))))
              have f95 := hFhh93.I (rG_nl (by decide) (rG_na (am_0n (by decide)) (rG_na (am_0n (by decide)) (rG_na (am_0n (by decide)) (rG_na (am_0n (by decide)) rG_nn))))) f81
              have f96 := f91.fr hFhh93 (fun i hi => (rG_na (am_n0 (by decide)) (rG_na (am_ne (by decide)) (rG_na (am_ne (by decide)) (rG_na (am_ne (by decide)) (rG_na (am_ne (by decide)) rG_nn))))))
              have f97 := hFhh23.I (rG_na (am_0n (by decide)) rG_nn) h33
              have f98 := hFhh75.I (rG_na (am_0n (by decide)) (rG_na (am_0n (by decide)) (rG_na (am_0n (by decide)) (rG_na (am_0n (by decide)) rG_nn)))) f97
              have f99 := hFhh79.I (rG_nh (by decide) rG_nn) f98
              have f100 := hFhh93.I (rG_nh (by decide) (rG_na (am_0n (by decide)) (rG_na (am_0n (by decide)) (rG_na (am_0n (by decide)) (rG_na (am_0n (by decide)) rG_nn))))) f99
              have f101 := hcm.fr hFhh23 (fun i hi => (rG_na (am_ne (by decide)) rG_nn))
              have f102 := f101.fr hFhh75 (fun i hi => (rG_na (am_ne (by decide)) (rG_na (am_ne (by decide)) (rG_na (am_ne (by decide)) (rG_na (am_ne (by decide)) rG_nn)))))
              have f103 := f102.fr hFhh79 (fun i hi => (rG_na (am_n0 (by decide)) rG_nn))
              have f104 := f103.fr hFhh93 (fun i hi => (rG_na (am_n0 (by decide)) (rG_na (am_ne (by decide)) (rG_na (am_ne (by decide)) (rG_na (am_ne (by decide)) (rG_na (am_ne (by decide)) rG_nn))))))
              have f105 := hFhh75.I (rG_na (am_ne (by decide)) (rG_na (am_ne (by decide)) (rG_na (am_ne (by decide)) (rG_na (am_ne (by decide)) rG_nn)))) f24
              have f106 := hFhh79.I (rG_na (am_n0 (by decide)) rG_nn) f105
              have f107 := hFhh93.I (rG_na (am_n0 (by decide)) (rG_na (am_ne (by decide)) (rG_na (am_ne (by decide)) (rG_na (am_ne (by decide)) (rG_na (am_ne (by decide)) rG_nn))))) f106
              have f108 := hFhh23.I (rG_na (am_0n (by decide)) rG_nn) hbad
              have f109 := hFhh75.I (rG_na (am_0n (by decide)) (rG_na (am_0n (by decide)) (rG_na (am_0n (by decide)) (rG_na (am_0n (by decide)) rG_nn)))) f108
              have f110 := hFhh79.I (rG_nh (by decide) rG_nn) f109
              have f111 := hFhh93.I (rG_nl (by decide) (rG_na (am_0n (by decide)) (rG_na (am_0n (by decide)) (rG_na (am_0n (by decide)) (rG_na (am_0n (by decide)) rG_nn))))) f110
              have f112 := hFhh23.I (rG_na (am_0n (by decide)) rG_nn) (rfl : hI h m 10 = hI h m 10)
              have f113 := hFhh75.I (rG_na (am_0n (by decide)) (rG_na (am_0n (by decide)) (rG_na (am_0n (by decide)) (rG_na (am_0n (by decide)) rG_nn)))) f112
              have f114 := hFhh79.I (rG_nh (by decide) rG_nn) f113
              have f115 := hFhh93.I (rG_nl (by decide) (rG_na (am_0n (by decide)) (rG_na (am_0n (by decide)) (rG_na (am_0n (by decide)) (rG_na (am_0n (by decide)) rG_nn))))) f114
              exact V.ireturn dX13_readUnary_256 rfl rfl (⟨_, rfl, hfrh93, 1, tE b n p, u + 1, (pmn P).1, cs, o ++ [(1, 0, lN (tNm b n p))] ++ (pmn P).2, Rc.tr (Rc.st (est_num (by omega) c78)) (Rc_pmn P _), ⟨f94, f95, (q6hh93).trans (congrArg nI (by simp only [List.length_append, List.length_singleton]; omega)), hAChh93, q30hh93, pl_pmn f96, q31hh93, by rw [(opn_pmn P).2]; exact f100, f104, f107⟩, Or.inr (Or.inl ⟨rfl, rfl, f111, f115, tE_gt (by omega)⟩)⟩)
          · refine V.aload_n dX13_readUnary_85 rfl ?_
            refine V.getIe fl_X13_266 hms.1 h31 dX13_readUnary_86 rfl ?_
            refine V.bipush (8) dX13_readUnary_89 (by decide) ?_
            refine V.icmp_neN (opn P) (8) rfl rfl (by omega) (by omega) 100 dX13_readUnary_91 (by decide) (fun c91 => ?_) (fun c91 => ?_)
            · refine V.aload_n dX13_readUnary_100 rfl ?_
              refine V.getr fl_X13_21 hms.1 (hms.2.2 (13, 3) (by decide)) dX13_readUnary_101 rfl ?_
              refine V.aload_n dX13_readUnary_104 rfl ?_
              refine V.getIe fl_X13_253 hms.1 h28 dX13_readUnary_105 rfl ?_
              refine V.dup2_11 dX13_readUnary_108 rfl rfl ?_
              refine V.ialde (j := r) (hms.2.1 3 (by decide)) rfl (by omega) (h3u) dX13_readUnary_109 ?_
              refine V.iconst (1) dX13_readUnary_110 (by decide) ?_
              refine V.iaddN (u) (1) rfl rfl dX13_readUnary_111 ?_
              refine V.iastk (j := r) (hms.2.1 3 (by decide)) rfl (by omega) dX13_readUnary_112 (fun hh116 ehh116 => ?_)
              have hFhh116 := Fr1I ehh116
              have hfrh116 := hfr.tr (hFhh116.mono (rG_mc (fun k h1 h2 => (rG_tl (rG_tl (rG_hd (by omega) (by omega))))) rG_mn))
              have hmsh116 := hms.fr hfrh116
              have f117 := hI_ps ehh116
              refine V.iload_n dX13_readUnary_113 rfl ?_
              refine V.if_eqB 198 dX13_readUnary_114 (by decide) (fun c114 => absurd c82 c114) (fun c114 => ?_)
              refine V.aload_n dX13_readUnary_117 rfl ?_
              refine V.dup dX13_readUnary_118 rfl ?_
              have f118 := hFhh116.I (rG_na (am_0n (by decide)) rG_nn) h31
              refine V.getIe fl_X13_266 hmsh116.1 f118 dX13_readUnary_119 rfl ?_
              refine V.iconst (1) dX13_readUnary_122 (by decide) ?_
              refine V.iaddN (opn P) (1) rfl rfl dX13_readUnary_123 ?_
              refine V.putIk fl_X13_266 hmsh116.1 dX13_readUnary_124 rfl rfl rfl (fun hh119 ehh119 => ?_)
              have hFhh119 := Fr1I ehh119
              have hfrh119 := hfrh116.tr (hFhh119.mono (rG_mc (fun k h1 h2 => (rG_tl (rG_hd (by omega) (by omega)))) rG_mn))
              have hmsh119 := hms.fr hfrh119
              have f120 := hI_ps ehh119
              refine V.aload_n dX13_readUnary_127 rfl ?_
              refine V.getr fl_X13_67 hmsh119.1 (hmsh119.2.2 (29, 18) (by decide)) dX13_readUnary_128 rfl ?_
              refine V.aload_n dX13_readUnary_131 rfl ?_
              have f121 := hFhh116.I (rG_na (am_0n (by decide)) rG_nn) h30
              have f122 := hFhh119.I (rG_nl (by decide) rG_nn) f121
              refine V.getIe fl_X13_256 hmsh119.1 f122 dX13_readUnary_132 rfl ?_
              refine V.aload_n dX13_readUnary_135 rfl ?_
              refine V.bipush (40) dX13_readUnary_136 (by decide) ?_
              have f123 := mt.fr hFhh116 (fun k h1 h2 => (rG_na (am_0n (by decide)) rG_nn))
              have f124 := f123.fr hFhh119 (fun k h1 h2 => (rG_nk (by omega) rG_nn))
              refine V.callV (m_isSign (d := 0) hmsh119 hb f124 40 (by decide)) mv_X13_244 ok_Y13_isSign hmsh119.1 rfl rfl (by omega) (Nat.le_of_ble_eq_true rfl) dX13_readUnary_138 rfl (fun rv uu hq hqn hqk => ?_) (fun _ _ hq _ _ => hq.elim)
              obtain ⟨rfl, hu⟩ := hq
              rw [hu]
              show V _ _ _ _ _ _ _ _ (.int _ :: _)
              refine V.if_eqB 149 dX13_readUnary_141 (by decide) (fun c141 => ?_) (fun c141 => ?_)
              · refine V.sipush (1000) dX13_readUnary_149 (by decide) ?_
                refine V.iastk (j := P.length) (hmsh119.2.1 18 (by decide)) rfl (by omega) dX13_readUnary_152 (fun hh125 ehh125 => ?_)
                have hFhh125 := Fr1I ehh125
                have hfrh125 := hfrh119.tr (hFhh125.mono (rG_mc (fun k h1 h2 => (rG_tl (rG_tl (rG_tl (rG_tl (rG_tl (rG_tl (rG_tl (rG_hd (by omega) (by omega)))))))))) rG_mn))
                have hmsh125 := hms.fr hfrh125
                have f126 := hI_ps ehh125
                refine V.aload_n dX13_readUnary_153 rfl ?_
                refine V.dup dX13_readUnary_154 rfl ?_
                have f127 := hFhh125.I (rG_na (am_0n (by decide)) rG_nn) f122
                refine V.getIe fl_X13_256 hmsh125.1 f127 dX13_readUnary_155 rfl ?_
                refine V.iconst (1) dX13_readUnary_158 (by decide) ?_
                refine V.iaddN (P.length) (1) rfl rfl dX13_readUnary_159 ?_
                refine V.putIk fl_X13_256 hmsh125.1 dX13_readUnary_160 rfl rfl rfl (fun hh128 ehh128 => ?_)
                have hFhh128 := Fr1I ehh128
                have hfrh128 := hfrh125.tr (hFhh128.mono (rG_mc (fun k h1 h2 => (rG_tl (rG_hd (by omega) (by omega)))) rG_mn))
                have hmsh128 := hms.fr hfrh128
                have f129 := hI_ps ehh128
                refine V.aload_n dX13_readUnary_163 rfl ?_
                refine V.bipush (40) dX13_readUnary_164 (by decide) ?_
                have f130 := f124.fr hFhh125 (fun k h1 h2 => (rG_na (am_0n (by decide)) rG_nn))
                have f131 := f130.fr hFhh128 (fun k h1 h2 => (rG_nk (by omega) rG_nn))
                refine V.callV (m_isSign (d := 0) hmsh128 hb f131 40 (by decide)) mv_X13_244 ok_Y13_isSign hmsh128.1 rfl rfl (by omega) (Nat.le_of_ble_eq_true rfl) dX13_readUnary_166 rfl (fun rv uu hq hqn hqk => ?_) (fun _ _ hq _ _ => hq.elim)
                obtain ⟨rfl, hu⟩ := hq
                rw [hu]
                show V _ _ _ _ _ _ _ _ (.int _ :: _)
                refine V.if_eqB 192 dX13_readUnary_169 (by decide) (fun c169 => ?_) (fun c169 => absurd c169 (by omega))
                refine V.aload_n dX13_readUnary_192 rfl ?_
                have f132 := ht.fr hFhh116 (rG_na (am_0n (by decide)) rG_nn) (fun j => (rG_na (am_ne (by decide)) rG_nn))
                have f133 := f132.fr hFhh119 (rG_nl (by decide) rG_nn) (fun j => (rG_na (am_n0 (by decide)) rG_nn))
                have f134 := f133.fr hFhh125 (rG_na (am_0n (by decide)) rG_nn) (fun j => (rG_na (am_ne (by decide)) rG_nn))
                have f135 := f134.fr hFhh128 (rG_nl (by decide) rG_nn) (fun j => (rG_na (am_n0 (by decide)) rG_nn))
                refine V.callV (m_nextR hmsh128 f135 (tE b n p) (by omega) f131.2.2.1) mv_X13_250 ok_Y13_next hmsh128.1 rfl rfl (by omega) (Nat.le_of_ble_eq_true rfl) dX13_readUnary_193 rfl (fun rv hh136 hq hqn hqk => ?_) (fun _ _ hq _ _ => hq.elim)
                obtain ⟨rfl, hFhh136, mthh136⟩ := hq
                have hfrh136 := hfrh128.tr (hFhh136.mono (rG_mc (fun k h1 h2 => (rG_hd (by omega) (by omega))) rG_mn))
                have hmsh136 := hms.fr hfrh136
                refine V.iconst (1) dX13_readUnary_196 (by decide) ?_
                have f137 := hFhh116.I (rG_na (am_ne (by decide)) rG_nn) hac
                have f138 := hFhh119.I (rG_na (am_n0 (by decide)) rG_nn) f137
                have f139 := hFhh125.I (rG_na (am_ne (by decide)) rG_nn) f138
                have f140 := hFhh128.I (rG_na (am_n0 (by decide)) rG_nn) f139
                have f141 := hFhh136.I (rG_na (am_n0 (by decide)) rG_nn) f140
                have f142 := hFhh128.I (rG_na (am_n0 (by decide)) rG_nn) f126
                have f143 := hFhh136.I (rG_na (am_n0 (by decide)) rG_nn) f142
                have f144 := hpl.fr hFhh116 (fun i hi => (rG_na (am_ne (by decide)) rG_nn))
                have f145 := f144.fr hFhh119 (fun i hi => (rG_na (am_n0 (by decide)) rG_nn))
                have f146 := f145.fr hFhh125 (fun i hi => (rG_nk (by omega) rG_nn))
                have f147 := f146.fr hFhh128 (fun i hi => (rG_na (am_n0 (by decide)) rG_nn))
                have f148 := f147.fr hFhh136 (fun i hi => (rG_na (am_n0 (by decide)) rG_nn))
                have f149 := hcm.fr hFhh116 (fun i hi => (rG_na (am_ne (by decide)) rG_nn))
                have f150 := f149.fr hFhh119 (fun i hi => (rG_na (am_n0 (by decide)) rG_nn))
                have f151 := f150.fr hFhh125 (fun i hi => (rG_na (am_ne (by decide)) rG_nn))
                have f152 := f151.fr hFhh128 (fun i hi => (rG_na (am_n0 (by decide)) rG_nn))
                have f153 := f152.fr hFhh136 (fun i hi => (rG_na (am_n0 (by decide)) rG_nn))
                have f154 := hFhh125.I (rG_na (am_0n (by decide)) rG_nn) f120
                have f155 := hFhh128.I (rG_nh (by decide) rG_nn) f154
                have f156 := hFhh136.I (rG_nh (by decide) rG_nn) f155
                have f157 := hFhh116.I (rG_na (am_0n (by decide)) rG_nn) h33
                have f158 := hFhh119.I (rG_nh (by decide) rG_nn) f157
                have f159 := hFhh125.I (rG_na (am_0n (by decide)) rG_nn) f158
                have f160 := hFhh128.I (rG_nh (by decide) rG_nn) f159
                have f161 := hFhh136.I (rG_nh (by decide) rG_nn) f160
                have f162 := hFhh116.I (rG_na (am_0n (by decide)) rG_nn) h28
                have f163 := hFhh119.I (rG_nl (by decide) rG_nn) f162
                have f164 := hFhh125.I (rG_na (am_0n (by decide)) rG_nn) f163
                have f165 := hFhh128.I (rG_nl (by decide) rG_nn) f164
                have f166 := hFhh136.I (rG_nh (by decide) rG_nn) f165
                have f167 := hAC.fr hFhh116 (fun j h1 h2 => ⟨(rG_na (am_ne (by decide)) rG_nn), (rG_na (am_ne (by decide)) rG_nn), (rG_na (am_ne (by decide)) rG_nn)⟩)
                have f168 := f167.fr hFhh119 (fun j h1 h2 => ⟨(rG_na (am_n0 (by decide)) rG_nn), (rG_na (am_n0 (by decide)) rG_nn), (rG_na (am_n0 (by decide)) rG_nn)⟩)
                have f169 := f168.fr hFhh125 (fun j h1 h2 => ⟨(rG_na (am_ne (by decide)) rG_nn), (rG_na (am_ne (by decide)) rG_nn), (rG_na (am_ne (by decide)) rG_nn)⟩)
                have f170 := f169.fr hFhh128 (fun j h1 h2 => ⟨(rG_na (am_n0 (by decide)) rG_nn), (rG_na (am_n0 (by decide)) rG_nn), (rG_na (am_n0 (by decide)) rG_nn)⟩)
                have f171 := f170.fr hFhh136 (fun j h1 h2 => ⟨(rG_na (am_n0 (by decide)) rG_nn), (rG_na (am_n0 (by decide)) rG_nn), (rG_na (am_n0 (by decide)) rG_nn)⟩)
                have f172 := hFhh136.I (rG_nh (by decide) rG_nn) f129
                have f173 := hFhh119.I (rG_na (am_n0 (by decide)) rG_nn) f117
                have f174 := hFhh125.I (rG_na (am_ne (by decide)) rG_nn) f173
                have f175 := hFhh128.I (rG_na (am_n0 (by decide)) rG_nn) f174
                have f176 := hFhh136.I (rG_na (am_n0 (by decide)) rG_nn) f175
                have f177 := hFhh116.I (rG_na (am_0n (by decide)) rG_nn) hbad
                have f178 := hFhh119.I (rG_nl (by decide) rG_nn) f177
                have f179 := hFhh125.I (rG_na (am_0n (by decide)) rG_nn) f178
                have f180 := hFhh128.I (rG_nl (by decide) rG_nn) f179
                have f181 := hFhh136.I (rG_nh (by decide) rG_nn) f180
                have f182 := hFhh116.I (rG_na (am_0n (by decide)) rG_nn) (rfl : hI h m 10 = hI h m 10)
                have f183 := hFhh119.I (rG_nl (by decide) rG_nn) f182
                have f184 := hFhh125.I (rG_na (am_0n (by decide)) rG_nn) f183
                have f185 := hFhh128.I (rG_nl (by decide) rG_nn) f184
                have f186 := hFhh136.I (rG_nh (by decide) rG_nn) f185
                exact V.ireturn dX13_readUnary_197 rfl rfl (⟨_, rfl, hfrh136, 0, tE b n p, u + 1, 1000 :: P, cs, o, Rc.st (est_min (by omega) c78 (fun z => c91 z)), ⟨mthh136, f166, f141, f171, f172, ⟨f143, f148⟩, by rw [opn, if_pos (Or.inr rfl)]; exact f156, by rw [lvl, if_neg (by decide)]; exact f161, f153, f176⟩, Or.inl ⟨rfl, rfl, f181, f186, tE_gt (by omega)⟩⟩)
              · refine V.bipush (40) dX13_readUnary_144 (by decide) ?_
                refine V.goto 152 dX13_readUnary_146 (by decide) ?_
                refine V.iastk (j := P.length) (hmsh119.2.1 18 (by decide)) rfl (by omega) dX13_readUnary_152 (fun hh187 ehh187 => ?_)
                have hFhh187 := Fr1I ehh187
                have hfrh187 := hfrh119.tr (hFhh187.mono (rG_mc (fun k h1 h2 => (rG_tl (rG_tl (rG_tl (rG_tl (rG_tl (rG_tl (rG_tl (rG_hd (by omega) (by omega)))))))))) rG_mn))
                have hmsh187 := hms.fr hfrh187
                have f188 := hI_ps ehh187
                refine V.aload_n dX13_readUnary_153 rfl ?_
                refine V.dup dX13_readUnary_154 rfl ?_
                have f189 := hFhh187.I (rG_na (am_0n (by decide)) rG_nn) f122
                refine V.getIe fl_X13_256 hmsh187.1 f189 dX13_readUnary_155 rfl ?_
                refine V.iconst (1) dX13_readUnary_158 (by decide) ?_
                refine V.iaddN (P.length) (1) rfl rfl dX13_readUnary_159 ?_
                refine V.putIk fl_X13_256 hmsh187.1 dX13_readUnary_160 rfl rfl rfl (fun hh190 ehh190 => ?_)
                have hFhh190 := Fr1I ehh190
                have hfrh190 := hfrh187.tr (hFhh190.mono (rG_mc (fun k h1 h2 => (rG_tl (rG_hd (by omega) (by omega)))) rG_mn))
                have hmsh190 := hms.fr hfrh190
                have f191 := hI_ps ehh190
                refine V.aload_n dX13_readUnary_163 rfl ?_
                refine V.bipush (40) dX13_readUnary_164 (by decide) ?_
                have f192 := f124.fr hFhh187 (fun k h1 h2 => (rG_na (am_0n (by decide)) rG_nn))
                have f193 := f192.fr hFhh190 (fun k h1 h2 => (rG_nk (by omega) rG_nn))
                refine V.callV (m_isSign (d := 0) hmsh190 hb f193 40 (by decide)) mv_X13_244 ok_Y13_isSign hmsh190.1 rfl rfl (by omega) (Nat.le_of_ble_eq_true rfl) dX13_readUnary_166 rfl (fun rv uu hq hqn hqk => ?_) (fun _ _ hq _ _ => hq.elim)
                obtain ⟨rfl, hu⟩ := hq
                rw [hu]
                show V _ _ _ _ _ _ _ _ (.int _ :: _)
                refine V.if_eqB 192 dX13_readUnary_169 (by decide) (fun c169 => absurd (show tC b n p = 100 + 40 by omega) c169) (fun c169 => ?_)
                refine V.aload_n dX13_readUnary_172 rfl ?_
                refine V.dup dX13_readUnary_173 rfl ?_
                have f194 := hFhh116.I (rG_na (am_0n (by decide)) rG_nn) h33
                have f195 := hFhh119.I (rG_nh (by decide) rG_nn) f194
                have f196 := hFhh187.I (rG_na (am_0n (by decide)) rG_nn) f195
                have f197 := hFhh190.I (rG_nh (by decide) rG_nn) f196
                refine V.getIe fl_X13_269 hmsh190.1 f197 dX13_readUnary_174 rfl ?_
                refine V.iconst (1) dX13_readUnary_177 (by decide) ?_
                refine V.iaddN (lvl P) (1) rfl rfl dX13_readUnary_178 ?_
                refine V.putIk fl_X13_269 hmsh190.1 dX13_readUnary_179 rfl rfl rfl (fun hh198 ehh198 => ?_)
                have hFhh198 := Fr1I ehh198
                have hfrh198 := hfrh190.tr (hFhh198.mono (rG_mc (fun k h1 h2 => (rG_tl (rG_hd (by omega) (by omega)))) rG_mn))
                have hmsh198 := hms.fr hfrh198
                have f199 := hI_ps ehh198
                refine V.aload_n dX13_readUnary_182 rfl ?_
                refine V.getr fl_X13_70 hmsh198.1 (hmsh198.2.2 (32, 19) (by decide)) dX13_readUnary_183 rfl ?_
                refine V.aload_n dX13_readUnary_186 rfl ?_
                refine V.getIe fl_X13_269 hmsh198.1 f199 dX13_readUnary_187 rfl ?_
                refine V.iconst (0) dX13_readUnary_190 (by decide) ?_
                refine V.zastk (j := lvl P + 1) (hmsh198.2.1 19 (by decide)) rfl (by omega) (by decide) dX13_readUnary_191 (fun hh200 ehh200 => ?_)
                have hFhh200 := Fr1I ehh200
                have hfrh200 := hfrh198.tr (hFhh200.mono (rG_mc (fun k h1 h2 => (rG_tl (rG_tl (rG_tl (rG_tl (rG_tl (rG_tl (rG_tl (rG_tl (rG_hd (by omega) (by omega))))))))))) rG_mn))
                have hmsh200 := hms.fr hfrh200
                have f201 := hI_ps ehh200
                refine V.aload_n dX13_readUnary_192 rfl ?_
                have f202 := f193.fr hFhh198 (fun k h1 h2 => (rG_nk (by omega) rG_nn))
                have f203 := f202.fr hFhh200 (fun k h1 h2 => (rG_na (am_0n (by decide)) rG_nn))
                have f204 := ht.fr hFhh116 (rG_na (am_0n (by decide)) rG_nn) (fun j => (rG_na (am_ne (by decide)) rG_nn))
                have f205 := f204.fr hFhh119 (rG_nl (by decide) rG_nn) (fun j => (rG_na (am_n0 (by decide)) rG_nn))
                have f206 := f205.fr hFhh187 (rG_na (am_0n (by decide)) rG_nn) (fun j => (rG_na (am_ne (by decide)) rG_nn))
                have f207 := f206.fr hFhh190 (rG_nl (by decide) rG_nn) (fun j => (rG_na (am_n0 (by decide)) rG_nn))
                have f208 := f207.fr hFhh198 (rG_nl (by decide) rG_nn) (fun j => (rG_na (am_n0 (by decide)) rG_nn))
                have f209 := f208.fr hFhh200 (rG_na (am_0n (by decide)) rG_nn) (fun j => (rG_na (am_ne (by decide)) rG_nn))
                refine V.callV (m_nextR hmsh200 f209 (tE b n p) (by omega) f203.2.2.1) mv_X13_250 ok_Y13_next hmsh200.1 rfl rfl (by omega) (Nat.le_of_ble_eq_true rfl) dX13_readUnary_193 rfl (fun rv hh210 hq hqn hqk => ?_) (fun _ _ hq _ _ => hq.elim)
                obtain ⟨rfl, hFhh210, mthh210⟩ := hq
                have hfrh210 := hfrh200.tr (hFhh210.mono (rG_mc (fun k h1 h2 => (rG_hd (by omega) (by omega))) rG_mn))
                have hmsh210 := hms.fr hfrh210
                refine V.iconst (1) dX13_readUnary_196 (by decide) ?_
                have f211 := hFhh116.I (rG_na (am_ne (by decide)) rG_nn) hac
                have f212 := hFhh119.I (rG_na (am_n0 (by decide)) rG_nn) f211
                have f213 := hFhh187.I (rG_na (am_ne (by decide)) rG_nn) f212
                have f214 := hFhh190.I (rG_na (am_n0 (by decide)) rG_nn) f213
                have f215 := hFhh198.I (rG_na (am_n0 (by decide)) rG_nn) f214
                have f216 := hFhh200.I (rG_na (am_ne (by decide)) rG_nn) f215
                have f217 := hFhh210.I (rG_na (am_n0 (by decide)) rG_nn) f216
                have f218 := hFhh190.I (rG_na (am_n0 (by decide)) rG_nn) f188
                have f219 := hFhh198.I (rG_na (am_n0 (by decide)) rG_nn) f218
                have f220 := hFhh200.I (rG_na (am_ne (by decide)) rG_nn) f219
                have f221 := hFhh210.I (rG_na (am_n0 (by decide)) rG_nn) f220
                have f222 := hpl.fr hFhh116 (fun i hi => (rG_na (am_ne (by decide)) rG_nn))
                have f223 := f222.fr hFhh119 (fun i hi => (rG_na (am_n0 (by decide)) rG_nn))
                have f224 := f223.fr hFhh187 (fun i hi => (rG_nk (by omega) rG_nn))
                have f225 := f224.fr hFhh190 (fun i hi => (rG_na (am_n0 (by decide)) rG_nn))
                have f226 := f225.fr hFhh198 (fun i hi => (rG_na (am_n0 (by decide)) rG_nn))
                have f227 := f226.fr hFhh200 (fun i hi => (rG_na (am_ne (by decide)) rG_nn))
                have f228 := f227.fr hFhh210 (fun i hi => (rG_na (am_n0 (by decide)) rG_nn))
                have f229 := hFhh210.I (rG_na (am_n0 (by decide)) rG_nn) f201
                have f230 := hcm.fr hFhh116 (fun i hi => (rG_na (am_ne (by decide)) rG_nn))
                have f231 := f230.fr hFhh119 (fun i hi => (rG_na (am_n0 (by decide)) rG_nn))
                have f232 := f231.fr hFhh187 (fun i hi => (rG_na (am_ne (by decide)) rG_nn))
                have f233 := f232.fr hFhh190 (fun i hi => (rG_na (am_n0 (by decide)) rG_nn))
                have f234 := f233.fr hFhh198 (fun i hi => (rG_na (am_n0 (by decide)) rG_nn))
                have f235 := f234.fr hFhh200 (fun i hi => (rG_nk (by omega) rG_nn))
                have f236 := f235.fr hFhh210 (fun i hi => (rG_na (am_n0 (by decide)) rG_nn))
                have f237 := hFhh187.I (rG_na (am_0n (by decide)) rG_nn) f120
                have f238 := hFhh190.I (rG_nh (by decide) rG_nn) f237
                have f239 := hFhh198.I (rG_nl (by decide) rG_nn) f238
                have f240 := hFhh200.I (rG_na (am_0n (by decide)) rG_nn) f239
                have f241 := hFhh210.I (rG_nh (by decide) rG_nn) f240
                have f242 := hFhh200.I (rG_na (am_0n (by decide)) rG_nn) f199
                have f243 := hFhh210.I (rG_nh (by decide) rG_nn) f242
                have f244 := hFhh116.I (rG_na (am_0n (by decide)) rG_nn) h28
                have f245 := hFhh119.I (rG_nl (by decide) rG_nn) f244
                have f246 := hFhh187.I (rG_na (am_0n (by decide)) rG_nn) f245
                have f247 := hFhh190.I (rG_nl (by decide) rG_nn) f246
                have f248 := hFhh198.I (rG_nl (by decide) rG_nn) f247
                have f249 := hFhh200.I (rG_na (am_0n (by decide)) rG_nn) f248
                have f250 := hFhh210.I (rG_nh (by decide) rG_nn) f249
                have f251 := hAC.fr hFhh116 (fun j h1 h2 => ⟨(rG_na (am_ne (by decide)) rG_nn), (rG_na (am_ne (by decide)) rG_nn), (rG_na (am_ne (by decide)) rG_nn)⟩)
                have f252 := f251.fr hFhh119 (fun j h1 h2 => ⟨(rG_na (am_n0 (by decide)) rG_nn), (rG_na (am_n0 (by decide)) rG_nn), (rG_na (am_n0 (by decide)) rG_nn)⟩)
                have f253 := f252.fr hFhh187 (fun j h1 h2 => ⟨(rG_na (am_ne (by decide)) rG_nn), (rG_na (am_ne (by decide)) rG_nn), (rG_na (am_ne (by decide)) rG_nn)⟩)
                have f254 := f253.fr hFhh190 (fun j h1 h2 => ⟨(rG_na (am_n0 (by decide)) rG_nn), (rG_na (am_n0 (by decide)) rG_nn), (rG_na (am_n0 (by decide)) rG_nn)⟩)
                have f255 := f254.fr hFhh198 (fun j h1 h2 => ⟨(rG_na (am_n0 (by decide)) rG_nn), (rG_na (am_n0 (by decide)) rG_nn), (rG_na (am_n0 (by decide)) rG_nn)⟩)
                have f256 := f255.fr hFhh200 (fun j h1 h2 => ⟨(rG_na (am_ne (by decide)) rG_nn), (rG_na (am_ne (by decide)) rG_nn), (rG_na (am_ne (by decide)) rG_nn)⟩)
                have f257 := f256.fr hFhh210 (fun j h1 h2 => ⟨(rG_na (am_n0 (by decide)) rG_nn), (rG_na (am_n0 (by decide)) rG_nn), (rG_na (am_n0 (by decide)) rG_nn)⟩)
                have f258 := hFhh198.I (rG_nl (by decide) rG_nn) f191
                have f259 := hFhh200.I (rG_na (am_0n (by decide)) rG_nn) f258
                have f260 := hFhh210.I (rG_nh (by decide) rG_nn) f259
                have f261 := hFhh119.I (rG_na (am_n0 (by decide)) rG_nn) f117
                have f262 := hFhh187.I (rG_na (am_ne (by decide)) rG_nn) f261
                have f263 := hFhh190.I (rG_na (am_n0 (by decide)) rG_nn) f262
                have f264 := hFhh198.I (rG_na (am_n0 (by decide)) rG_nn) f263
                have f265 := hFhh200.I (rG_na (am_ne (by decide)) rG_nn) f264
                have f266 := hFhh210.I (rG_na (am_n0 (by decide)) rG_nn) f265
                have f267 := hFhh116.I (rG_na (am_0n (by decide)) rG_nn) hbad
                have f268 := hFhh119.I (rG_nl (by decide) rG_nn) f267
                have f269 := hFhh187.I (rG_na (am_0n (by decide)) rG_nn) f268
                have f270 := hFhh190.I (rG_nl (by decide) rG_nn) f269
                have f271 := hFhh198.I (rG_nl (by decide) rG_nn) f270
                have f272 := hFhh200.I (rG_na (am_0n (by decide)) rG_nn) f271
                have f273 := hFhh210.I (rG_nh (by decide) rG_nn) f272
                have f274 := hFhh116.I (rG_na (am_0n (by decide)) rG_nn) (rfl : hI h m 10 = hI h m 10)
                have f275 := hFhh119.I (rG_nl (by decide) rG_nn) f274
                have f276 := hFhh187.I (rG_na (am_0n (by decide)) rG_nn) f275
                have f277 := hFhh190.I (rG_nl (by decide) rG_nn) f276
                have f278 := hFhh198.I (rG_nl (by decide) rG_nn) f277
                have f279 := hFhh200.I (rG_na (am_0n (by decide)) rG_nn) f278
                have f280 := hFhh210.I (rG_nh (by decide) rG_nn) f279
                exact V.ireturn dX13_readUnary_197 rfl rfl (⟨_, rfl, hfrh210, 0, tE b n p, u + 1, 40 :: P, false :: cs, o, Rc.st (est_par (by omega) c78 (fun z => c91 z)), ⟨mthh210, f250, f217, f257, f260, ⟨f221, f228⟩, by rw [opn, if_pos (Or.inl rfl)]; exact f241, by rw [lvl, if_pos rfl]; exact f243, ⟨by rw [bI_f (by decide)]; rw [hcsl]; exact f229, f236⟩, f266⟩, Or.inl ⟨rfl, rfl, f273, f280, tE_gt (by omega)⟩⟩)
            · refine V.aload_n dX13_readUnary_94 rfl ?_
              refine V.callV (m_misplaced (d := 0) hms mt hbad) mv_X13_247 ok_Y13_misplaced hms.1 rfl rfl (by omega) (Nat.le_of_ble_eq_true rfl) dX13_readUnary_95 rfl (fun rv hh281 hq hqn hqk => ?_) (fun _ _ hq _ _ => hq.elim)
              obtain ⟨rfl, hFhh281, q9hh281, q10hh281⟩ := hq
              have hfrh281 := hfr.tr (hFhh281.mono (rG_mc (fun k h1 h2 => (rG_hd (by omega) (by omega))) rG_mn))
              have hmsh281 := hms.fr hfrh281
              refine V.iconst (0) dX13_readUnary_98 (by decide) ?_
              have f282 := hFhh281.I (rG_na (am_n0 (by decide)) rG_nn) hac
              have f283 := mt.fr hFhh281 (fun k h1 h2 => (rG_nk (by omega) rG_nn))
              have f284 := hFhh281.I (rG_nh (by decide) rG_nn) h28
              have f285 := hAC.fr hFhh281 (fun j h1 h2 => ⟨(rG_na (am_n0 (by decide)) rG_nn), (rG_na (am_n0 (by decide)) rG_nn), (rG_na (am_n0 (by decide)) rG_nn)⟩)
              have f286 := hFhh281.I (rG_nh (by decide) rG_nn) h30
              have f287 := hpl.fr hFhh281 (fun i hi => (rG_na (am_n0 (by decide)) rG_nn))
              have f288 := hFhh281.I (rG_nh (by decide) rG_nn) h31
              have f289 := hFhh281.I (rG_nh (by decide) rG_nn) h33
              have f290 := hcm.fr hFhh281 (fun i hi => (rG_na (am_n0 (by decide)) rG_nn))
              have f291 := hFhh281.I (rG_na (am_n0 (by decide)) rG_nn) h3u
              exact V.ireturn dX13_readUnary_99 rfl rfl (⟨_, rfl, hfrh281, 4, p, u, P, cs, o, Rc.st (est_bad (Or.inr (Or.inr ⟨c82, c91⟩))), ⟨f283, f284, f282, f285, f286, f287, f288, f289, f290, f291⟩, Or.inr (Or.inr ⟨rfl, rfl, q9hh281, q10hh281⟩)⟩)
    refine V.iload_n dX13_readUnary_24 rfl ?_
    refine V.if_neB 57 dX13_readUnary_25 (by decide) (fun c25 => ?_) (fun c25 => ?_)
    · refine V.iconst (1) dX13_readUnary_57 (by decide) ?_
      refine V.goto 62 dX13_readUnary_58 (by decide) ?_
      exact V.to J62 rfl rfl (by rw [bI_t (Or.inl c25)]; try rfl)
    · refine V.aload_n dX13_readUnary_28 rfl ?_
      refine V.getIe fl_X13_209 hms.1 mt.1 dX13_readUnary_29 rfl ?_
      refine V.iconst (3) dX13_readUnary_32 (by decide) ?_
      refine V.icmp_eqN (mtk (tC b n p)) (3) rfl rfl (by omega) (by omega) 57 dX13_readUnary_33 (by decide) (fun c33 => ?_) (fun c33 => ?_)
      · refine V.iconst (1) dX13_readUnary_57 (by decide) ?_
        refine V.goto 62 dX13_readUnary_58 (by decide) ?_
        exact V.to J62 rfl rfl (by rw [bI_t (Or.inr (Or.inl (by omega)))]; try rfl)
      · refine V.aload_n dX13_readUnary_36 rfl ?_
        refine V.getIe fl_X13_209 hms.1 mt.1 dX13_readUnary_37 rfl ?_
        refine V.iconst (2) dX13_readUnary_40 (by decide) ?_
        refine V.icmp_neN (mtk (tC b n p)) (2) rfl rfl (by omega) (by omega) 61 dX13_readUnary_41 (by decide) (fun c41 => ?_) (fun c41 => ?_)
        · refine V.iconst (0) dX13_readUnary_61 (by decide) ?_
          exact V.to J62 rfl rfl (by rw [bI_f (fun z => by rcases z with z | z | z <;> omega)]; try rfl)
        · refine V.iload_n dX13_readUnary_44 rfl ?_
          refine V.if_eqB 57 dX13_readUnary_45 (by decide) (fun c45 => ?_) (fun c45 => ?_)
          · refine V.iconst (1) dX13_readUnary_57 (by decide) ?_
            refine V.goto 62 dX13_readUnary_58 (by decide) ?_
            exact V.to J62 rfl rfl (by rw [bI_t (Or.inr (Or.inr ⟨by omega, fun z => c45 z.1⟩))]; try rfl)
          · have hlt := mt.2.2.2.2.1 (by omega)
            have hl26 := tLt_lt (b := b) (n := n) (p := p) (by omega)
            refine V.aload_n dX13_readUnary_48 rfl ?_
            refine V.getIe fl_X13_216 hms.1 hlt dX13_readUnary_49 rfl ?_
            refine V.bipush (16) dX13_readUnary_52 (by decide) ?_
            refine V.icmp_geN (tLt b n p) (16) rfl rfl (by omega) (by omega) 61 dX13_readUnary_54 (by decide) (fun c54 => ?_) (fun c54 => ?_)
            · refine V.iconst (0) dX13_readUnary_61 (by decide) ?_
              exact V.to J62 rfl rfl (by rw [bI_f (fun z => by rcases z with z | z | z <;> first | omega | exact z.2 ⟨c45, c54⟩)]; try rfl)
            · refine V.iconst (1) dX13_readUnary_57 (by decide) ?_
              refine V.goto 62 dX13_readUnary_58 (by decide) ?_
              exact V.to J62 rfl rfl (by rw [bI_t (Or.inr (Or.inr ⟨by omega, fun z => by omega⟩))]; try rfl)
  refine V.aload_n dX13_readUnary_0 rfl ?_
  refine V.bipush (45) dX13_readUnary_1 (by decide) ?_
  refine V.callV (m_isSign (d := 0) hms hb mt 45 (by decide)) mv_X13_244 ok_Y13_isSign hms.1 rfl rfl (by omega) (Nat.le_of_ble_eq_true rfl) dX13_readUnary_3 rfl (fun rv uu hq hqn hqk => ?_) (fun _ _ hq _ _ => hq.elim)
  obtain ⟨rfl, hu⟩ := hq
  rw [hu]
  show V _ _ _ _ _ _ _ _ (.int _ :: _)
  refine V.if_neB 18 dX13_readUnary_6 (by decide) (fun c6 => ?_) (fun c6 => ?_)
  · refine V.iconst (1) dX13_readUnary_18 (by decide) ?_
    refine V.goto 23 dX13_readUnary_19 (by decide) ?_
    exact V.to J23 rfl rfl (by first | (rw [bI_t (by omega)]; try rfl) | (rw [bI_f (by omega)]; try rfl))
  · refine V.aload_n dX13_readUnary_9 rfl ?_
    refine V.bipush (40) dX13_readUnary_10 (by decide) ?_
    refine V.callV (m_isSign (d := 0) hms hb mt 40 (by decide)) mv_X13_244 ok_Y13_isSign hms.1 rfl rfl (by omega) (Nat.le_of_ble_eq_true rfl) dX13_readUnary_12 rfl (fun rv uu hq hqn hqk => ?_) (fun _ _ hq _ _ => hq.elim)
    obtain ⟨rfl, hu⟩ := hq
    rw [hu]
    show V _ _ _ _ _ _ _ _ (.int _ :: _)
    refine V.if_eqB 22 dX13_readUnary_15 (by decide) (fun c15 => ?_) (fun c15 => ?_)
    · refine V.iconst (0) dX13_readUnary_22 (by decide) ?_
      exact V.to J23 rfl rfl (by first | (rw [bI_t (by omega)]; try rfl) | (rw [bI_f (by omega)]; try rfl))
    · refine V.iconst (1) dX13_readUnary_18 (by decide) ?_
      refine V.goto 23 dX13_readUnary_19 (by decide) ?_
      exact V.to J23 rfl rfl (by first | (rw [bI_t (by omega)]; try rfl) | (rw [bI_f (by omega)]; try rfl))
