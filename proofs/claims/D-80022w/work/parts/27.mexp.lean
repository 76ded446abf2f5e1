/-! the model: exp (rows by a program) -/
set_option maxRecDepth 100000
section Est
variable {b : Nat → Nat} {n p u : Nat} {nl : Bool} {P : List Nat} {cs : List Bool} {o : List xAct}
theorem est_cl {Q : List Nat} (h : tC b n p = 141) : est b n nl (1, p, u, 40 :: Q, cs, o) = (2, tE b n p, u, Q, cs.tail, o) := by
  have hl : tC b n p = 141 ∧ 0 < lvl (40 :: Q) := ⟨h, by simp [lvl]⟩
  have hk : ndk (tC b n p) cs (lvl (40 :: Q)) = 1 := by unfold ndk; rw [if_pos hl]
  unfold est
  simp only
  rw [if_neg (by omega), if_neg (by omega), if_pos trivial, if_neg (by rw [hk]; exact (show ¬ 1 ≤ sgs 40 by decide)), if_pos hl]
  rfl
theorem est_opr (h1 : ¬ ndk (tC b n p) cs (lvl P) ≤ tps P) (h : 2 ≤ sgs (tC b n p - 100) ∨ (sgs (tC b n p - 100) = 1 ∧ cs.head? = some false)) : est b n nl (1, p, u, P, cs, o) = (0, tE b n p, u, (tC b n p - 100) :: P, (if sgs (tC b n p - 100) = 1 then true :: cs.tail else cs), o) := by
  unfold est
  simp only
  rw [if_neg (by omega), if_neg (by omega), if_pos trivial, if_neg h1, if_neg (fun z => by rw [z.1] at h; revert h; simp [show sgs (141 - 100) = 0 from by decide]), if_pos h]
theorem est_end (h1 : ¬ ndk (tC b n p) cs (lvl P) ≤ tps P) (h2 : ¬ (tC b n p = 141 ∧ 0 < lvl P)) (h : ¬ (2 ≤ sgs (tC b n p - 100) ∨ (sgs (tC b n p - 100) = 1 ∧ cs.head? = some false))) : est b n nl (1, p, u, P, cs, o) = (if 0 < lvl P then 4 else 3, p, u, P, cs, o) := by
  unfold est
  simp only
  rw [if_neg (by omega), if_neg (by omega), if_pos trivial, if_neg h1, if_neg h2, if_neg h]
  split <;> rfl
theorem red_top (k : Nat) : ∀ P : List Nat, ¬ k ≤ tps (red k P).1 ∨ k = 0 := by
  intro P
  induction P with
  | nil => simp only [red, tps]; omega
  | cons c P ih =>
    simp only [red]
    split
    · exact ih
    · next h => exact Or.inl h
theorem red_mok (k : Nat) (hk : 1 ≤ k) : ∀ P : List Nat, mok P → P.head? ≠ some 1000 → mok (red k P).1 ∧ (red k P).1.head? ≠ some 1000 := by
  intro P
  induction P with
  | nil => intro h h2; exact ⟨h, h2⟩
  | cons c P ih =>
    intro h h2
    simp only [red]
    split
    · next q =>
      have := sgs_op (c := c) (by omega)
      refine ih h.2 ?_
      rcases h.1 with z | z | z
      · exact absurd z this.1
      · exact absurd z this.2.1
      · exact z.2
    · exact ⟨h, h2⟩
end Est
set_option maxHeartbeats 8000000 in
theorem m_exp {G : xG} {m n r a0 p u : Nat} {h : xH} {b : Nat → Nat} {nl : Bool} (hms : MS m (hS h) (hR h)) (ht : TP h m b n) (hr : r < 12) (mt : MT h m b n p) (hbad : hI h m 9 = nI 0) (h28 : hI h m 28 = nI r) (hac : hI h (m + 6) r = nI a0) (h3u : hI h (m + 3) r = nI u) (hpn : p ≤ n) (hu : u ≤ 60) (ha0 : a0 ≤ 2 * u + 40) : AM G Y13_exp (3) h [.ref m, .int (bI (nl = true))] (xInt (fun rv w => rv = nI (200 * r + a0) ∧ Fr (rG (REX m r a0)) h w ∧ ((∃ q p', expF b n nl p u = .inl q ∧ hI w m 9 = nI 1 ∧ hI w m 10 = nI q ∧ MT w m b n p' ∧ p' ≤ n) ∨ (∃ p' u' L, expF b n nl p u = .inr (p', u', L) ∧ hI w m 9 = nI 0 ∧ hI w m 10 = hI h m 10 ∧ MT w m b n p' ∧ hI w (m + 3) r = nI u' ∧ hI w (m + 6) r = nI (a0 + L.length + 1) ∧ AC w m (200 * r + a0) (L ++ [(4, 0, 0)]))))) := by
  refine AM.of (by decide) (Nat.le_of_ble_eq_true rfl) fun X => ?_
  have hb := ht.2.2.2
  have hfr : Fr (rG (REX m r a0)) h h := Fr.rf
  have E1 : ∀ (x3 x4 : Int32) (md p' u' : Nat) (P' : List Nat) (cs' : List Bool) (o' : List xAct) (h0 : xH), Rc b n nl (0, p, u, [], [false], []) (md, p', u', P', cs', o') → Fr (rG (REX m r a0)) h h0 → EXs h0 m b n r a0 p' u' P' cs' o' → hI h0 m 9 = nI 1 → md = 4 → hI h0 m 10 = nI (tS b n p') → V G Y13_exp (3) (xInt (fun rv w => rv = nI (200 * r + a0) ∧ Fr (rG (REX m r a0)) h w ∧ ((∃ q p', expF b n nl p u = .inl q ∧ hI w m 9 = nI 1 ∧ hI w m 10 = nI q ∧ MT w m b n p' ∧ p' ≤ n) ∨ (∃ p' u' L, expF b n nl p u = .inr (p', u', L) ∧ hI w m 9 = nI 0 ∧ hI w m 10 = hI h m 10 ∧ MT w m b n p' ∧ hI w (m + 3) r = nI u' ∧ hI w (m + 6) r = nI (a0 + L.length + 1) ∧ AC w m (200 * r + a0) (L ++ [(4, 0, 0)]))))) X h0 278 [some (.ref (m)), some (.int (bI (nl = true))), some (.int (nI (200 * r + a0))), some (.int (x3)), some (.int (x4)), none] [] := by
    intro x3 x4 md p' u' P' cs' o' h0 hrc hfr0 hE hbad hmd hpl0
    subst hmd
    have hms0 := hms.fr hfr0
    have ht0 := ht.fr hfr0 (rG_nl (by decide) (rG_nl (by decide) (rG_na (am_0n (by decide)) (rG_na (am_0n (by decide)) (rG_na (am_0n (by decide)) (rG_na (am_0n (by decide)) (rG_na (am_0n (by decide)) (rG_na (am_0n (by decide)) (rG_na (am_0n (by decide)) rG_nn))))))))) (fun j => (rG_na (am_n0 (by decide)) (rG_na (am_n0 (by decide)) (rG_na (am_ne (by decide)) (rG_na (am_ne (by decide)) (rG_na (am_ne (by decide)) (rG_na (am_ne (by decide)) (rG_na (am_ne (by decide)) (rG_na (am_ne (by decide)) (rG_na (am_ne (by decide)) rG_nn))))))))))
    obtain ⟨mt, h28, hac, hAC, h30, hpl, h31, h33, hcm, h3u⟩ := hE
    have hi := eI_rc (eI_0 hpn hu) hrc
    obtain ⟨i1, i2, i3, i4, i5, i6, i7, i8, i9, i10, i11, i12, i13, i14⟩ := hi
    have hlo := lvl_opn P'
    have hmc := mok_le i9
    have hm := mtk_c (b := b) (n := n) (p := p') hb
    have hEle := tE_le (b := b) i1
    have hsgl := sgs_le (tC b n p' - 100)
    refine V.aload_n dX13_exp_278 rfl ?_
    refine V.getIe fl_X13_269 hms0.1 h33 dX13_exp_279 rfl ?_
    refine V.if_leN (lvl P') rfl (by omega) 289 dX13_exp_282 (by decide) (fun c282 => ?_) (fun c282 => ?_)
    · refine V.aload_n dX13_exp_289 rfl ?_
      refine V.iconst (1) dX13_exp_290 (by decide) ?_
      refine V.callV (m_reduce (d := 0) (a0 := a0 + o'.length) (P0 := P') (k := 1) hms0 hr h28 hac (by omega) h30 hpl (by omega) hmc hAC (by omega) (by omega) (by omega)) mv_X13_276 ok_Y13_reduce hms0.1 rfl rfl (by omega) (Nat.le_of_ble_eq_true rfl) dX13_exp_291 rfl (fun rv hh1 hq hqn hqk => ?_) (fun _ _ hq _ _ => hq.elim)
      clear hqn hqk
      obtain ⟨rfl, hFhh1, q30hh1, q6hh1, hAChh1⟩ := hq
      have hfrh1 := hfr0.tr (hFhh1.mono (rG_mc (fun k h1 h2 => (rG_tl (rG_hd h1 (Nat.lt_of_lt_of_le h2 (by decide))))) (rG_mc (fun k h1 h2 => (rG_tl (rG_tl (rG_tl (rG_hd h1 h2))))) (rG_mc (fun k h1 h2 => (rG_tl (rG_tl (rG_tl (rG_tl (rG_hd (by omega) h2)))))) (rG_mc (fun k h1 h2 => (rG_tl (rG_tl (rG_tl (rG_tl (rG_tl (rG_hd (by omega) h2))))))) (rG_mc (fun k h1 h2 => (rG_tl (rG_tl (rG_tl (rG_tl (rG_tl (rG_tl (rG_hd (by omega) h2)))))))) rG_mn))))))
      have hmsh1 := hms.fr hfrh1
      have hrlhh1 := red_len (1) P'
      refine V.aload_n dX13_exp_294 rfl ?_
      refine V.iconst (4) dX13_exp_295 (by decide) ?_
      refine V.iconst (-1) dX13_exp_296 (by decide) ?_
      refine V.lconst 0 dX13_exp_297 (by decide) ?_
      have f2 := hFhh1.I (rG_nl (by decide) (rG_na (am_0n (by decide)) (rG_na (am_0n (by decide)) (rG_na (am_0n (by decide)) (rG_na (am_0n (by decide)) rG_nn))))) h28
      refine V.callV (m_act (d := 0) (a := a0 + o'.length + (red 1 P').2.length) hmsh1 hr f2 q6hh1 (by omega) (nI 4) (-1) 0) mv_X13_262 ok_Y13_act hmsh1.1 rfl rfl (by omega) (Nat.le_of_ble_eq_true rfl) dX13_exp_298 rfl (fun rv hh3 hq hqn hqk => ?_) (fun _ _ hq _ _ => hq.elim)
      clear hqn hqk
      obtain ⟨rfl, hFhh3, q6hh3, q15hh3, q16hh3, q17hh3⟩ := hq
      have hfrh3 := hfrh1.tr (hFhh3.mono (rG_mc (fun k h1 h2 => (rG_tl (rG_tl (rG_tl (rG_hd h1 h2))))) (rG_mc (fun k h1 h2 => (rG_tl (rG_tl (rG_tl (rG_tl (rG_hd (by omega) (by omega))))))) (rG_mc (fun k h1 h2 => (rG_tl (rG_tl (rG_tl (rG_tl (rG_tl (rG_hd (by omega) (by omega)))))))) (rG_mc (fun k h1 h2 => (rG_tl (rG_tl (rG_tl (rG_tl (rG_tl (rG_tl (rG_hd (by omega) (by omega))))))))) rG_mn)))))
      have hmsh3 := hms.fr hfrh3
      have hAChh3 : AC hh3 m (200 * r + a0) (o' ++ (red 1 P').2 ++ [(4, 0, 0)]) := hAChh1.push hFhh3 (fun j h1 h2 => by simp only [List.length_append] at h2; exact ⟨(rG_na (am_ne (by decide)) (rG_nk (by omega) (rG_na (am_ne (by decide)) (rG_na (am_ne (by decide)) rG_nn)))), (rG_na (am_ne (by decide)) (rG_na (am_ne (by decide)) (rG_nk (by omega) (rG_na (am_ne (by decide)) rG_nn)))), (rG_na (am_ne (by decide)) (rG_na (am_ne (by decide)) (rG_na (am_ne (by decide)) (rG_nk (by omega) rG_nn))))⟩) (by rw [List.length_append, show 200 * r + a0 + (o'.length + (red 1 P').2.length) = 200 * r + (a0 + o'.length + (red 1 P').2.length) by omega]; exact q15hh3) (fun z => absurd (show (4 : Nat) = 2 from z) (by decide)) (fun z => absurd (show (4 : Nat) = 1 from z) (by decide))
      refine V.iload_n dX13_exp_301 rfl ?_
      have f4 := hFhh1.I (rG_nl (by decide) (rG_na (am_0n (by decide)) (rG_na (am_0n (by decide)) (rG_na (am_0n (by decide)) (rG_na (am_0n (by decide)) rG_nn))))) hbad
      have f5 := hFhh3.I (rG_na (am_0n (by decide)) (rG_na (am_0n (by decide)) (rG_na (am_0n (by decide)) (rG_na (am_0n (by decide)) rG_nn)))) f4
      have f6 := hFhh1.I (rG_nl (by decide) (rG_na (am_0n (by decide)) (rG_na (am_0n (by decide)) (rG_na (am_0n (by decide)) (rG_na (am_0n (by decide)) rG_nn))))) hpl0
      have f7 := hFhh3.I (rG_na (am_0n (by decide)) (rG_na (am_0n (by decide)) (rG_na (am_0n (by decide)) (rG_na (am_0n (by decide)) rG_nn)))) f6
      have f8 := mt.fr hFhh1 (fun k h1 h2 => (rG_nk (by omega) (rG_na (am_0n (by decide)) (rG_na (am_0n (by decide)) (rG_na (am_0n (by decide)) (rG_na (am_0n (by decide)) rG_nn))))))
      have f9 := f8.fr hFhh3 (fun k h1 h2 => (rG_na (am_0n (by decide)) (rG_na (am_0n (by decide)) (rG_na (am_0n (by decide)) (rG_na (am_0n (by decide)) rG_nn)))))
      exact V.ireturn dX13_exp_302 rfl rfl (⟨_, rfl, rfl, hfrh3, Or.inl ⟨_, p', (show expR b n nl p u (.inl (tS b n p')) from ⟨_, _, _, _, _, hrc, rfl⟩).F, f5, f7, f9, i1⟩⟩)
    · refine V.aload_n dX13_exp_285 rfl ?_
      refine V.callV (m_misplaced1 (d := 0) hms0 hbad) mv_X13_247 ok_Y13_misplaced hms0.1 rfl rfl (by omega) (Nat.le_of_ble_eq_true rfl) dX13_exp_286 rfl (fun rv uu hq hqn hqk => ?_) (fun _ _ hq _ _ => hq.elim)
      clear hqn hqk
      obtain ⟨rfl, hu⟩ := hq
      rw [hu]
      refine V.aload_n dX13_exp_289 rfl ?_
      refine V.iconst (1) dX13_exp_290 (by decide) ?_
      refine V.callV (m_reduce (d := 0) (a0 := a0 + o'.length) (P0 := P') (k := 1) hms0 hr h28 hac (by omega) h30 hpl (by omega) hmc hAC (by omega) (by omega) (by omega)) mv_X13_276 ok_Y13_reduce hms0.1 rfl rfl (by omega) (Nat.le_of_ble_eq_true rfl) dX13_exp_291 rfl (fun rv hh10 hq hqn hqk => ?_) (fun _ _ hq _ _ => hq.elim)
      clear hqn hqk
      obtain ⟨rfl, hFhh10, q30hh10, q6hh10, hAChh10⟩ := hq
      have hfrh10 := hfr0.tr (hFhh10.mono (rG_mc (fun k h1 h2 => (rG_tl (rG_hd h1 (Nat.lt_of_lt_of_le h2 (by decide))))) (rG_mc (fun k h1 h2 => (rG_tl (rG_tl (rG_tl (rG_hd h1 h2))))) (rG_mc (fun k h1 h2 => (rG_tl (rG_tl (rG_tl (rG_tl (rG_hd (by omega) h2)))))) (rG_mc (fun k h1 h2 => (rG_tl (rG_tl (rG_tl (rG_tl (rG_tl (rG_hd (by omega) h2))))))) (rG_mc (fun k h1 h2 => (rG_tl (rG_tl (rG_tl (rG_tl (rG_tl (rG_tl (rG_hd (by omega) h2)))))))) rG_mn))))))
      have hmsh10 := hms.fr hfrh10
      have hrlhh10 := red_len (1) P'
      refine V.aload_n dX13_exp_294 rfl ?_
      refine V.iconst (4) dX13_exp_295 (by decide) ?_
      refine V.iconst (-1) dX13_exp_296 (by decide) ?_
      refine V.lconst 0 dX13_exp_297 (by decide) ?_
      have f11 := hFhh10.I (rG_nl (by decide) (rG_na (am_0n (by decide)) (rG_na (am_0n (by decide)) (rG_na (am_0n (by decide)) (rG_na (am_0n (by decide)) rG_nn))))) h28
      refine V.callV (m_act (d := 0) (a := a0 + o'.length + (red 1 P').2.length) hmsh10 hr f11 q6hh10 (by omega) (nI 4) (-1) 0) mv_X13_262 ok_Y13_act hmsh10.1 rfl rfl (by omega) (Nat.le_of_ble_eq_true rfl) dX13_exp_298 rfl (fun rv hh12 hq hqn hqk => ?_) (fun _ _ hq _ _ => hq.elim)
      clear hqn hqk
      obtain ⟨rfl, hFhh12, q6hh12, q15hh12, q16hh12, q17hh12⟩ := hq
      have hfrh12 := hfrh10.tr (hFhh12.mono (rG_mc (fun k h1 h2 => (rG_tl (rG_tl (rG_tl (rG_hd h1 h2))))) (rG_mc (fun k h1 h2 => (rG_tl (rG_tl (rG_tl (rG_tl (rG_hd (by omega) (by omega))))))) (rG_mc (fun k h1 h2 => (rG_tl (rG_tl (rG_tl (rG_tl (rG_tl (rG_hd (by omega) (by omega)))))))) (rG_mc (fun k h1 h2 => (rG_tl (rG_tl (rG_tl (rG_tl (rG_tl (rG_tl (rG_hd (by omega) (by omega))))))))) rG_mn)))))
      have hmsh12 := hms.fr hfrh12
      have hAChh12 : AC hh12 m (200 * r + a0) (o' ++ (red 1 P').2 ++ [(4, 0, 0)]) := hAChh10.push hFhh12 (fun j h1 h2 => by simp only [List.length_append] at h2; exact ⟨(rG_na (am_ne (by decide)) (rG_nk (by omega) (rG_na (am_ne (by decide)) (rG_na (am_ne (by decide)) rG_nn)))), (rG_na (am_ne (by decide)) (rG_na (am_ne (by decide)) (rG_nk (by omega) (rG_na (am_ne (by decide)) rG_nn)))), (rG_na (am_ne (by decide)) (rG_na (am_ne (by decide)) (rG_na (am_ne (by decide)) (rG_nk (by omega) rG_nn))))⟩) (by rw [List.length_append, show 200 * r + a0 + (o'.length + (red 1 P').2.length) = 200 * r + (a0 + o'.length + (red 1 P').2.length) by omega]; exact q15hh12) (fun z => absurd (show (4 : Nat) = 2 from z) (by decide)) (fun z => absurd (show (4 : Nat) = 1 from z) (by decide))
      refine V.iload_n dX13_exp_301 rfl ?_
      have f13 := hFhh10.I (rG_nl (by decide) (rG_na (am_0n (by decide)) (rG_na (am_0n (by decide)) (rG_na (am_0n (by decide)) (rG_na (am_0n (by decide)) rG_nn))))) hbad
      have f14 := hFhh12.I (rG_na (am_0n (by decide)) (rG_na (am_0n (by decide)) (rG_na (am_0n (by decide)) (rG_na (am_0n (by decide)) rG_nn)))) f13
      have f15 := hFhh10.I (rG_nl (by decide) (rG_na (am_0n (by decide)) (rG_na (am_0n (by decide)) (rG_na (am_0n (by decide)) (rG_na (am_0n (by decide)) rG_nn))))) hpl0
      have f16 := hFhh12.I (rG_na (am_0n (by decide)) (rG_na (am_0n (by decide)) (rG_na (am_0n (by decide)) (rG_na (am_0n (by decide)) rG_nn)))) f15
      have f17 := mt.fr hFhh10 (fun k h1 h2 => (rG_nk (by omega) (rG_na (am_0n (by decide)) (rG_na (am_0n (by decide)) (rG_na (am_0n (by decide)) (rG_na (am_0n (by decide)) rG_nn))))))
      have f18 := f17.fr hFhh12 (fun k h1 h2 => (rG_na (am_0n (by decide)) (rG_na (am_0n (by decide)) (rG_na (am_0n (by decide)) (rG_na (am_0n (by decide)) rG_nn)))))
      exact V.ireturn dX13_exp_302 rfl rfl (⟨_, rfl, rfl, hfrh12, Or.inl ⟨_, p', (show expR b n nl p u (.inl (tS b n p')) from ⟨_, _, _, _, _, hrc, rfl⟩).F, f14, f16, f18, i1⟩⟩)
  have E0 : ∀ (x3 x4 : Int32) (md p' u' : Nat) (P' : List Nat) (cs' : List Bool) (o' : List xAct) (h0 : xH), Rc b n nl (0, p, u, [], [false], []) (md, p', u', P', cs', o') → Fr (rG (REX m r a0)) h h0 → EXs h0 m b n r a0 p' u' P' cs' o' → hI h0 m 9 = nI 0 → md = 1 → hI h0 m 10 = hI h m 10 → ¬ (tC b n p' = 141 ∧ 0 < lvl P') → ¬ (2 ≤ sgs (tC b n p' - 100) ∨ (sgs (tC b n p' - 100) = 1 ∧ cs'.head? = some false)) → V G Y13_exp (3) (xInt (fun rv w => rv = nI (200 * r + a0) ∧ Fr (rG (REX m r a0)) h w ∧ ((∃ q p', expF b n nl p u = .inl q ∧ hI w m 9 = nI 1 ∧ hI w m 10 = nI q ∧ MT w m b n p' ∧ p' ≤ n) ∨ (∃ p' u' L, expF b n nl p u = .inr (p', u', L) ∧ hI w m 9 = nI 0 ∧ hI w m 10 = hI h m 10 ∧ MT w m b n p' ∧ hI w (m + 3) r = nI u' ∧ hI w (m + 6) r = nI (a0 + L.length + 1) ∧ AC w m (200 * r + a0) (L ++ [(4, 0, 0)]))))) X h0 278 [some (.ref (m)), some (.int (bI (nl = true))), some (.int (nI (200 * r + a0))), some (.int (x3)), some (.int (x4)), none] [] := by
    intro x3 x4 md p' u' P' cs' o' h0 hrc hfr0 hE hbad hmd hpl0 hn1 hn2
    subst hmd
    have hms0 := hms.fr hfr0
    have ht0 := ht.fr hfr0 (rG_nl (by decide) (rG_nl (by decide) (rG_na (am_0n (by decide)) (rG_na (am_0n (by decide)) (rG_na (am_0n (by decide)) (rG_na (am_0n (by decide)) (rG_na (am_0n (by decide)) (rG_na (am_0n (by decide)) (rG_na (am_0n (by decide)) rG_nn))))))))) (fun j => (rG_na (am_n0 (by decide)) (rG_na (am_n0 (by decide)) (rG_na (am_ne (by decide)) (rG_na (am_ne (by decide)) (rG_na (am_ne (by decide)) (rG_na (am_ne (by decide)) (rG_na (am_ne (by decide)) (rG_na (am_ne (by decide)) (rG_na (am_ne (by decide)) rG_nn))))))))))
    obtain ⟨mt, h28, hac, hAC, h30, hpl, h31, h33, hcm, h3u⟩ := hE
    have hi := eI_rc (eI_0 hpn hu) hrc
    obtain ⟨i1, i2, i3, i4, i5, i6, i7, i8, i9, i10, i11, i12, i13, i14⟩ := hi
    have hlo := lvl_opn P'
    have hmc := mok_le i9
    have hm := mtk_c (b := b) (n := n) (p := p') hb
    have hEle := tE_le (b := b) i1
    have hsgl := sgs_le (tC b n p' - 100)
    have hk1 : ndk (tC b n p') cs' (lvl P') = 1 := by
      unfold ndk
      rw [if_neg hn1, if_neg (fun z => hn2 (Or.inl z)), if_neg (fun z => hn2 (Or.inr z))]
    have hrc2 := hrc.tr (Rc_red (k := 1) P' o' hk1)
    have hlv := (opn_red 1 (Nat.le_refl 1) P').2
    have hes := est_end (b := b) (n := n) (p := p') (u := u') (nl := nl) (P := (red 1 P').1) (cs := cs') (o := o' ++ (red 1 P').2) (by rw [hlv, hk1]; exact (red_top 1 P').resolve_right (by decide)) (by rw [hlv]; exact hn1) hn2
    rw [hlv] at hes
    refine V.aload_n dX13_exp_278 rfl ?_
    refine V.getIe fl_X13_269 hms0.1 h33 dX13_exp_279 rfl ?_
    refine V.if_leN (lvl P') rfl (by omega) 289 dX13_exp_282 (by decide) (fun c282 => ?_) (fun c282 => ?_)
    · refine V.aload_n dX13_exp_289 rfl ?_
      refine V.iconst (1) dX13_exp_290 (by decide) ?_
      refine V.callV (m_reduce (d := 0) (a0 := a0 + o'.length) (P0 := P') (k := 1) hms0 hr h28 hac (by omega) h30 hpl (by omega) hmc hAC (by omega) (by omega) (by omega)) mv_X13_276 ok_Y13_reduce hms0.1 rfl rfl (by omega) (Nat.le_of_ble_eq_true rfl) dX13_exp_291 rfl (fun rv hh1 hq hqn hqk => ?_) (fun _ _ hq _ _ => hq.elim)
      clear hqn hqk
      obtain ⟨rfl, hFhh1, q30hh1, q6hh1, hAChh1⟩ := hq
      have hfrh1 := hfr0.tr (hFhh1.mono (rG_mc (fun k h1 h2 => (rG_tl (rG_hd h1 (Nat.lt_of_lt_of_le h2 (by decide))))) (rG_mc (fun k h1 h2 => (rG_tl (rG_tl (rG_tl (rG_hd h1 h2))))) (rG_mc (fun k h1 h2 => (rG_tl (rG_tl (rG_tl (rG_tl (rG_hd (by omega) h2)))))) (rG_mc (fun k h1 h2 => (rG_tl (rG_tl (rG_tl (rG_tl (rG_tl (rG_hd (by omega) h2))))))) (rG_mc (fun k h1 h2 => (rG_tl (rG_tl (rG_tl (rG_tl (rG_tl (rG_tl (rG_hd (by omega) h2)))))))) rG_mn))))))
      have hmsh1 := hms.fr hfrh1
      have hrlhh1 := red_len (1) P'
      refine V.aload_n dX13_exp_294 rfl ?_
      refine V.iconst (4) dX13_exp_295 (by decide) ?_
      refine V.iconst (-1) dX13_exp_296 (by decide) ?_
      refine V.lconst 0 dX13_exp_297 (by decide) ?_
      have f2 := hFhh1.I (rG_nl (by decide) (rG_na (am_0n (by decide)) (rG_na (am_0n (by decide)) (rG_na (am_0n (by decide)) (rG_na (am_0n (by decide)) rG_nn))))) h28
      refine V.callV (m_act (d := 0) (a := a0 + o'.length + (red 1 P').2.length) hmsh1 hr f2 q6hh1 (by omega) (nI 4) (-1) 0) mv_X13_262 ok_Y13_act hmsh1.1 rfl rfl (by omega) (Nat.le_of_ble_eq_true rfl) dX13_exp_298 rfl (fun rv hh3 hq hqn hqk => ?_) (fun _ _ hq _ _ => hq.elim)
      clear hqn hqk
      obtain ⟨rfl, hFhh3, q6hh3, q15hh3, q16hh3, q17hh3⟩ := hq
      have hfrh3 := hfrh1.tr (hFhh3.mono (rG_mc (fun k h1 h2 => (rG_tl (rG_tl (rG_tl (rG_hd h1 h2))))) (rG_mc (fun k h1 h2 => (rG_tl (rG_tl (rG_tl (rG_tl (rG_hd (by omega) (by omega))))))) (rG_mc (fun k h1 h2 => (rG_tl (rG_tl (rG_tl (rG_tl (rG_tl (rG_hd (by omega) (by omega)))))))) (rG_mc (fun k h1 h2 => (rG_tl (rG_tl (rG_tl (rG_tl (rG_tl (rG_tl (rG_hd (by omega) (by omega))))))))) rG_mn)))))
      have hmsh3 := hms.fr hfrh3
      have hAChh3 : AC hh3 m (200 * r + a0) (o' ++ (red 1 P').2 ++ [(4, 0, 0)]) := hAChh1.push hFhh3 (fun j h1 h2 => by simp only [List.length_append] at h2; exact ⟨(rG_na (am_ne (by decide)) (rG_nk (by omega) (rG_na (am_ne (by decide)) (rG_na (am_ne (by decide)) rG_nn)))), (rG_na (am_ne (by decide)) (rG_na (am_ne (by decide)) (rG_nk (by omega) (rG_na (am_ne (by decide)) rG_nn)))), (rG_na (am_ne (by decide)) (rG_na (am_ne (by decide)) (rG_na (am_ne (by decide)) (rG_nk (by omega) rG_nn))))⟩) (by rw [List.length_append, show 200 * r + a0 + (o'.length + (red 1 P').2.length) = 200 * r + (a0 + o'.length + (red 1 P').2.length) by omega]; exact q15hh3) (fun z => absurd (show (4 : Nat) = 2 from z) (by decide)) (fun z => absurd (show (4 : Nat) = 1 from z) (by decide))
      refine V.iload_n dX13_exp_301 rfl ?_
      have f4 := hFhh1.I (rG_nl (by decide) (rG_na (am_0n (by decide)) (rG_na (am_0n (by decide)) (rG_na (am_0n (by decide)) (rG_na (am_0n (by decide)) rG_nn))))) hbad
      have f5 := hFhh3.I (rG_na (am_0n (by decide)) (rG_na (am_0n (by decide)) (rG_na (am_0n (by decide)) (rG_na (am_0n (by decide)) rG_nn)))) f4
      have f6 := hFhh1.I (rG_nl (by decide) (rG_na (am_0n (by decide)) (rG_na (am_0n (by decide)) (rG_na (am_0n (by decide)) (rG_na (am_0n (by decide)) rG_nn))))) hpl0
      have f7 := hFhh3.I (rG_na (am_0n (by decide)) (rG_na (am_0n (by decide)) (rG_na (am_0n (by decide)) (rG_na (am_0n (by decide)) rG_nn)))) f6
      have f8 := mt.fr hFhh1 (fun k h1 h2 => (rG_nk (by omega) (rG_na (am_0n (by decide)) (rG_na (am_0n (by decide)) (rG_na (am_0n (by decide)) (rG_na (am_0n (by decide)) rG_nn))))))
      have f9 := f8.fr hFhh3 (fun k h1 h2 => (rG_na (am_0n (by decide)) (rG_na (am_0n (by decide)) (rG_na (am_0n (by decide)) (rG_na (am_0n (by decide)) rG_nn)))))
      have f10 := hFhh1.I (rG_na (am_n0 (by decide)) (rG_na (am_ne (by decide)) (rG_na (am_ne (by decide)) (rG_na (am_ne (by decide)) (rG_na (am_ne (by decide)) rG_nn))))) h3u
      have f11 := hFhh3.I (rG_na (am_ne (by decide)) (rG_na (am_ne (by decide)) (rG_na (am_ne (by decide)) (rG_na (am_ne (by decide)) rG_nn)))) f10
      exact V.ireturn dX13_exp_302 rfl rfl (⟨_, rfl, rfl, hfrh3, Or.inr ⟨p', u', o' ++ (red 1 P').2, (show expR b n nl p u (.inr (p', u', o' ++ (red 1 P').2)) from ⟨_, _, hrc2.tr (Rc.st (hes.trans (by rw [if_neg (by omega)])))⟩).F, f5, f7, f9, f11, (q6hh3).trans (congrArg nI (by rw [List.length_append]; omega)), hAChh3⟩⟩)
    · refine V.aload_n dX13_exp_285 rfl ?_
      refine V.callV (m_misplaced (d := 0) hms0 mt hbad) mv_X13_247 ok_Y13_misplaced hms0.1 rfl rfl (by omega) (Nat.le_of_ble_eq_true rfl) dX13_exp_286 rfl (fun rv hh12 hq hqn hqk => ?_) (fun _ _ hq _ _ => hq.elim)
      clear hqn hqk
      obtain ⟨rfl, hFhh12, q9hh12, q10hh12⟩ := hq
      have hfrh12 := hfr0.tr (hFhh12.mono (rG_mc (fun k h1 h2 => (rG_hd (Nat.le_trans (by decide) h1) h2)) rG_mn))
      have hmsh12 := hms.fr hfrh12
      refine V.aload_n dX13_exp_289 rfl ?_
      refine V.iconst (1) dX13_exp_290 (by decide) ?_
      have f13 := hFhh12.I (rG_nh (by decide) rG_nn) h28
      have f14 := hFhh12.I (rG_na (am_n0 (by decide)) rG_nn) hac
      have f15 := hFhh12.I (rG_nh (by decide) rG_nn) h30
      have f16 := hpl.fr hFhh12 (fun i hi => (rG_na (am_n0 (by decide)) rG_nn))
      have f17 := hAC.fr hFhh12 (fun j h1 h2 => ⟨(rG_na (am_n0 (by decide)) rG_nn), (rG_na (am_n0 (by decide)) rG_nn), (rG_na (am_n0 (by decide)) rG_nn)⟩)
      refine V.callV (m_reduce (d := 0) (a0 := a0 + o'.length) (P0 := P') (k := 1) hmsh12 hr f13 f14 (by omega) f15 f16 (by omega) hmc f17 (by omega) (by omega) (by omega)) mv_X13_276 ok_Y13_reduce hmsh12.1 rfl rfl (by omega) (Nat.le_of_ble_eq_true rfl) dX13_exp_291 rfl (fun rv hh18 hq hqn hqk => ?_) (fun _ _ hq _ _ => hq.elim)
      clear hqn hqk
      obtain ⟨rfl, hFhh18, q30hh18, q6hh18, hAChh18⟩ := hq
      have hfrh18 := hfrh12.tr (hFhh18.mono (rG_mc (fun k h1 h2 => (rG_tl (rG_hd h1 (Nat.lt_of_lt_of_le h2 (by decide))))) (rG_mc (fun k h1 h2 => (rG_tl (rG_tl (rG_tl (rG_hd h1 h2))))) (rG_mc (fun k h1 h2 => (rG_tl (rG_tl (rG_tl (rG_tl (rG_hd (by omega) h2)))))) (rG_mc (fun k h1 h2 => (rG_tl (rG_tl (rG_tl (rG_tl (rG_tl (rG_hd (by omega) h2))))))) (rG_mc (fun k h1 h2 => (rG_tl (rG_tl (rG_tl (rG_tl (rG_tl (rG_tl (rG_hd (by omega) h2)))))))) rG_mn))))))
      have hmsh18 := hms.fr hfrh18
      have hrlhh18 := red_len (1) P'
      refine V.aload_n dX13_exp_294 rfl ?_
      refine V.iconst (4) dX13_exp_295 (by decide) ?_
      refine V.iconst (-1) dX13_exp_296 (by decide) ?_
      refine V.lconst 0 dX13_exp_297 (by decide) ?_
      have f19 := hFhh18.I (rG_nl (by decide) (rG_na (am_0n (by decide)) (rG_na (am_0n (by decide)) (rG_na (am_0n (by decide)) (rG_na (am_0n (by decide)) rG_nn))))) f13
      refine V.callV (m_act (d := 0) (a := a0 + o'.length + (red 1 P').2.length) hmsh18 hr f19 q6hh18 (by omega) (nI 4) (-1) 0) mv_X13_262 ok_Y13_act hmsh18.1 rfl rfl (by omega) (Nat.le_of_ble_eq_true rfl) dX13_exp_298 rfl (fun rv hh20 hq hqn hqk => ?_) (fun _ _ hq _ _ => hq.elim)
      clear hqn hqk
      obtain ⟨rfl, hFhh20, q6hh20, q15hh20, q16hh20, q17hh20⟩ := hq
      have hfrh20 := hfrh18.tr (hFhh20.mono (rG_mc (fun k h1 h2 => (rG_tl (rG_tl (rG_tl (rG_hd h1 h2))))) (rG_mc (fun k h1 h2 => (rG_tl (rG_tl (rG_tl (rG_tl (rG_hd (by omega) (by omega))))))) (rG_mc (fun k h1 h2 => (rG_tl (rG_tl (rG_tl (rG_tl (rG_tl (rG_hd (by omega) (by omega)))))))) (rG_mc (fun k h1 h2 => (rG_tl (rG_tl (rG_tl (rG_tl (rG_tl (rG_tl (rG_hd (by omega) (by omega))))))))) rG_mn)))))
      have hmsh20 := hms.fr hfrh20
      have hAChh20 : AC hh20 m (200 * r + a0) (o' ++ (red 1 P').2 ++ [(4, 0, 0)]) := hAChh18.push hFhh20 (fun j h1 h2 => by simp only [List.length_append] at h2; exact ⟨(rG_na (am_ne (by decide)) (rG_nk (by omega) (rG_na (am_ne (by decide)) (rG_na (am_ne (by decide)) rG_nn)))), (rG_na (am_ne (by decide)) (rG_na (am_ne (by decide)) (rG_nk (by omega) (rG_na (am_ne (by decide)) rG_nn)))), (rG_na (am_ne (by decide)) (rG_na (am_ne (by decide)) (rG_na (am_ne (by decide)) (rG_nk (by omega) rG_nn))))⟩) (by rw [List.length_append, show 200 * r + a0 + (o'.length + (red 1 P').2.length) = 200 * r + (a0 + o'.length + (red 1 P').2.length) by omega]; exact q15hh20) (fun z => absurd (show (4 : Nat) = 2 from z) (by decide)) (fun z => absurd (show (4 : Nat) = 1 from z) (by decide))
      refine V.iload_n dX13_exp_301 rfl ?_
      have f21 := hFhh18.I (rG_nl (by decide) (rG_na (am_0n (by decide)) (rG_na (am_0n (by decide)) (rG_na (am_0n (by decide)) (rG_na (am_0n (by decide)) rG_nn))))) q9hh12
      have f22 := hFhh20.I (rG_na (am_0n (by decide)) (rG_na (am_0n (by decide)) (rG_na (am_0n (by decide)) (rG_na (am_0n (by decide)) rG_nn)))) f21
      have f23 := hFhh18.I (rG_nl (by decide) (rG_na (am_0n (by decide)) (rG_na (am_0n (by decide)) (rG_na (am_0n (by decide)) (rG_na (am_0n (by decide)) rG_nn))))) q10hh12
      have f24 := hFhh20.I (rG_na (am_0n (by decide)) (rG_na (am_0n (by decide)) (rG_na (am_0n (by decide)) (rG_na (am_0n (by decide)) rG_nn)))) f23
      have f25 := mt.fr hFhh12 (fun k h1 h2 => (rG_nk (by omega) rG_nn))
      have f26 := f25.fr hFhh18 (fun k h1 h2 => (rG_nk (by omega) (rG_na (am_0n (by decide)) (rG_na (am_0n (by decide)) (rG_na (am_0n (by decide)) (rG_na (am_0n (by decide)) rG_nn))))))
      have f27 := f26.fr hFhh20 (fun k h1 h2 => (rG_na (am_0n (by decide)) (rG_na (am_0n (by decide)) (rG_na (am_0n (by decide)) (rG_na (am_0n (by decide)) rG_nn)))))
      exact V.ireturn dX13_exp_302 rfl rfl (⟨_, rfl, rfl, hfrh20, Or.inl ⟨_, p', (show expR b n nl p u (.inl (tS b n p')) from ⟨_, _, _, _, _, hrc2.tr (Rc.st (hes.trans (by rw [if_pos (by omega)]))), rfl⟩).F, f22, f24, f27, i1⟩⟩)
  have L46 : ∀ (k md p' u' : Nat) (P' : List Nat) (cs' : List Bool) (o' : List xAct) (h0 : xH), n - p' < k → md ≤ 1 → Rc b n nl (0, p, u, [], [false], []) (md, p', u', P', cs', o') → Fr (rG (REX m r a0)) h h0 → EXs h0 m b n r a0 p' u' P' cs' o' → hI h0 m 9 = nI 0 → hI h0 m 10 = hI h m 10 → V G Y13_exp (3) (xInt (fun rv w => rv = nI (200 * r + a0) ∧ Fr (rG (REX m r a0)) h w ∧ ((∃ q p', expF b n nl p u = .inl q ∧ hI w m 9 = nI 1 ∧ hI w m 10 = nI q ∧ MT w m b n p' ∧ p' ≤ n) ∨ (∃ p' u' L, expF b n nl p u = .inr (p', u', L) ∧ hI w m 9 = nI 0 ∧ hI w m 10 = hI h m 10 ∧ MT w m b n p' ∧ hI w (m + 3) r = nI u' ∧ hI w (m + 6) r = nI (a0 + L.length + 1) ∧ AC w m (200 * r + a0) (L ++ [(4, 0, 0)]))))) X h0 46 [some (.ref (m)), some (.int (bI (nl = true))), some (.int (nI (200 * r + a0))), some (.int (nI (1 - md))), some (.int (nI (1))), none] [] := by
    intro k
    induction k with
    | zero => intro md p' u' P' cs' o' h0 hk; omega
    | succ k ih =>
      intro md p' u' P' cs' o' h0 hk hmd hrc hfr0 hE hbad hpl0
      have hE0 := hE
      have hms0 := hms.fr hfr0
      have ht0 := ht.fr hfr0 (rG_nl (by decide) (rG_nl (by decide) (rG_na (am_0n (by decide)) (rG_na (am_0n (by decide)) (rG_na (am_0n (by decide)) (rG_na (am_0n (by decide)) (rG_na (am_0n (by decide)) (rG_na (am_0n (by decide)) (rG_na (am_0n (by decide)) rG_nn))))))))) (fun j => (rG_na (am_n0 (by decide)) (rG_na (am_n0 (by decide)) (rG_na (am_ne (by decide)) (rG_na (am_ne (by decide)) (rG_na (am_ne (by decide)) (rG_na (am_ne (by decide)) (rG_na (am_ne (by decide)) (rG_na (am_ne (by decide)) (rG_na (am_ne (by decide)) rG_nn))))))))))
      obtain ⟨mt, h28, hac, hAC, h30, hpl, h31, h33, hcm, h3u⟩ := hE
      have hi := eI_rc (eI_0 hpn hu) hrc
      obtain ⟨i1, i2, i3, i4, i5, i6, i7, i8, i9, i10, i11, i12, i13, i14⟩ := hi
      have hlo := lvl_opn P'
      have hmc := mok_le i9
      have hm := mtk_c (b := b) (n := n) (p := p') hb
      have hEle := tE_le (b := b) i1
      have hsgl := sgs_le (tC b n p' - 100)
      refine V.iload dX13_exp_46 rfl ?_
      refine V.if_eq 278 dX13_exp_48 (by decide) (fun z => absurd z (by decide)) (fun _ => ?_)
      refine V.aload_n dX13_exp_51 rfl ?_
      refine V.getIe fl_X13_240 hms0.1 hbad dX13_exp_52 rfl ?_
      refine V.if_ne 278 dX13_exp_55 (by decide) (fun z => absurd z (by decide)) (fun _ => ?_)
      refine V.iload_n dX13_exp_58 rfl ?_
      refine V.if_eqN (1 - md) rfl (by omega) 71 dX13_exp_59 (by decide) (fun c59 => ?_) (fun c59 => ?_)
      · have hmd1 : md = 1 := by omega
        subst hmd1
        refine V.aload_n dX13_exp_71 rfl ?_
        refine V.bipush (41) dX13_exp_72 (by decide) ?_
        refine V.callV (m_isSign (d := 0) hms0 hb mt 41 (by decide)) mv_X13_244 ok_Y13_isSign hms0.1 rfl rfl (by omega) (Nat.le_of_ble_eq_true rfl) dX13_exp_74 rfl (fun rv uu hq hqn hqk => ?_) (fun _ _ hq _ _ => hq.elim)
        clear hqn hqk
        obtain ⟨rfl, hu⟩ := hq
        rw [hu]
        show V _ _ _ _ _ _ _ _ (.int _ :: _)
        refine V.if_eqB 133 dX13_exp_77 (by decide) (fun c77 => ?_) (fun c77 => ?_)
        · obtain ⟨b0, cs2, hcs⟩ : ∃ b0 cs2, cs' = b0 :: cs2 := by cases cs' with | nil => simp at i8 | cons b0 cs2 => exact ⟨b0, cs2, rfl⟩
          have hcm2 := hcm
          rw [hcs] at hcm2 i8
          simp only [List.length_cons] at i8
          have hcl : cs2.length = lvl P' := by omega
          have hfl := hcm2.1
          rw [hcl] at hfl
          refine V.aload_n dX13_exp_133 rfl ?_
          refine V.getIe fl_X13_209 hms0.1 mt.1 dX13_exp_134 rfl ?_
          refine V.iconst (4) dX13_exp_137 (by decide) ?_
          refine V.icmp_neN (mtk (tC b n p')) (4) rfl rfl (by omega) (by omega) 152 dX13_exp_138 (by decide) (fun c138 => ?_) (fun c138 => ?_)
          · refine V.aload_n dX13_exp_152 rfl ?_
            refine V.getIe fl_X13_209 hms0.1 mt.1 dX13_exp_153 rfl ?_
            refine V.iconst (4) dX13_exp_156 (by decide) ?_
            refine V.icmp_neN (mtk (tC b n p')) (4) rfl rfl (by omega) (by omega) 272 dX13_exp_157 (by decide) (fun c157 => ?_) (fun c157 => absurd c157 (by omega))
            refine V.iconst (0) dX13_exp_272 (by decide) ?_
            refine V.istore dX13_exp_273 (by decide) ?_
            refine V.goto 46 dX13_exp_275 (by decide) ?_
            refine V.iload dX13_exp_46 rfl ?_
            refine V.if_eq 278 dX13_exp_48 (by decide) (fun _ => ?_) (fun z => absurd rfl z)
            exact E0 _ _ 1 p' u' P' cs' o' _ hrc hfr0 hE0 hbad rfl hpl0 (fun z => c77 z.1) (fun z => by rw [show tC b n p' - 100 = 0 by omega, show sgs 0 = 0 from by decide] at z; omega)
          · have hsg1 := mt.2.2.2.1 (by omega)
            refine V.aload_n dX13_exp_141 rfl ?_
            refine V.getIe fl_X13_234 hms0.1 hsg1 dX13_exp_142 rfl ?_
            refine V.callS (m_strength (d := 0) (tC b n p' - 100) (by omega)) ms_X13_259 ok_Y13_strength rfl rfl (by omega) (Nat.le_of_ble_eq_true rfl) dX13_exp_145 rfl (fun rv uu hq hqn hqk => ?_) (fun _ _ hq _ _ => hq.elim)
            clear hqn hqk
            obtain ⟨rfl, hu⟩ := hq
            rw [hu]
            show V _ _ _ _ _ _ _ _ (.int _ :: _)
            refine V.iconst (1) dX13_exp_148 (by decide) ?_
            refine V.icmp_gtN (sgs (tC b n p' - 100)) (1) rfl rfl (by have := sgs_le (tC b n p' - 100); omega) (by omega) 183 dX13_exp_149 (by decide) (fun c149 => ?_) (fun c149 => ?_)
            · have hsg2 := mt.2.2.2.1 (by omega)
              refine V.aload_n dX13_exp_183 rfl ?_
              refine V.getIe fl_X13_234 hms0.1 hsg2 dX13_exp_184 rfl ?_
              refine V.callS (m_strength (d := 0) (tC b n p' - 100) (by omega)) ms_X13_259 ok_Y13_strength rfl rfl (by omega) (Nat.le_of_ble_eq_true rfl) dX13_exp_187 rfl (fun rv uu hq hqn hqk => ?_) (fun _ _ hq _ _ => hq.elim)
              clear hqn hqk
              obtain ⟨rfl, hu⟩ := hq
              rw [hu]
              show V _ _ _ _ _ _ _ _ (.int _ :: _)
              refine V.istore dX13_exp_190 (by decide) ?_
              refine V.aload_n dX13_exp_192 rfl ?_
              refine V.getr fl_X13_70 hms0.1 (hms0.2.2 (32, 19) (by decide)) dX13_exp_193 rfl ?_
              refine V.aload_n dX13_exp_196 rfl ?_
              refine V.getIe fl_X13_269 hms0.1 h33 dX13_exp_197 rfl ?_
              refine V.aload_n dX13_exp_200 rfl ?_
              refine V.getr fl_X13_70 hms0.1 (hms0.2.2 (32, 19) (by decide)) dX13_exp_201 rfl ?_
              refine V.aload_n dX13_exp_204 rfl ?_
              refine V.getIe fl_X13_269 hms0.1 h33 dX13_exp_205 rfl ?_
              refine V.zald (j := lvl P') (hms0.2.1 19 (by decide)) rfl (by omega) dX13_exp_208 ?_
              rw [hfl]
              refine V.if_neB 218 dX13_exp_209 (by decide) (fun c209 => ?_) (fun c209 => ?_)
              · refine V.iconst (1) dX13_exp_218 (by decide) ?_
                refine V.goto 223 dX13_exp_219 (by decide) ?_
                refine V.zastk (j := lvl P') (hms0.2.1 19 (by decide)) rfl (by omega) (by decide) dX13_exp_223 (fun hh3 ehh3 => ?_)
                have hFhh3 := Fr1I ehh3
                have hfrh3 := hfr0.tr (hFhh3.mono (rG_mc (fun k h1 h2 => (rG_tl (rG_tl (rG_tl (rG_tl (rG_tl (rG_tl (rG_tl (rG_tl (rG_hd (Nat.zero_le _) (by omega))))))))))) rG_mn))
                have hmsh3 := hms.fr hfrh3
                have f4 := hI_ps ehh3
                refine V.aload_n dX13_exp_224 rfl ?_
                refine V.iload dX13_exp_225 rfl ?_
                refine V.iconst (1) dX13_exp_227 (by decide) ?_
                refine V.icmp_neN (sgs (tC b n p' - 100)) (1) rfl rfl (by have := sgs_le (tC b n p' - 100); omega) (by omega) 235 dX13_exp_228 (by decide) (fun c228 => ?_) (fun c228 => absurd c228 (by omega))
                refine V.iload dX13_exp_235 rfl ?_
                have f5 := hFhh3.I (rG_na (am_0n (by decide)) rG_nn) h28
                have f6 := hFhh3.I (rG_na (am_ne (by decide)) rG_nn) hac
                have f7 := hFhh3.I (rG_na (am_0n (by decide)) rG_nn) h30
                have f8 := hpl.fr hFhh3 (fun i hi => (rG_na (am_ne (by decide)) rG_nn))
                have f9 := hAC.fr hFhh3 (fun j h1 h2 => ⟨(rG_na (am_ne (by decide)) rG_nn), (rG_na (am_ne (by decide)) rG_nn), (rG_na (am_ne (by decide)) rG_nn)⟩)
                refine V.callV (m_reduce (d := 0) (a0 := a0 + o'.length) (P0 := P') (k := sgs (tC b n p' - 100)) hmsh3 hr f5 f6 (by omega) f7 f8 (by omega) hmc f9 (by omega) (by omega) (by omega)) mv_X13_276 ok_Y13_reduce hmsh3.1 rfl rfl (by omega) (Nat.le_of_ble_eq_true rfl) dX13_exp_237 rfl (fun rv hh10 hq hqn hqk => ?_) (fun _ _ hq _ _ => hq.elim)
                clear hqn hqk
                obtain ⟨rfl, hFhh10, q30hh10, q6hh10, hAChh10⟩ := hq
                have hfrh10 := hfrh3.tr (hFhh10.mono (rG_mc (fun k h1 h2 => (rG_tl (rG_hd h1 (Nat.lt_of_lt_of_le h2 (by decide))))) (rG_mc (fun k h1 h2 => (rG_tl (rG_tl (rG_tl (rG_hd h1 h2))))) (rG_mc (fun k h1 h2 => (rG_tl (rG_tl (rG_tl (rG_tl (rG_hd (by omega) h2)))))) (rG_mc (fun k h1 h2 => (rG_tl (rG_tl (rG_tl (rG_tl (rG_tl (rG_hd (by omega) h2))))))) (rG_mc (fun k h1 h2 => (rG_tl (rG_tl (rG_tl (rG_tl (rG_tl (rG_tl (rG_hd (by omega) h2)))))))) rG_mn))))))
                have hmsh10 := hms.fr hfrh10
                have hrlhh10 := red_len (sgs (tC b n p' - 100)) P'
                have f11 := f8.fr hFhh10 (fun i hi => (rG_na (am_n0 (by decide)) (rG_na (am_ne (by decide)) (rG_na (am_ne (by decide)) (rG_na (am_ne (by decide)) (rG_na (am_ne (by decide)) rG_nn))))))
                have hplr := pl_red (sgs (tC b n p' - 100)) f11
                refine V.aload_n dX13_exp_240 rfl ?_
                refine V.getr fl_X13_67 hmsh10.1 (hmsh10.2.2 (29, 18) (by decide)) dX13_exp_241 rfl ?_
                refine V.aload_n dX13_exp_244 rfl ?_
                refine V.getIe fl_X13_256 hmsh10.1 q30hh10 dX13_exp_245 rfl ?_
                have f12 := mt.fr hFhh3 (fun k h1 h2 => (rG_na (am_0n (by decide)) rG_nn))
                have f13 := f12.fr hFhh10 (fun k h1 h2 => (rG_nk (by omega) (rG_na (am_0n (by decide)) (rG_na (am_0n (by decide)) (rG_na (am_0n (by decide)) (rG_na (am_0n (by decide)) rG_nn))))))
                have hsg14 := f13.2.2.2.1 (by omega)
                refine V.aload_n dX13_exp_248 rfl ?_
                refine V.getIe fl_X13_234 hmsh10.1 hsg14 dX13_exp_249 rfl ?_
                refine V.iastk (j := (red (sgs (tC b n p' - 100)) P').1.length) (hmsh10.2.1 18 (by decide)) rfl (by omega) dX13_exp_252 (fun hh15 ehh15 => ?_)
                have hFhh15 := Fr1I ehh15
                have hfrh15 := hfrh10.tr (hFhh15.mono (rG_mc (fun k h1 h2 => (rG_tl (rG_tl (rG_tl (rG_tl (rG_tl (rG_tl (rG_tl (rG_hd (Nat.zero_le _) (by omega)))))))))) rG_mn))
                have hmsh15 := hms.fr hfrh15
                have f16 := hI_ps ehh15
                refine V.aload_n dX13_exp_253 rfl ?_
                refine V.dup dX13_exp_254 rfl ?_
                have f17 := hFhh15.I (rG_na (am_0n (by decide)) rG_nn) q30hh10
                refine V.getIe fl_X13_256 hmsh15.1 f17 dX13_exp_255 rfl ?_
                refine V.iconst (1) dX13_exp_258 (by decide) ?_
                refine V.iaddN ((red (sgs (tC b n p' - 100)) P').1.length) (1) rfl rfl dX13_exp_259 ?_
                refine V.putIk fl_X13_256 hmsh15.1 dX13_exp_260 rfl rfl rfl (fun hh18 ehh18 => ?_)
                have hFhh18 := Fr1I ehh18
                have hfrh18 := hfrh15.tr (hFhh18.mono (rG_mc (fun k h1 h2 => (rG_tl (rG_hd h1 (Nat.lt_of_lt_of_le h2 (by decide))))) rG_mn))
                have hmsh18 := hms.fr hfrh18
                have f19 := hI_ps ehh18
                refine V.aload_n dX13_exp_263 rfl ?_
                have f20 := f13.fr hFhh15 (fun k h1 h2 => (rG_na (am_0n (by decide)) rG_nn))
                have f21 := f20.fr hFhh18 (fun k h1 h2 => (rG_nk (by omega) rG_nn))
                have f22 := ht0.fr hFhh3 (rG_na (am_0n (by decide)) rG_nn) (fun j => (rG_na (am_ne (by decide)) rG_nn))
                have f23 := f22.fr hFhh10 (rG_nl (by decide) (rG_na (am_0n (by decide)) (rG_na (am_0n (by decide)) (rG_na (am_0n (by decide)) (rG_na (am_0n (by decide)) rG_nn))))) (fun j => (rG_na (am_n0 (by decide)) (rG_na (am_ne (by decide)) (rG_na (am_ne (by decide)) (rG_na (am_ne (by decide)) (rG_na (am_ne (by decide)) rG_nn))))))
                have f24 := f23.fr hFhh15 (rG_na (am_0n (by decide)) rG_nn) (fun j => (rG_na (am_ne (by decide)) rG_nn))
                have f25 := f24.fr hFhh18 (rG_nl (by decide) rG_nn) (fun j => (rG_na (am_n0 (by decide)) rG_nn))
                refine V.callV (m_nextR hmsh18 f25 (tE b n p') (by omega) f21.2.2.1) mv_X13_250 ok_Y13_next hmsh18.1 rfl rfl (by omega) (Nat.le_of_ble_eq_true rfl) dX13_exp_264 rfl (fun rv hh26 hq hqn hqk => ?_) (fun _ _ hq _ _ => hq.elim)
                clear hqn hqk
                obtain ⟨rfl, hFhh26, mthh26⟩ := hq
                have hfrh26 := hfrh18.tr (hFhh26.mono (rG_mc (fun k h1 h2 => (rG_hd h1 (Nat.lt_of_lt_of_le h2 (by decide)))) rG_mn))
                have hmsh26 := hms.fr hfrh26
                refine V.iconst (1) dX13_exp_267 (by decide) ?_
                refine V.istore_n dX13_exp_268 (by decide) ?_
                refine V.goto 46 dX13_exp_269 (by decide) ?_
                have hop : 2 ≤ sgs (tC b n p' - 100) ∨ (sgs (tC b n p' - 100) = 1 ∧ cs'.head? = some false) := Or.inl c149
                have hkk : ndk (tC b n p') cs' (lvl P') = sgs (tC b n p' - 100) := by
                  unfold ndk
                  rw [if_neg (fun z => by rw [z.1] at hop; revert hop; simp [show sgs (141 - 100) = 0 from by decide])]
                  rw [if_pos (by omega)]
                have hor := opn_red (sgs (tC b n p' - 100)) (by omega) P'
                have hes := est_opr (b := b) (n := n) (p := p') (u := u') (nl := nl) (P := (red (sgs (tC b n p' - 100)) P').1) (cs := cs') (o := o' ++ (red (sgs (tC b n p' - 100)) P').2) (by rw [hor.2, hkk]; exact (red_top (sgs (tC b n p' - 100)) P').resolve_right (by omega)) hop
                have hopc := sgs_op (c := tC b n p' - 100) (by omega)
                have f27 := hFhh10.I (rG_na (am_n0 (by decide)) (rG_na (am_ne (by decide)) (rG_na (am_ne (by decide)) (rG_na (am_ne (by decide)) (rG_na (am_ne (by decide)) rG_nn))))) f4
                have f28 := hFhh15.I (rG_na (am_ne (by decide)) rG_nn) f27
                have f29 := hFhh18.I (rG_na (am_n0 (by decide)) rG_nn) f28
                have f30 := hFhh26.I (rG_na (am_n0 (by decide)) rG_nn) f29
                have f31 := hcm2.2.fr hFhh3 (fun i hi => (rG_nk (by omega) rG_nn))
                have f32 := f31.fr hFhh10 (fun i hi => (rG_na (am_n0 (by decide)) (rG_na (am_ne (by decide)) (rG_na (am_ne (by decide)) (rG_na (am_ne (by decide)) (rG_na (am_ne (by decide)) rG_nn))))))
                have f33 := f32.fr hFhh15 (fun i hi => (rG_na (am_ne (by decide)) rG_nn))
                have f34 := f33.fr hFhh18 (fun i hi => (rG_na (am_n0 (by decide)) rG_nn))
                have f35 := f34.fr hFhh26 (fun i hi => (rG_na (am_n0 (by decide)) rG_nn))
                have f36 := hFhh10.I (rG_nl (by decide) (rG_na (am_0n (by decide)) (rG_na (am_0n (by decide)) (rG_na (am_0n (by decide)) (rG_na (am_0n (by decide)) rG_nn))))) f5
                have f37 := hFhh15.I (rG_na (am_0n (by decide)) rG_nn) f36
                have f38 := hFhh18.I (rG_nl (by decide) rG_nn) f37
                have f39 := hFhh26.I (rG_nh (by decide) rG_nn) f38
                have f40 := hFhh15.I (rG_na (am_ne (by decide)) rG_nn) q6hh10
                have f41 := hFhh18.I (rG_na (am_n0 (by decide)) rG_nn) f40
                have f42 := hFhh26.I (rG_na (am_n0 (by decide)) rG_nn) f41
                have f43 := hAChh10.fr hFhh15 (fun j h1 h2 => ⟨(rG_na (am_ne (by decide)) rG_nn), (rG_na (am_ne (by decide)) rG_nn), (rG_na (am_ne (by decide)) rG_nn)⟩)
                have f44 := f43.fr hFhh18 (fun j h1 h2 => ⟨(rG_na (am_n0 (by decide)) rG_nn), (rG_na (am_n0 (by decide)) rG_nn), (rG_na (am_n0 (by decide)) rG_nn)⟩)
                have f45 := f44.fr hFhh26 (fun j h1 h2 => ⟨(rG_na (am_n0 (by decide)) rG_nn), (rG_na (am_n0 (by decide)) rG_nn), (rG_na (am_n0 (by decide)) rG_nn)⟩)
                have f46 := hFhh26.I (rG_nh (by decide) rG_nn) f19
                have f47 := hFhh18.I (rG_na (am_n0 (by decide)) rG_nn) f16
                have f48 := hFhh26.I (rG_na (am_n0 (by decide)) rG_nn) f47
                have f49 := hplr.fr hFhh15 (fun i hi => (rG_nk (by omega) rG_nn))
                have f50 := f49.fr hFhh18 (fun i hi => (rG_na (am_n0 (by decide)) rG_nn))
                have f51 := f50.fr hFhh26 (fun i hi => (rG_na (am_n0 (by decide)) rG_nn))
                have f52 := hFhh3.I (rG_na (am_0n (by decide)) rG_nn) h31
                have f53 := hFhh10.I (rG_nh (by decide) (rG_na (am_0n (by decide)) (rG_na (am_0n (by decide)) (rG_na (am_0n (by decide)) (rG_na (am_0n (by decide)) rG_nn))))) f52
                have f54 := hFhh15.I (rG_na (am_0n (by decide)) rG_nn) f53
                have f55 := hFhh18.I (rG_nh (by decide) rG_nn) f54
                have f56 := hFhh26.I (rG_nh (by decide) rG_nn) f55
                have f57 := hFhh3.I (rG_na (am_0n (by decide)) rG_nn) h33
                have f58 := hFhh10.I (rG_nh (by decide) (rG_na (am_0n (by decide)) (rG_na (am_0n (by decide)) (rG_na (am_0n (by decide)) (rG_na (am_0n (by decide)) rG_nn))))) f57
                have f59 := hFhh15.I (rG_na (am_0n (by decide)) rG_nn) f58
                have f60 := hFhh18.I (rG_nh (by decide) rG_nn) f59
                have f61 := hFhh26.I (rG_nh (by decide) rG_nn) f60
                have f62 := hFhh3.I (rG_na (am_ne (by decide)) rG_nn) h3u
                have f63 := hFhh10.I (rG_na (am_n0 (by decide)) (rG_na (am_ne (by decide)) (rG_na (am_ne (by decide)) (rG_na (am_ne (by decide)) (rG_na (am_ne (by decide)) rG_nn))))) f62
                have f64 := hFhh15.I (rG_na (am_ne (by decide)) rG_nn) f63
                have f65 := hFhh18.I (rG_na (am_n0 (by decide)) rG_nn) f64
                have f66 := hFhh26.I (rG_na (am_n0 (by decide)) rG_nn) f65
                have f67 := hFhh3.I (rG_na (am_0n (by decide)) rG_nn) hbad
                have f68 := hFhh10.I (rG_nl (by decide) (rG_na (am_0n (by decide)) (rG_na (am_0n (by decide)) (rG_na (am_0n (by decide)) (rG_na (am_0n (by decide)) rG_nn))))) f67
                have f69 := hFhh15.I (rG_na (am_0n (by decide)) rG_nn) f68
                have f70 := hFhh18.I (rG_nl (by decide) rG_nn) f69
                have f71 := hFhh26.I (rG_nh (by decide) rG_nn) f70
                have f72 := hFhh3.I (rG_na (am_0n (by decide)) rG_nn) hpl0
                have f73 := hFhh10.I (rG_nl (by decide) (rG_na (am_0n (by decide)) (rG_na (am_0n (by decide)) (rG_na (am_0n (by decide)) (rG_na (am_0n (by decide)) rG_nn))))) f72
                have f74 := hFhh15.I (rG_na (am_0n (by decide)) rG_nn) f73
                have f75 := hFhh18.I (rG_nl (by decide) rG_nn) f74
                have f76 := hFhh26.I (rG_nh (by decide) rG_nn) f75
                refine V.wk (ih 0 (tE b n p') u' ((tC b n p' - 100) :: (red (sgs (tC b n p' - 100)) P').1) (cs') (o' ++ (red (sgs (tC b n p' - 100)) P').2) _ (by have := tE_gt (b := b) (n := n) (p := p') (by omega); omega) (by omega) ((hrc.tr (Rc_red (k := sgs (tC b n p' - 100)) P' o' hkk)).tr (Rc.st (hes.trans (by rw [if_neg (by omega)])))) hfrh26 ⟨mthh26, f39, (f42).trans (congrArg nI (by simp only [List.length_append]; omega)), f45, f46, ⟨f48, f51⟩, by rw [opn, if_neg (by omega), hor.1]; exact f56, by rw [lvl, if_neg (by omega), hor.2]; exact f61, (by rw [hcs]; exact ⟨by rw [hcl]; exact (by rw [bI_t c209]; exact f30), f35⟩), f66⟩ f71 f76) ⟨rfl, rfl, rfl, rfl, rfl, trivial⟩
              · refine V.iload dX13_exp_212 rfl ?_
                refine V.iconst (1) dX13_exp_214 (by decide) ?_
                refine V.icmp_neN (sgs (tC b n p' - 100)) (1) rfl rfl (by have := sgs_le (tC b n p' - 100); omega) (by omega) 222 dX13_exp_215 (by decide) (fun c215 => ?_) (fun c215 => absurd c215 (by omega))
                refine V.iconst (0) dX13_exp_222 (by decide) ?_
                refine V.zastk (j := lvl P') (hms0.2.1 19 (by decide)) rfl (by omega) (by decide) dX13_exp_223 (fun hh77 ehh77 => ?_)
                have hFhh77 := Fr1I ehh77
                have hfrh77 := hfr0.tr (hFhh77.mono (rG_mc (fun k h1 h2 => (rG_tl (rG_tl (rG_tl (rG_tl (rG_tl (rG_tl (rG_tl (rG_tl (rG_hd (Nat.zero_le _) (by omega))))))))))) rG_mn))
                have hmsh77 := hms.fr hfrh77
                have f78 := hI_ps ehh77
                refine V.aload_n dX13_exp_224 rfl ?_
                refine V.iload dX13_exp_225 rfl ?_
                refine V.iconst (1) dX13_exp_227 (by decide) ?_
                refine V.icmp_neN (sgs (tC b n p' - 100)) (1) rfl rfl (by have := sgs_le (tC b n p' - 100); omega) (by omega) 235 dX13_exp_228 (by decide) (fun c228 => ?_) (fun c228 => absurd c228 (by omega))
                refine V.iload dX13_exp_235 rfl ?_
                have f79 := hFhh77.I (rG_na (am_0n (by decide)) rG_nn) h28
                have f80 := hFhh77.I (rG_na (am_ne (by decide)) rG_nn) hac
                have f81 := hFhh77.I (rG_na (am_0n (by decide)) rG_nn) h30
                have f82 := hpl.fr hFhh77 (fun i hi => (rG_na (am_ne (by decide)) rG_nn))
                have f83 := hAC.fr hFhh77 (fun j h1 h2 => ⟨(rG_na (am_ne (by decide)) rG_nn), (rG_na (am_ne (by decide)) rG_nn), (rG_na (am_ne (by decide)) rG_nn)⟩)
                refine V.callV (m_reduce (d := 0) (a0 := a0 + o'.length) (P0 := P') (k := sgs (tC b n p' - 100)) hmsh77 hr f79 f80 (by omega) f81 f82 (by omega) hmc f83 (by omega) (by omega) (by omega)) mv_X13_276 ok_Y13_reduce hmsh77.1 rfl rfl (by omega) (Nat.le_of_ble_eq_true rfl) dX13_exp_237 rfl (fun rv hh84 hq hqn hqk => ?_) (fun _ _ hq _ _ => hq.elim)
                clear hqn hqk
                obtain ⟨rfl, hFhh84, q30hh84, q6hh84, hAChh84⟩ := hq
                have hfrh84 := hfrh77.tr (hFhh84.mono (rG_mc (fun k h1 h2 => (rG_tl (rG_hd h1 (Nat.lt_of_lt_of_le h2 (by decide))))) (rG_mc (fun k h1 h2 => (rG_tl (rG_tl (rG_tl (rG_hd h1 h2))))) (rG_mc (fun k h1 h2 => (rG_tl (rG_tl (rG_tl (rG_tl (rG_hd (by omega) h2)))))) (rG_mc (fun k h1 h2 => (rG_tl (rG_tl (rG_tl (rG_tl (rG_tl (rG_hd (by omega) h2))))))) (rG_mc (fun k h1 h2 => (rG_tl (rG_tl (rG_tl (rG_tl (rG_tl (rG_tl (rG_hd (by omega) h2)))))))) rG_mn))))))
                have hmsh84 := hms.fr hfrh84
                have hrlhh84 := red_len (sgs (tC b n p' - 100)) P'
                have f85 := f82.fr hFhh84 (fun i hi => (rG_na (am_n0 (by decide)) (rG_na (am_ne (by decide)) (rG_na (am_ne (by decide)) (rG_na (am_ne (by decide)) (rG_na (am_ne (by decide)) rG_nn))))))
                have hplr := pl_red (sgs (tC b n p' - 100)) f85
                refine V.aload_n dX13_exp_240 rfl ?_
                refine V.getr fl_X13_67 hmsh84.1 (hmsh84.2.2 (29, 18) (by decide)) dX13_exp_241 rfl ?_
                refine V.aload_n dX13_exp_244 rfl ?_
                refine V.getIe fl_X13_256 hmsh84.1 q30hh84 dX13_exp_245 rfl ?_
                have f86 := mt.fr hFhh77 (fun k h1 h2 => (rG_na (am_0n (by decide)) rG_nn))
                have f87 := f86.fr hFhh84 (fun k h1 h2 => (rG_nk (by omega) (rG_na (am_0n (by decide)) (rG_na (am_0n (by decide)) (rG_na (am_0n (by decide)) (rG_na (am_0n (by decide)) rG_nn))))))
                have hsg88 := f87.2.2.2.1 (by omega)
                refine V.aload_n dX13_exp_248 rfl ?_
                refine V.getIe fl_X13_234 hmsh84.1 hsg88 dX13_exp_249 rfl ?_
                refine V.iastk (j := (red (sgs (tC b n p' - 100)) P').1.length) (hmsh84.2.1 18 (by decide)) rfl (by omega) dX13_exp_252 (fun hh89 ehh89 => ?_)
                have hFhh89 := Fr1I ehh89
                have hfrh89 := hfrh84.tr (hFhh89.mono (rG_mc (fun k h1 h2 => (rG_tl (rG_tl (rG_tl (rG_tl (rG_tl (rG_tl (rG_tl (rG_hd (Nat.zero_le _) (by omega)))))))))) rG_mn))
                have hmsh89 := hms.fr hfrh89
                have f90 := hI_ps ehh89
                refine V.aload_n dX13_exp_253 rfl ?_
                refine V.dup dX13_exp_254 rfl ?_
                have f91 := hFhh89.I (rG_na (am_0n (by decide)) rG_nn) q30hh84
                refine V.getIe fl_X13_256 hmsh89.1 f91 dX13_exp_255 rfl ?_
                refine V.iconst (1) dX13_exp_258 (by decide) ?_
                refine V.iaddN ((red (sgs (tC b n p' - 100)) P').1.length) (1) rfl rfl dX13_exp_259 ?_
                refine V.putIk fl_X13_256 hmsh89.1 dX13_exp_260 rfl rfl rfl (fun hh92 ehh92 => ?_)
                have hFhh92 := Fr1I ehh92
                have hfrh92 := hfrh89.tr (hFhh92.mono (rG_mc (fun k h1 h2 => (rG_tl (rG_hd h1 (Nat.lt_of_lt_of_le h2 (by decide))))) rG_mn))
                have hmsh92 := hms.fr hfrh92
                have f93 := hI_ps ehh92
                refine V.aload_n dX13_exp_263 rfl ?_
                have f94 := f87.fr hFhh89 (fun k h1 h2 => (rG_na (am_0n (by decide)) rG_nn))
                have f95 := f94.fr hFhh92 (fun k h1 h2 => (rG_nk (by omega) rG_nn))
                have f96 := ht0.fr hFhh77 (rG_na (am_0n (by decide)) rG_nn) (fun j => (rG_na (am_ne (by decide)) rG_nn))
                have f97 := f96.fr hFhh84 (rG_nl (by decide) (rG_na (am_0n (by decide)) (rG_na (am_0n (by decide)) (rG_na (am_0n (by decide)) (rG_na (am_0n (by decide)) rG_nn))))) (fun j => (rG_na (am_n0 (by decide)) (rG_na (am_ne (by decide)) (rG_na (am_ne (by decide)) (rG_na (am_ne (by decide)) (rG_na (am_ne (by decide)) rG_nn))))))
                have f98 := f97.fr hFhh89 (rG_na (am_0n (by decide)) rG_nn) (fun j => (rG_na (am_ne (by decide)) rG_nn))
                have f99 := f98.fr hFhh92 (rG_nl (by decide) rG_nn) (fun j => (rG_na (am_n0 (by decide)) rG_nn))
                refine V.callV (m_nextR hmsh92 f99 (tE b n p') (by omega) f95.2.2.1) mv_X13_250 ok_Y13_next hmsh92.1 rfl rfl (by omega) (Nat.le_of_ble_eq_true rfl) dX13_exp_264 rfl (fun rv hh100 hq hqn hqk => ?_) (fun _ _ hq _ _ => hq.elim)
                clear hqn hqk
                obtain ⟨rfl, hFhh100, mthh100⟩ := hq
                have hfrh100 := hfrh92.tr (hFhh100.mono (rG_mc (fun k h1 h2 => (rG_hd h1 (Nat.lt_of_lt_of_le h2 (by decide)))) rG_mn))
                have hmsh100 := hms.fr hfrh100
                refine V.iconst (1) dX13_exp_267 (by decide) ?_
                refine V.istore_n dX13_exp_268 (by decide) ?_
                refine V.goto 46 dX13_exp_269 (by decide) ?_
                have hop : 2 ≤ sgs (tC b n p' - 100) ∨ (sgs (tC b n p' - 100) = 1 ∧ cs'.head? = some false) := Or.inl c149
                have hkk : ndk (tC b n p') cs' (lvl P') = sgs (tC b n p' - 100) := by
                  unfold ndk
                  rw [if_neg (fun z => by rw [z.1] at hop; revert hop; simp [show sgs (141 - 100) = 0 from by decide])]
                  rw [if_pos (by omega)]
                have hor := opn_red (sgs (tC b n p' - 100)) (by omega) P'
                have hes := est_opr (b := b) (n := n) (p := p') (u := u') (nl := nl) (P := (red (sgs (tC b n p' - 100)) P').1) (cs := cs') (o := o' ++ (red (sgs (tC b n p' - 100)) P').2) (by rw [hor.2, hkk]; exact (red_top (sgs (tC b n p' - 100)) P').resolve_right (by omega)) hop
                have hopc := sgs_op (c := tC b n p' - 100) (by omega)
                have f101 := hFhh84.I (rG_na (am_n0 (by decide)) (rG_na (am_ne (by decide)) (rG_na (am_ne (by decide)) (rG_na (am_ne (by decide)) (rG_na (am_ne (by decide)) rG_nn))))) f78
                have f102 := hFhh89.I (rG_na (am_ne (by decide)) rG_nn) f101
                have f103 := hFhh92.I (rG_na (am_n0 (by decide)) rG_nn) f102
                have f104 := hFhh100.I (rG_na (am_n0 (by decide)) rG_nn) f103
                have f105 := hcm2.2.fr hFhh77 (fun i hi => (rG_nk (by omega) rG_nn))
                have f106 := f105.fr hFhh84 (fun i hi => (rG_na (am_n0 (by decide)) (rG_na (am_ne (by decide)) (rG_na (am_ne (by decide)) (rG_na (am_ne (by decide)) (rG_na (am_ne (by decide)) rG_nn))))))
                have f107 := f106.fr hFhh89 (fun i hi => (rG_na (am_ne (by decide)) rG_nn))
                have f108 := f107.fr hFhh92 (fun i hi => (rG_na (am_n0 (by decide)) rG_nn))
                have f109 := f108.fr hFhh100 (fun i hi => (rG_na (am_n0 (by decide)) rG_nn))
                have f110 := hFhh84.I (rG_nl (by decide) (rG_na (am_0n (by decide)) (rG_na (am_0n (by decide)) (rG_na (am_0n (by decide)) (rG_na (am_0n (by decide)) rG_nn))))) f79
                have f111 := hFhh89.I (rG_na (am_0n (by decide)) rG_nn) f110
                have f112 := hFhh92.I (rG_nl (by decide) rG_nn) f111
                have f113 := hFhh100.I (rG_nh (by decide) rG_nn) f112
                have f114 := hFhh89.I (rG_na (am_ne (by decide)) rG_nn) q6hh84
                have f115 := hFhh92.I (rG_na (am_n0 (by decide)) rG_nn) f114
                have f116 := hFhh100.I (rG_na (am_n0 (by decide)) rG_nn) f115
                have f117 := hAChh84.fr hFhh89 (fun j h1 h2 => ⟨(rG_na (am_ne (by decide)) rG_nn), (rG_na (am_ne (by decide)) rG_nn), (rG_na (am_ne (by decide)) rG_nn)⟩)
                have f118 := f117.fr hFhh92 (fun j h1 h2 => ⟨(rG_na (am_n0 (by decide)) rG_nn), (rG_na (am_n0 (by decide)) rG_nn), (rG_na (am_n0 (by decide)) rG_nn)⟩)
                have f119 := f118.fr hFhh100 (fun j h1 h2 => ⟨(rG_na (am_n0 (by decide)) rG_nn), (rG_na (am_n0 (by decide)) rG_nn), (rG_na (am_n0 (by decide)) rG_nn)⟩)
                have f120 := hFhh100.I (rG_nh (by decide) rG_nn) f93
                have f121 := hFhh92.I (rG_na (am_n0 (by decide)) rG_nn) f90
                have f122 := hFhh100.I (rG_na (am_n0 (by decide)) rG_nn) f121
                have f123 := hplr.fr hFhh89 (fun i hi => (rG_nk (by omega) rG_nn))
                have f124 := f123.fr hFhh92 (fun i hi => (rG_na (am_n0 (by decide)) rG_nn))
                have f125 := f124.fr hFhh100 (fun i hi => (rG_na (am_n0 (by decide)) rG_nn))
                have f126 := hFhh77.I (rG_na (am_0n (by decide)) rG_nn) h31
                have f127 := hFhh84.I (rG_nh (by decide) (rG_na (am_0n (by decide)) (rG_na (am_0n (by decide)) (rG_na (am_0n (by decide)) (rG_na (am_0n (by decide)) rG_nn))))) f126
                have f128 := hFhh89.I (rG_na (am_0n (by decide)) rG_nn) f127
                have f129 := hFhh92.I (rG_nh (by decide) rG_nn) f128
                have f130 := hFhh100.I (rG_nh (by decide) rG_nn) f129
                have f131 := hFhh77.I (rG_na (am_0n (by decide)) rG_nn) h33
                have f132 := hFhh84.I (rG_nh (by decide) (rG_na (am_0n (by decide)) (rG_na (am_0n (by decide)) (rG_na (am_0n (by decide)) (rG_na (am_0n (by decide)) rG_nn))))) f131
                have f133 := hFhh89.I (rG_na (am_0n (by decide)) rG_nn) f132
                have f134 := hFhh92.I (rG_nh (by decide) rG_nn) f133
                have f135 := hFhh100.I (rG_nh (by decide) rG_nn) f134
                have f136 := hFhh77.I (rG_na (am_ne (by decide)) rG_nn) h3u
                have f137 := hFhh84.I (rG_na (am_n0 (by decide)) (rG_na (am_ne (by decide)) (rG_na (am_ne (by decide)) (rG_na (am_ne (by decide)) (rG_na (am_ne (by decide)) rG_nn))))) f136
                have f138 := hFhh89.I (rG_na (am_ne (by decide)) rG_nn) f137
                have f139 := hFhh92.I (rG_na (am_n0 (by decide)) rG_nn) f138
                have f140 := hFhh100.I (rG_na (am_n0 (by decide)) rG_nn) f139
                have f141 := hFhh77.I (rG_na (am_0n (by decide)) rG_nn) hbad
                have f142 := hFhh84.I (rG_nl (by decide) (rG_na (am_0n (by decide)) (rG_na (am_0n (by decide)) (rG_na (am_0n (by decide)) (rG_na (am_0n (by decide)) rG_nn))))) f141
                have f143 := hFhh89.I (rG_na (am_0n (by decide)) rG_nn) f142
                have f144 := hFhh92.I (rG_nl (by decide) rG_nn) f143
                have f145 := hFhh100.I (rG_nh (by decide) rG_nn) f144
                have f146 := hFhh77.I (rG_na (am_0n (by decide)) rG_nn) hpl0
                have f147 := hFhh84.I (rG_nl (by decide) (rG_na (am_0n (by decide)) (rG_na (am_0n (by decide)) (rG_na (am_0n (by decide)) (rG_na (am_0n (by decide)) rG_nn))))) f146
                have f148 := hFhh89.I (rG_na (am_0n (by decide)) rG_nn) f147
                have f149 := hFhh92.I (rG_nl (by decide) rG_nn) f148
                have f150 := hFhh100.I (rG_nh (by decide) rG_nn) f149
                refine V.wk (ih 0 (tE b n p') u' ((tC b n p' - 100) :: (red (sgs (tC b n p' - 100)) P').1) (cs') (o' ++ (red (sgs (tC b n p' - 100)) P').2) _ (by have := tE_gt (b := b) (n := n) (p := p') (by omega); omega) (by omega) ((hrc.tr (Rc_red (k := sgs (tC b n p' - 100)) P' o' hkk)).tr (Rc.st (hes.trans (by rw [if_neg (by omega)])))) hfrh100 ⟨mthh100, f113, (f116).trans (congrArg nI (by simp only [List.length_append]; omega)), f119, f120, ⟨f122, f125⟩, by rw [opn, if_neg (by omega), hor.1]; exact f130, by rw [lvl, if_neg (by omega), hor.2]; exact f135, (by rw [hcs]; exact ⟨by rw [hcl]; exact (by rw [bI_f c209]; exact f104), f109⟩), f140⟩ f145 f150) ⟨rfl, rfl, rfl, rfl, rfl, trivial⟩
            · refine V.aload_n dX13_exp_152 rfl ?_
              refine V.getIe fl_X13_209 hms0.1 mt.1 dX13_exp_153 rfl ?_
              refine V.iconst (4) dX13_exp_156 (by decide) ?_
              refine V.icmp_neN (mtk (tC b n p')) (4) rfl rfl (by omega) (by omega) 272 dX13_exp_157 (by decide) (fun c157 => absurd c138 c157) (fun c157 => ?_)
              have hsg151 := mt.2.2.2.1 (by omega)
              refine V.aload_n dX13_exp_160 rfl ?_
              refine V.getIe fl_X13_234 hms0.1 hsg151 dX13_exp_161 rfl ?_
              refine V.callS (m_strength (d := 0) (tC b n p' - 100) (by omega)) ms_X13_259 ok_Y13_strength rfl rfl (by omega) (Nat.le_of_ble_eq_true rfl) dX13_exp_164 rfl (fun rv uu hq hqn hqk => ?_) (fun _ _ hq _ _ => hq.elim)
              clear hqn hqk
              obtain ⟨rfl, hu⟩ := hq
              rw [hu]
              show V _ _ _ _ _ _ _ _ (.int _ :: _)
              refine V.iconst (1) dX13_exp_167 (by decide) ?_
              refine V.icmp_neN (sgs (tC b n p' - 100)) (1) rfl rfl (by have := sgs_le (tC b n p' - 100); omega) (by omega) 272 dX13_exp_168 (by decide) (fun c168 => ?_) (fun c168 => ?_)
              · refine V.iconst (0) dX13_exp_272 (by decide) ?_
                refine V.istore dX13_exp_273 (by decide) ?_
                refine V.goto 46 dX13_exp_275 (by decide) ?_
                refine V.iload dX13_exp_46 rfl ?_
                refine V.if_eq 278 dX13_exp_48 (by decide) (fun _ => ?_) (fun z => absurd rfl z)
                exact E0 _ _ 1 p' u' P' cs' o' _ hrc hfr0 hE0 hbad rfl hpl0 (fun z => c77 z.1) (fun z => by omega)
              · refine V.aload_n dX13_exp_171 rfl ?_
                refine V.getr fl_X13_70 hms0.1 (hms0.2.2 (32, 19) (by decide)) dX13_exp_172 rfl ?_
                refine V.aload_n dX13_exp_175 rfl ?_
                refine V.getIe fl_X13_269 hms0.1 h33 dX13_exp_176 rfl ?_
                refine V.zald (j := lvl P') (hms0.2.1 19 (by decide)) rfl (by omega) dX13_exp_179 ?_
                rw [hfl]
                refine V.if_neB 272 dX13_exp_180 (by decide) (fun c180 => ?_) (fun c180 => ?_)
                · refine V.iconst (0) dX13_exp_272 (by decide) ?_
                  refine V.istore dX13_exp_273 (by decide) ?_
                  refine V.goto 46 dX13_exp_275 (by decide) ?_
                  refine V.iload dX13_exp_46 rfl ?_
                  refine V.if_eq 278 dX13_exp_48 (by decide) (fun _ => ?_) (fun z => absurd rfl z)
                  exact E0 _ _ 1 p' u' P' cs' o' _ hrc hfr0 hE0 hbad rfl hpl0 (fun z => c77 z.1) (fun z => by rcases z with z | z; exact absurd z (by omega); rw [hcs] at z; simp only [List.head?_cons, Option.some.injEq] at z; rw [z.2] at c180; cases c180)
                · have hsg152 := mt.2.2.2.1 (by omega)
                  refine V.aload_n dX13_exp_183 rfl ?_
                  refine V.getIe fl_X13_234 hms0.1 hsg152 dX13_exp_184 rfl ?_
                  refine V.callS (m_strength (d := 0) (tC b n p' - 100) (by omega)) ms_X13_259 ok_Y13_strength rfl rfl (by omega) (Nat.le_of_ble_eq_true rfl) dX13_exp_187 rfl (fun rv uu hq hqn hqk => ?_) (fun _ _ hq _ _ => hq.elim)
                  clear hqn hqk
                  obtain ⟨rfl, hu⟩ := hq
                  rw [hu]
                  show V _ _ _ _ _ _ _ _ (.int _ :: _)
                  refine V.istore dX13_exp_190 (by decide) ?_
                  refine V.aload_n dX13_exp_192 rfl ?_
                  refine V.getr fl_X13_70 hms0.1 (hms0.2.2 (32, 19) (by decide)) dX13_exp_193 rfl ?_
                  refine V.aload_n dX13_exp_196 rfl ?_
                  refine V.getIe fl_X13_269 hms0.1 h33 dX13_exp_197 rfl ?_
                  refine V.aload_n dX13_exp_200 rfl ?_
                  refine V.getr fl_X13_70 hms0.1 (hms0.2.2 (32, 19) (by decide)) dX13_exp_201 rfl ?_
                  refine V.aload_n dX13_exp_204 rfl ?_
                  refine V.getIe fl_X13_269 hms0.1 h33 dX13_exp_205 rfl ?_
                  refine V.zald (j := lvl P') (hms0.2.1 19 (by decide)) rfl (by omega) dX13_exp_208 ?_
                  rw [hfl]
                  refine V.if_neB 218 dX13_exp_209 (by decide) (fun c209 => absurd c209 c180) (fun c209 => ?_)
                  refine V.iload dX13_exp_212 rfl ?_
                  refine V.iconst (1) dX13_exp_214 (by decide) ?_
                  refine V.icmp_neN (sgs (tC b n p' - 100)) (1) rfl rfl (by have := sgs_le (tC b n p' - 100); omega) (by omega) 222 dX13_exp_215 (by decide) (fun c215 => absurd c168 c215) (fun c215 => ?_)
                  refine V.iconst (1) dX13_exp_218 (by decide) ?_
                  refine V.goto 223 dX13_exp_219 (by decide) ?_
                  refine V.zastk (j := lvl P') (hms0.2.1 19 (by decide)) rfl (by omega) (by decide) dX13_exp_223 (fun hh153 ehh153 => ?_)
                  have hFhh153 := Fr1I ehh153
                  have hfrh153 := hfr0.tr (hFhh153.mono (rG_mc (fun k h1 h2 => (rG_tl (rG_tl (rG_tl (rG_tl (rG_tl (rG_tl (rG_tl (rG_tl (rG_hd (Nat.zero_le _) (by omega))))))))))) rG_mn))
                  have hmsh153 := hms.fr hfrh153
                  have f154 := hI_ps ehh153
                  refine V.aload_n dX13_exp_224 rfl ?_
                  refine V.iload dX13_exp_225 rfl ?_
                  refine V.iconst (1) dX13_exp_227 (by decide) ?_
                  refine V.icmp_neN (sgs (tC b n p' - 100)) (1) rfl rfl (by have := sgs_le (tC b n p' - 100); omega) (by omega) 235 dX13_exp_228 (by decide) (fun c228 => absurd c168 c228) (fun c228 => ?_)
                  refine V.iconst (2) dX13_exp_231 (by decide) ?_
                  refine V.goto 237 dX13_exp_232 (by decide) ?_
                  have f155 := hFhh153.I (rG_na (am_0n (by decide)) rG_nn) h28
                  have f156 := hFhh153.I (rG_na (am_ne (by decide)) rG_nn) hac
                  have f157 := hFhh153.I (rG_na (am_0n (by decide)) rG_nn) h30
                  have f158 := hpl.fr hFhh153 (fun i hi => (rG_na (am_ne (by decide)) rG_nn))
                  have f159 := hAC.fr hFhh153 (fun j h1 h2 => ⟨(rG_na (am_ne (by decide)) rG_nn), (rG_na (am_ne (by decide)) rG_nn), (rG_na (am_ne (by decide)) rG_nn)⟩)
                  refine V.callV (m_reduce (d := 0) (a0 := a0 + o'.length) (P0 := P') (k := 2) hmsh153 hr f155 f156 (by omega) f157 f158 (by omega) hmc f159 (by omega) (by omega) (by omega)) mv_X13_276 ok_Y13_reduce hmsh153.1 rfl rfl (by omega) (Nat.le_of_ble_eq_true rfl) dX13_exp_237 rfl (fun rv hh160 hq hqn hqk => ?_) (fun _ _ hq _ _ => hq.elim)
                  clear hqn hqk
                  obtain ⟨rfl, hFhh160, q30hh160, q6hh160, hAChh160⟩ := hq
                  have hfrh160 := hfrh153.tr (hFhh160.mono (rG_mc (fun k h1 h2 => (rG_tl (rG_hd h1 (Nat.lt_of_lt_of_le h2 (by decide))))) (rG_mc (fun k h1 h2 => (rG_tl (rG_tl (rG_tl (rG_hd h1 h2))))) (rG_mc (fun k h1 h2 => (rG_tl (rG_tl (rG_tl (rG_tl (rG_hd (by omega) h2)))))) (rG_mc (fun k h1 h2 => (rG_tl (rG_tl (rG_tl (rG_tl (rG_tl (rG_hd (by omega) h2))))))) (rG_mc (fun k h1 h2 => (rG_tl (rG_tl (rG_tl (rG_tl (rG_tl (rG_tl (rG_hd (by omega) h2)))))))) rG_mn))))))
                  have hmsh160 := hms.fr hfrh160
                  have hrlhh160 := red_len (2) P'
                  have f161 := f158.fr hFhh160 (fun i hi => (rG_na (am_n0 (by decide)) (rG_na (am_ne (by decide)) (rG_na (am_ne (by decide)) (rG_na (am_ne (by decide)) (rG_na (am_ne (by decide)) rG_nn))))))
                  have hplr := pl_red (2) f161
                  refine V.aload_n dX13_exp_240 rfl ?_
                  refine V.getr fl_X13_67 hmsh160.1 (hmsh160.2.2 (29, 18) (by decide)) dX13_exp_241 rfl ?_
                  refine V.aload_n dX13_exp_244 rfl ?_
                  refine V.getIe fl_X13_256 hmsh160.1 q30hh160 dX13_exp_245 rfl ?_
                  have f162 := mt.fr hFhh153 (fun k h1 h2 => (rG_na (am_0n (by decide)) rG_nn))
                  have f163 := f162.fr hFhh160 (fun k h1 h2 => (rG_nk (by omega) (rG_na (am_0n (by decide)) (rG_na (am_0n (by decide)) (rG_na (am_0n (by decide)) (rG_na (am_0n (by decide)) rG_nn))))))
                  have hsg164 := f163.2.2.2.1 (by omega)
                  refine V.aload_n dX13_exp_248 rfl ?_
                  refine V.getIe fl_X13_234 hmsh160.1 hsg164 dX13_exp_249 rfl ?_
                  refine V.iastk (j := (red (2) P').1.length) (hmsh160.2.1 18 (by decide)) rfl (by omega) dX13_exp_252 (fun hh165 ehh165 => ?_)
                  have hFhh165 := Fr1I ehh165
                  have hfrh165 := hfrh160.tr (hFhh165.mono (rG_mc (fun k h1 h2 => (rG_tl (rG_tl (rG_tl (rG_tl (rG_tl (rG_tl (rG_tl (rG_hd (Nat.zero_le _) (by omega)))))))))) rG_mn))
                  have hmsh165 := hms.fr hfrh165
                  have f166 := hI_ps ehh165
                  refine V.aload_n dX13_exp_253 rfl ?_
                  refine V.dup dX13_exp_254 rfl ?_
                  have f167 := hFhh165.I (rG_na (am_0n (by decide)) rG_nn) q30hh160
                  refine V.getIe fl_X13_256 hmsh165.1 f167 dX13_exp_255 rfl ?_
                  refine V.iconst (1) dX13_exp_258 (by decide) ?_
                  refine V.iaddN ((red (2) P').1.length) (1) rfl rfl dX13_exp_259 ?_
                  refine V.putIk fl_X13_256 hmsh165.1 dX13_exp_260 rfl rfl rfl (fun hh168 ehh168 => ?_)
                  have hFhh168 := Fr1I ehh168
                  have hfrh168 := hfrh165.tr (hFhh168.mono (rG_mc (fun k h1 h2 => (rG_tl (rG_hd h1 (Nat.lt_of_lt_of_le h2 (by decide))))) rG_mn))
                  have hmsh168 := hms.fr hfrh168
                  have f169 := hI_ps ehh168
                  refine V.aload_n dX13_exp_263 rfl ?_
                  have f170 := f163.fr hFhh165 (fun k h1 h2 => (rG_na (am_0n (by decide)) rG_nn))
                  have f171 := f170.fr hFhh168 (fun k h1 h2 => (rG_nk (by omega) rG_nn))
                  have f172 := ht0.fr hFhh153 (rG_na (am_0n (by decide)) rG_nn) (fun j => (rG_na (am_ne (by decide)) rG_nn))
                  have f173 := f172.fr hFhh160 (rG_nl (by decide) (rG_na (am_0n (by decide)) (rG_na (am_0n (by decide)) (rG_na (am_0n (by decide)) (rG_na (am_0n (by decide)) rG_nn))))) (fun j => (rG_na (am_n0 (by decide)) (rG_na (am_ne (by decide)) (rG_na (am_ne (by decide)) (rG_na (am_ne (by decide)) (rG_na (am_ne (by decide)) rG_nn))))))
                  have f174 := f173.fr hFhh165 (rG_na (am_0n (by decide)) rG_nn) (fun j => (rG_na (am_ne (by decide)) rG_nn))
                  have f175 := f174.fr hFhh168 (rG_nl (by decide) rG_nn) (fun j => (rG_na (am_n0 (by decide)) rG_nn))
                  refine V.callV (m_nextR hmsh168 f175 (tE b n p') (by omega) f171.2.2.1) mv_X13_250 ok_Y13_next hmsh168.1 rfl rfl (by omega) (Nat.le_of_ble_eq_true rfl) dX13_exp_264 rfl (fun rv hh176 hq hqn hqk => ?_) (fun _ _ hq _ _ => hq.elim)
                  clear hqn hqk
                  obtain ⟨rfl, hFhh176, mthh176⟩ := hq
                  have hfrh176 := hfrh168.tr (hFhh176.mono (rG_mc (fun k h1 h2 => (rG_hd h1 (Nat.lt_of_lt_of_le h2 (by decide)))) rG_mn))
                  have hmsh176 := hms.fr hfrh176
                  refine V.iconst (1) dX13_exp_267 (by decide) ?_
                  refine V.istore_n dX13_exp_268 (by decide) ?_
                  refine V.goto 46 dX13_exp_269 (by decide) ?_
                  have hop : 2 ≤ sgs (tC b n p' - 100) ∨ (sgs (tC b n p' - 100) = 1 ∧ cs'.head? = some false) := Or.inr ⟨c168, by rw [hcs]; simp only [List.head?_cons, Option.some.injEq]; cases b0 with | false => rfl | true => exact absurd rfl c180⟩
                  have hkk : ndk (tC b n p') cs' (lvl P') = 2 := by
                    unfold ndk
                    rw [if_neg (fun z => by rw [z.1] at hop; revert hop; simp [show sgs (141 - 100) = 0 from by decide])]
                    rw [if_neg (by omega), if_pos (hop.resolve_left (by omega))]
                  have hor := opn_red (2) (by omega) P'
                  have hes := est_opr (b := b) (n := n) (p := p') (u := u') (nl := nl) (P := (red (2) P').1) (cs := cs') (o := o' ++ (red (2) P').2) (by rw [hor.2, hkk]; exact (red_top (2) P').resolve_right (by omega)) hop
                  have hopc := sgs_op (c := tC b n p' - 100) (by omega)
                  have f177 := hFhh160.I (rG_na (am_n0 (by decide)) (rG_na (am_ne (by decide)) (rG_na (am_ne (by decide)) (rG_na (am_ne (by decide)) (rG_na (am_ne (by decide)) rG_nn))))) f154
                  have f178 := hFhh165.I (rG_na (am_ne (by decide)) rG_nn) f177
                  have f179 := hFhh168.I (rG_na (am_n0 (by decide)) rG_nn) f178
                  have f180 := hFhh176.I (rG_na (am_n0 (by decide)) rG_nn) f179
                  have f181 := hcm2.2.fr hFhh153 (fun i hi => (rG_nk (by omega) rG_nn))
                  have f182 := f181.fr hFhh160 (fun i hi => (rG_na (am_n0 (by decide)) (rG_na (am_ne (by decide)) (rG_na (am_ne (by decide)) (rG_na (am_ne (by decide)) (rG_na (am_ne (by decide)) rG_nn))))))
                  have f183 := f182.fr hFhh165 (fun i hi => (rG_na (am_ne (by decide)) rG_nn))
                  have f184 := f183.fr hFhh168 (fun i hi => (rG_na (am_n0 (by decide)) rG_nn))
                  have f185 := f184.fr hFhh176 (fun i hi => (rG_na (am_n0 (by decide)) rG_nn))
                  have f186 := hFhh160.I (rG_nl (by decide) (rG_na (am_0n (by decide)) (rG_na (am_0n (by decide)) (rG_na (am_0n (by decide)) (rG_na (am_0n (by decide)) rG_nn))))) f155
                  have f187 := hFhh165.I (rG_na (am_0n (by decide)) rG_nn) f186
                  have f188 := hFhh168.I (rG_nl (by decide) rG_nn) f187
                  have f189 := hFhh176.I (rG_nh (by decide) rG_nn) f188
                  have f190 := hFhh165.I (rG_na (am_ne (by decide)) rG_nn) q6hh160
                  have f191 := hFhh168.I (rG_na (am_n0 (by decide)) rG_nn) f190
                  have f192 := hFhh176.I (rG_na (am_n0 (by decide)) rG_nn) f191
                  have f193 := hAChh160.fr hFhh165 (fun j h1 h2 => ⟨(rG_na (am_ne (by decide)) rG_nn), (rG_na (am_ne (by decide)) rG_nn), (rG_na (am_ne (by decide)) rG_nn)⟩)
                  have f194 := f193.fr hFhh168 (fun j h1 h2 => ⟨(rG_na (am_n0 (by decide)) rG_nn), (rG_na (am_n0 (by decide)) rG_nn), (rG_na (am_n0 (by decide)) rG_nn)⟩)
                  have f195 := f194.fr hFhh176 (fun j h1 h2 => ⟨(rG_na (am_n0 (by decide)) rG_nn), (rG_na (am_n0 (by decide)) rG_nn), (rG_na (am_n0 (by decide)) rG_nn)⟩)
                  have f196 := hFhh176.I (rG_nh (by decide) rG_nn) f169
                  have f197 := hFhh168.I (rG_na (am_n0 (by decide)) rG_nn) f166
                  have f198 := hFhh176.I (rG_na (am_n0 (by decide)) rG_nn) f197
                  have f199 := hplr.fr hFhh165 (fun i hi => (rG_nk (by omega) rG_nn))
                  have f200 := f199.fr hFhh168 (fun i hi => (rG_na (am_n0 (by decide)) rG_nn))
                  have f201 := f200.fr hFhh176 (fun i hi => (rG_na (am_n0 (by decide)) rG_nn))
                  have f202 := hFhh153.I (rG_na (am_0n (by decide)) rG_nn) h31
                  have f203 := hFhh160.I (rG_nh (by decide) (rG_na (am_0n (by decide)) (rG_na (am_0n (by decide)) (rG_na (am_0n (by decide)) (rG_na (am_0n (by decide)) rG_nn))))) f202
                  have f204 := hFhh165.I (rG_na (am_0n (by decide)) rG_nn) f203
                  have f205 := hFhh168.I (rG_nh (by decide) rG_nn) f204
                  have f206 := hFhh176.I (rG_nh (by decide) rG_nn) f205
                  have f207 := hFhh153.I (rG_na (am_0n (by decide)) rG_nn) h33
                  have f208 := hFhh160.I (rG_nh (by decide) (rG_na (am_0n (by decide)) (rG_na (am_0n (by decide)) (rG_na (am_0n (by decide)) (rG_na (am_0n (by decide)) rG_nn))))) f207
                  have f209 := hFhh165.I (rG_na (am_0n (by decide)) rG_nn) f208
                  have f210 := hFhh168.I (rG_nh (by decide) rG_nn) f209
                  have f211 := hFhh176.I (rG_nh (by decide) rG_nn) f210
                  have f212 := hFhh153.I (rG_na (am_ne (by decide)) rG_nn) h3u
                  have f213 := hFhh160.I (rG_na (am_n0 (by decide)) (rG_na (am_ne (by decide)) (rG_na (am_ne (by decide)) (rG_na (am_ne (by decide)) (rG_na (am_ne (by decide)) rG_nn))))) f212
                  have f214 := hFhh165.I (rG_na (am_ne (by decide)) rG_nn) f213
                  have f215 := hFhh168.I (rG_na (am_n0 (by decide)) rG_nn) f214
                  have f216 := hFhh176.I (rG_na (am_n0 (by decide)) rG_nn) f215
                  have f217 := hFhh153.I (rG_na (am_0n (by decide)) rG_nn) hbad
                  have f218 := hFhh160.I (rG_nl (by decide) (rG_na (am_0n (by decide)) (rG_na (am_0n (by decide)) (rG_na (am_0n (by decide)) (rG_na (am_0n (by decide)) rG_nn))))) f217
                  have f219 := hFhh165.I (rG_na (am_0n (by decide)) rG_nn) f218
                  have f220 := hFhh168.I (rG_nl (by decide) rG_nn) f219
                  have f221 := hFhh176.I (rG_nh (by decide) rG_nn) f220
                  have f222 := hFhh153.I (rG_na (am_0n (by decide)) rG_nn) hpl0
                  have f223 := hFhh160.I (rG_nl (by decide) (rG_na (am_0n (by decide)) (rG_na (am_0n (by decide)) (rG_na (am_0n (by decide)) (rG_na (am_0n (by decide)) rG_nn))))) f222
                  have f224 := hFhh165.I (rG_na (am_0n (by decide)) rG_nn) f223
                  have f225 := hFhh168.I (rG_nl (by decide) rG_nn) f224
                  have f226 := hFhh176.I (rG_nh (by decide) rG_nn) f225
                  refine V.wk (ih 0 (tE b n p') u' ((tC b n p' - 100) :: (red (2) P').1) (true :: cs2) (o' ++ (red (2) P').2) _ (by have := tE_gt (b := b) (n := n) (p := p') (by omega); omega) (by omega) ((hrc.tr (Rc_red (k := 2) P' o' hkk)).tr (Rc.st (hes.trans (by rw [if_pos c168, hcs]; rfl)))) hfrh176 ⟨mthh176, f189, (f192).trans (congrArg nI (by simp only [List.length_append]; omega)), f195, f196, ⟨f198, f201⟩, by rw [opn, if_neg (by omega), hor.1]; exact f206, by rw [lvl, if_neg (by omega), hor.2]; exact f211, ⟨by rw [bI_t rfl, hcl]; exact f180, f185⟩, f216⟩ f221 f226) ⟨rfl, rfl, rfl, rfl, rfl, trivial⟩
        · refine V.aload_n dX13_exp_80 rfl ?_
          refine V.getIe fl_X13_269 hms0.1 h33 dX13_exp_81 rfl ?_
          refine V.if_leN (lvl P') rfl (by omega) 133 dX13_exp_84 (by decide) (fun c84 => ?_) (fun c84 => ?_)
          · obtain ⟨b0, cs2, hcs⟩ : ∃ b0 cs2, cs' = b0 :: cs2 := by cases cs' with | nil => simp at i8 | cons b0 cs2 => exact ⟨b0, cs2, rfl⟩
            have hcm2 := hcm
            rw [hcs] at hcm2 i8
            simp only [List.length_cons] at i8
            have hcl : cs2.length = lvl P' := by omega
            have hfl := hcm2.1
            rw [hcl] at hfl
            refine V.aload_n dX13_exp_133 rfl ?_
            refine V.getIe fl_X13_209 hms0.1 mt.1 dX13_exp_134 rfl ?_
            refine V.iconst (4) dX13_exp_137 (by decide) ?_
            refine V.icmp_neN (mtk (tC b n p')) (4) rfl rfl (by omega) (by omega) 152 dX13_exp_138 (by decide) (fun c138 => ?_) (fun c138 => ?_)
            · refine V.aload_n dX13_exp_152 rfl ?_
              refine V.getIe fl_X13_209 hms0.1 mt.1 dX13_exp_153 rfl ?_
              refine V.iconst (4) dX13_exp_156 (by decide) ?_
              refine V.icmp_neN (mtk (tC b n p')) (4) rfl rfl (by omega) (by omega) 272 dX13_exp_157 (by decide) (fun c157 => ?_) (fun c157 => absurd c157 (by omega))
              refine V.iconst (0) dX13_exp_272 (by decide) ?_
              refine V.istore dX13_exp_273 (by decide) ?_
              refine V.goto 46 dX13_exp_275 (by decide) ?_
              refine V.iload dX13_exp_46 rfl ?_
              refine V.if_eq 278 dX13_exp_48 (by decide) (fun _ => ?_) (fun z => absurd rfl z)
              exact E0 _ _ 1 p' u' P' cs' o' _ hrc hfr0 hE0 hbad rfl hpl0 (fun z => absurd z.2 (by omega)) (fun z => by rw [show tC b n p' - 100 = 0 by omega, show sgs 0 = 0 from by decide] at z; omega)
            · have hsg227 := mt.2.2.2.1 (by omega)
              refine V.aload_n dX13_exp_141 rfl ?_
              refine V.getIe fl_X13_234 hms0.1 hsg227 dX13_exp_142 rfl ?_
              refine V.callS (m_strength (d := 0) (tC b n p' - 100) (by omega)) ms_X13_259 ok_Y13_strength rfl rfl (by omega) (Nat.le_of_ble_eq_true rfl) dX13_exp_145 rfl (fun rv uu hq hqn hqk => ?_) (fun _ _ hq _ _ => hq.elim)
              clear hqn hqk
              obtain ⟨rfl, hu⟩ := hq
              rw [hu]
              show V _ _ _ _ _ _ _ _ (.int _ :: _)
              refine V.iconst (1) dX13_exp_148 (by decide) ?_
              refine V.icmp_gtN (sgs (tC b n p' - 100)) (1) rfl rfl (by have := sgs_le (tC b n p' - 100); omega) (by omega) 183 dX13_exp_149 (by decide) (fun c149 => ?_) (fun c149 => ?_)
              · have hsg228 := mt.2.2.2.1 (by omega)
                refine V.aload_n dX13_exp_183 rfl ?_
                refine V.getIe fl_X13_234 hms0.1 hsg228 dX13_exp_184 rfl ?_
                refine V.callS (m_strength (d := 0) (tC b n p' - 100) (by omega)) ms_X13_259 ok_Y13_strength rfl rfl (by omega) (Nat.le_of_ble_eq_true rfl) dX13_exp_187 rfl (fun rv uu hq hqn hqk => ?_) (fun _ _ hq _ _ => hq.elim)
                clear hqn hqk
                obtain ⟨rfl, hu⟩ := hq
                rw [hu]
                show V _ _ _ _ _ _ _ _ (.int _ :: _)
                refine V.istore dX13_exp_190 (by decide) ?_
                refine V.aload_n dX13_exp_192 rfl ?_
                refine V.getr fl_X13_70 hms0.1 (hms0.2.2 (32, 19) (by decide)) dX13_exp_193 rfl ?_
                refine V.aload_n dX13_exp_196 rfl ?_
                refine V.getIe fl_X13_269 hms0.1 h33 dX13_exp_197 rfl ?_
                refine V.aload_n dX13_exp_200 rfl ?_
                refine V.getr fl_X13_70 hms0.1 (hms0.2.2 (32, 19) (by decide)) dX13_exp_201 rfl ?_
                refine V.aload_n dX13_exp_204 rfl ?_
                refine V.getIe fl_X13_269 hms0.1 h33 dX13_exp_205 rfl ?_
                refine V.zald (j := lvl P') (hms0.2.1 19 (by decide)) rfl (by omega) dX13_exp_208 ?_
                rw [hfl]
                refine V.if_neB 218 dX13_exp_209 (by decide) (fun c209 => ?_) (fun c209 => ?_)
                · refine V.iconst (1) dX13_exp_218 (by decide) ?_
                  refine V.goto 223 dX13_exp_219 (by decide) ?_
                  refine V.zastk (j := lvl P') (hms0.2.1 19 (by decide)) rfl (by omega) (by decide) dX13_exp_223 (fun hh229 ehh229 => ?_)
                  have hFhh229 := Fr1I ehh229
                  have hfrh229 := hfr0.tr (hFhh229.mono (rG_mc (fun k h1 h2 => (rG_tl (rG_tl (rG_tl (rG_tl (rG_tl (rG_tl (rG_tl (rG_tl (rG_hd (Nat.zero_le _) (by omega))))))))))) rG_mn))
                  have hmsh229 := hms.fr hfrh229
                  have f230 := hI_ps ehh229
                  refine V.aload_n dX13_exp_224 rfl ?_
                  refine V.iload dX13_exp_225 rfl ?_
                  refine V.iconst (1) dX13_exp_227 (by decide) ?_
                  refine V.icmp_neN (sgs (tC b n p' - 100)) (1) rfl rfl (by have := sgs_le (tC b n p' - 100); omega) (by omega) 235 dX13_exp_228 (by decide) (fun c228 => ?_) (fun c228 => absurd c228 (by omega))
                  refine V.iload dX13_exp_235 rfl ?_
                  have f231 := hFhh229.I (rG_na (am_0n (by decide)) rG_nn) h28
                  have f232 := hFhh229.I (rG_na (am_ne (by decide)) rG_nn) hac
                  have f233 := hFhh229.I (rG_na (am_0n (by decide)) rG_nn) h30
                  have f234 := hpl.fr hFhh229 (fun i hi => (rG_na (am_ne (by decide)) rG_nn))
                  have f235 := hAC.fr hFhh229 (fun j h1 h2 => ⟨(rG_na (am_ne (by decide)) rG_nn), (rG_na (am_ne (by decide)) rG_nn), (rG_na (am_ne (by decide)) rG_nn)⟩)
                  refine V.callV (m_reduce (d := 0) (a0 := a0 + o'.length) (P0 := P') (k := sgs (tC b n p' - 100)) hmsh229 hr f231 f232 (by omega) f233 f234 (by omega) hmc f235 (by omega) (by omega) (by omega)) mv_X13_276 ok_Y13_reduce hmsh229.1 rfl rfl (by omega) (Nat.le_of_ble_eq_true rfl) dX13_exp_237 rfl (fun rv hh236 hq hqn hqk => ?_) (fun _ _ hq _ _ => hq.elim)
                  clear hqn hqk
                  obtain ⟨rfl, hFhh236, q30hh236, q6hh236, hAChh236⟩ := hq
                  have hfrh236 := hfrh229.tr (hFhh236.mono (rG_mc (fun k h1 h2 => (rG_tl (rG_hd h1 (Nat.lt_of_lt_of_le h2 (by decide))))) (rG_mc (fun k h1 h2 => (rG_tl (rG_tl (rG_tl (rG_hd h1 h2))))) (rG_mc (fun k h1 h2 => (rG_tl (rG_tl (rG_tl (rG_tl (rG_hd (by omega) h2)))))) (rG_mc (fun k h1 h2 => (rG_tl (rG_tl (rG_tl (rG_tl (rG_tl (rG_hd (by omega) h2))))))) (rG_mc (fun k h1 h2 => (rG_tl (rG_tl (rG_tl (rG_tl (rG_tl (rG_tl (rG_hd (by omega) h2)))))))) rG_mn))))))
                  have hmsh236 := hms.fr hfrh236
                  have hrlhh236 := red_len (sgs (tC b n p' - 100)) P'
                  have f237 := f234.fr hFhh236 (fun i hi => (rG_na (am_n0 (by decide)) (rG_na (am_ne (by decide)) (rG_na (am_ne (by decide)) (rG_na (am_ne (by decide)) (rG_na (am_ne (by decide)) rG_nn))))))
                  have hplr := pl_red (sgs (tC b n p' - 100)) f237
                  refine V.aload_n dX13_exp_240 rfl ?_
                  refine V.getr fl_X13_67 hmsh236.1 (hmsh236.2.2 (29, 18) (by decide)) dX13_exp_241 rfl ?_
                  refine V.aload_n dX13_exp_244 rfl ?_
                  refine V.getIe fl_X13_256 hmsh236.1 q30hh236 dX13_exp_245 rfl ?_
                  have f238 := mt.fr hFhh229 (fun k h1 h2 => (rG_na (am_0n (by decide)) rG_nn))
                  have f239 := f238.fr hFhh236 (fun k h1 h2 => (rG_nk (by omega) (rG_na (am_0n (by decide)) (rG_na (am_0n (by decide)) (rG_na (am_0n (by decide)) (rG_na (am_0n (by decide)) rG_nn))))))
                  have hsg240 := f239.2.2.2.1 (by omega)
                  refine V.aload_n dX13_exp_248 rfl ?_
                  refine V.getIe fl_X13_234 hmsh236.1 hsg240 dX13_exp_249 rfl ?_
                  refine V.iastk (j := (red (sgs (tC b n p' - 100)) P').1.length) (hmsh236.2.1 18 (by decide)) rfl (by omega) dX13_exp_252 (fun hh241 ehh241 => ?_)
                  have hFhh241 := Fr1I ehh241
                  have hfrh241 := hfrh236.tr (hFhh241.mono (rG_mc (fun k h1 h2 => (rG_tl (rG_tl (rG_tl (rG_tl (rG_tl (rG_tl (rG_tl (rG_hd (Nat.zero_le _) (by omega)))))))))) rG_mn))
                  have hmsh241 := hms.fr hfrh241
                  have f242 := hI_ps ehh241
                  refine V.aload_n dX13_exp_253 rfl ?_
                  refine V.dup dX13_exp_254 rfl ?_
                  have f243 := hFhh241.I (rG_na (am_0n (by decide)) rG_nn) q30hh236
                  refine V.getIe fl_X13_256 hmsh241.1 f243 dX13_exp_255 rfl ?_
                  refine V.iconst (1) dX13_exp_258 (by decide) ?_
                  refine V.iaddN ((red (sgs (tC b n p' - 100)) P').1.length) (1) rfl rfl dX13_exp_259 ?_
                  refine V.putIk fl_X13_256 hmsh241.1 dX13_exp_260 rfl rfl rfl (fun hh244 ehh244 => ?_)
                  have hFhh244 := Fr1I ehh244
                  have hfrh244 := hfrh241.tr (hFhh244.mono (rG_mc (fun k h1 h2 => (rG_tl (rG_hd h1 (Nat.lt_of_lt_of_le h2 (by decide))))) rG_mn))
                  have hmsh244 := hms.fr hfrh244
                  have f245 := hI_ps ehh244
                  refine V.aload_n dX13_exp_263 rfl ?_
                  have f246 := f239.fr hFhh241 (fun k h1 h2 => (rG_na (am_0n (by decide)) rG_nn))
                  have f247 := f246.fr hFhh244 (fun k h1 h2 => (rG_nk (by omega) rG_nn))
                  have f248 := ht0.fr hFhh229 (rG_na (am_0n (by decide)) rG_nn) (fun j => (rG_na (am_ne (by decide)) rG_nn))
                  have f249 := f248.fr hFhh236 (rG_nl (by decide) (rG_na (am_0n (by decide)) (rG_na (am_0n (by decide)) (rG_na (am_0n (by decide)) (rG_na (am_0n (by decide)) rG_nn))))) (fun j => (rG_na (am_n0 (by decide)) (rG_na (am_ne (by decide)) (rG_na (am_ne (by decide)) (rG_na (am_ne (by decide)) (rG_na (am_ne (by decide)) rG_nn))))))
                  have f250 := f249.fr hFhh241 (rG_na (am_0n (by decide)) rG_nn) (fun j => (rG_na (am_ne (by decide)) rG_nn))
                  have f251 := f250.fr hFhh244 (rG_nl (by decide) rG_nn) (fun j => (rG_na (am_n0 (by decide)) rG_nn))
                  refine V.callV (m_nextR hmsh244 f251 (tE b n p') (by omega) f247.2.2.1) mv_X13_250 ok_Y13_next hmsh244.1 rfl rfl (by omega) (Nat.le_of_ble_eq_true rfl) dX13_exp_264 rfl (fun rv hh252 hq hqn hqk => ?_) (fun _ _ hq _ _ => hq.elim)
                  clear hqn hqk
                  obtain ⟨rfl, hFhh252, mthh252⟩ := hq
                  have hfrh252 := hfrh244.tr (hFhh252.mono (rG_mc (fun k h1 h2 => (rG_hd h1 (Nat.lt_of_lt_of_le h2 (by decide)))) rG_mn))
                  have hmsh252 := hms.fr hfrh252
                  refine V.iconst (1) dX13_exp_267 (by decide) ?_
                  refine V.istore_n dX13_exp_268 (by decide) ?_
                  refine V.goto 46 dX13_exp_269 (by decide) ?_
                  have hop : 2 ≤ sgs (tC b n p' - 100) ∨ (sgs (tC b n p' - 100) = 1 ∧ cs'.head? = some false) := Or.inl c149
                  have hkk : ndk (tC b n p') cs' (lvl P') = sgs (tC b n p' - 100) := by
                    unfold ndk
                    rw [if_neg (fun z => by rw [z.1] at hop; revert hop; simp [show sgs (141 - 100) = 0 from by decide])]
                    rw [if_pos (by omega)]
                  have hor := opn_red (sgs (tC b n p' - 100)) (by omega) P'
                  have hes := est_opr (b := b) (n := n) (p := p') (u := u') (nl := nl) (P := (red (sgs (tC b n p' - 100)) P').1) (cs := cs') (o := o' ++ (red (sgs (tC b n p' - 100)) P').2) (by rw [hor.2, hkk]; exact (red_top (sgs (tC b n p' - 100)) P').resolve_right (by omega)) hop
                  have hopc := sgs_op (c := tC b n p' - 100) (by omega)
                  have f253 := hFhh236.I (rG_na (am_n0 (by decide)) (rG_na (am_ne (by decide)) (rG_na (am_ne (by decide)) (rG_na (am_ne (by decide)) (rG_na (am_ne (by decide)) rG_nn))))) f230
                  have f254 := hFhh241.I (rG_na (am_ne (by decide)) rG_nn) f253
                  have f255 := hFhh244.I (rG_na (am_n0 (by decide)) rG_nn) f254
                  have f256 := hFhh252.I (rG_na (am_n0 (by decide)) rG_nn) f255
                  have f257 := hcm2.2.fr hFhh229 (fun i hi => (rG_nk (by omega) rG_nn))
                  have f258 := f257.fr hFhh236 (fun i hi => (rG_na (am_n0 (by decide)) (rG_na (am_ne (by decide)) (rG_na (am_ne (by decide)) (rG_na (am_ne (by decide)) (rG_na (am_ne (by decide)) rG_nn))))))
                  have f259 := f258.fr hFhh241 (fun i hi => (rG_na (am_ne (by decide)) rG_nn))
                  have f260 := f259.fr hFhh244 (fun i hi => (rG_na (am_n0 (by decide)) rG_nn))
                  have f261 := f260.fr hFhh252 (fun i hi => (rG_na (am_n0 (by decide)) rG_nn))
                  have f262 := hFhh236.I (rG_nl (by decide) (rG_na (am_0n (by decide)) (rG_na (am_0n (by decide)) (rG_na (am_0n (by decide)) (rG_na (am_0n (by decide)) rG_nn))))) f231
                  have f263 := hFhh241.I (rG_na (am_0n (by decide)) rG_nn) f262
                  have f264 := hFhh244.I (rG_nl (by decide) rG_nn) f263
                  have f265 := hFhh252.I (rG_nh (by decide) rG_nn) f264
                  have f266 := hFhh241.I (rG_na (am_ne (by decide)) rG_nn) q6hh236
                  have f267 := hFhh244.I (rG_na (am_n0 (by decide)) rG_nn) f266
                  have f268 := hFhh252.I (rG_na (am_n0 (by decide)) rG_nn) f267
                  have f269 := hAChh236.fr hFhh241 (fun j h1 h2 => ⟨(rG_na (am_ne (by decide)) rG_nn), (rG_na (am_ne (by decide)) rG_nn), (rG_na (am_ne (by decide)) rG_nn)⟩)
                  have f270 := f269.fr hFhh244 (fun j h1 h2 => ⟨(rG_na (am_n0 (by decide)) rG_nn), (rG_na (am_n0 (by decide)) rG_nn), (rG_na (am_n0 (by decide)) rG_nn)⟩)
                  have f271 := f270.fr hFhh252 (fun j h1 h2 => ⟨(rG_na (am_n0 (by decide)) rG_nn), (rG_na (am_n0 (by decide)) rG_nn), (rG_na (am_n0 (by decide)) rG_nn)⟩)
                  have f272 := hFhh252.I (rG_nh (by decide) rG_nn) f245
                  have f273 := hFhh244.I (rG_na (am_n0 (by decide)) rG_nn) f242
                  have f274 := hFhh252.I (rG_na (am_n0 (by decide)) rG_nn) f273
                  have f275 := hplr.fr hFhh241 (fun i hi => (rG_nk (by omega) rG_nn))
                  have f276 := f275.fr hFhh244 (fun i hi => (rG_na (am_n0 (by decide)) rG_nn))
                  have f277 := f276.fr hFhh252 (fun i hi => (rG_na (am_n0 (by decide)) rG_nn))
                  have f278 := hFhh229.I (rG_na (am_0n (by decide)) rG_nn) h31
                  have f279 := hFhh236.I (rG_nh (by decide) (rG_na (am_0n (by decide)) (rG_na (am_0n (by decide)) (rG_na (am_0n (by decide)) (rG_na (am_0n (by decide)) rG_nn))))) f278
                  have f280 := hFhh241.I (rG_na (am_0n (by decide)) rG_nn) f279
                  have f281 := hFhh244.I (rG_nh (by decide) rG_nn) f280
                  have f282 := hFhh252.I (rG_nh (by decide) rG_nn) f281
                  have f283 := hFhh229.I (rG_na (am_0n (by decide)) rG_nn) h33
                  have f284 := hFhh236.I (rG_nh (by decide) (rG_na (am_0n (by decide)) (rG_na (am_0n (by decide)) (rG_na (am_0n (by decide)) (rG_na (am_0n (by decide)) rG_nn))))) f283
                  have f285 := hFhh241.I (rG_na (am_0n (by decide)) rG_nn) f284
                  have f286 := hFhh244.I (rG_nh (by decide) rG_nn) f285
                  have f287 := hFhh252.I (rG_nh (by decide) rG_nn) f286
                  have f288 := hFhh229.I (rG_na (am_ne (by decide)) rG_nn) h3u
                  have f289 := hFhh236.I (rG_na (am_n0 (by decide)) (rG_na (am_ne (by decide)) (rG_na (am_ne (by decide)) (rG_na (am_ne (by decide)) (rG_na (am_ne (by decide)) rG_nn))))) f288
                  have f290 := hFhh241.I (rG_na (am_ne (by decide)) rG_nn) f289
                  have f291 := hFhh244.I (rG_na (am_n0 (by decide)) rG_nn) f290
                  have f292 := hFhh252.I (rG_na (am_n0 (by decide)) rG_nn) f291
                  have f293 := hFhh229.I (rG_na (am_0n (by decide)) rG_nn) hbad
                  have f294 := hFhh236.I (rG_nl (by decide) (rG_na (am_0n (by decide)) (rG_na (am_0n (by decide)) (rG_na (am_0n (by decide)) (rG_na (am_0n (by decide)) rG_nn))))) f293
                  have f295 := hFhh241.I (rG_na (am_0n (by decide)) rG_nn) f294
                  have f296 := hFhh244.I (rG_nl (by decide) rG_nn) f295
                  have f297 := hFhh252.I (rG_nh (by decide) rG_nn) f296
                  have f298 := hFhh229.I (rG_na (am_0n (by decide)) rG_nn) hpl0
                  have f299 := hFhh236.I (rG_nl (by decide) (rG_na (am_0n (by decide)) (rG_na (am_0n (by decide)) (rG_na (am_0n (by decide)) (rG_na (am_0n (by decide)) rG_nn))))) f298
                  have f300 := hFhh241.I (rG_na (am_0n (by decide)) rG_nn) f299
                  have f301 := hFhh244.I (rG_nl (by decide) rG_nn) f300
                  have f302 := hFhh252.I (rG_nh (by decide) rG_nn) f301
                  refine V.wk (ih 0 (tE b n p') u' ((tC b n p' - 100) :: (red (sgs (tC b n p' - 100)) P').1) (cs') (o' ++ (red (sgs (tC b n p' - 100)) P').2) _ (by have := tE_gt (b := b) (n := n) (p := p') (by omega); omega) (by omega) ((hrc.tr (Rc_red (k := sgs (tC b n p' - 100)) P' o' hkk)).tr (Rc.st (hes.trans (by rw [if_neg (by omega)])))) hfrh252 ⟨mthh252, f265, (f268).trans (congrArg nI (by simp only [List.length_append]; omega)), f271, f272, ⟨f274, f277⟩, by rw [opn, if_neg (by omega), hor.1]; exact f282, by rw [lvl, if_neg (by omega), hor.2]; exact f287, (by rw [hcs]; exact ⟨by rw [hcl]; exact (by rw [bI_t c209]; exact f256), f261⟩), f292⟩ f297 f302) ⟨rfl, rfl, rfl, rfl, rfl, trivial⟩
                · refine V.iload dX13_exp_212 rfl ?_
                  refine V.iconst (1) dX13_exp_214 (by decide) ?_
                  refine V.icmp_neN (sgs (tC b n p' - 100)) (1) rfl rfl (by have := sgs_le (tC b n p' - 100); omega) (by omega) 222 dX13_exp_215 (by decide) (fun c215 => ?_) (fun c215 => absurd c215 (by omega))
                  refine V.iconst (0) dX13_exp_222 (by decide) ?_
                  refine V.zastk (j := lvl P') (hms0.2.1 19 (by decide)) rfl (by omega) (by decide) dX13_exp_223 (fun hh303 ehh303 => ?_)
                  have hFhh303 := Fr1I ehh303
                  have hfrh303 := hfr0.tr (hFhh303.mono (rG_mc (fun k h1 h2 => (rG_tl (rG_tl (rG_tl (rG_tl (rG_tl (rG_tl (rG_tl (rG_tl (rG_hd (Nat.zero_le _) (by omega))))))))))) rG_mn))
                  have hmsh303 := hms.fr hfrh303
                  have f304 := hI_ps ehh303
                  refine V.aload_n dX13_exp_224 rfl ?_
                  refine V.iload dX13_exp_225 rfl ?_
                  refine V.iconst (1) dX13_exp_227 (by decide) ?_
                  refine V.icmp_neN (sgs (tC b n p' - 100)) (1) rfl rfl (by have := sgs_le (tC b n p' - 100); omega) (by omega) 235 dX13_exp_228 (by decide) (fun c228 => ?_) (fun c228 => absurd c228 (by omega))
                  refine V.iload dX13_exp_235 rfl ?_
                  have f305 := hFhh303.I (rG_na (am_0n (by decide)) rG_nn) h28
                  have f306 := hFhh303.I (rG_na (am_ne (by decide)) rG_nn) hac
                  have f307 := hFhh303.I (rG_na (am_0n (by decide)) rG_nn) h30
                  have f308 := hpl.fr hFhh303 (fun i hi => (rG_na (am_ne (by decide)) rG_nn))
                  have f309 := hAC.fr hFhh303 (fun j h1 h2 => ⟨(rG_na (am_ne (by decide)) rG_nn), (rG_na (am_ne (by decide)) rG_nn), (rG_na (am_ne (by decide)) rG_nn)⟩)
                  refine V.callV (m_reduce (d := 0) (a0 := a0 + o'.length) (P0 := P') (k := sgs (tC b n p' - 100)) hmsh303 hr f305 f306 (by omega) f307 f308 (by omega) hmc f309 (by omega) (by omega) (by omega)) mv_X13_276 ok_Y13_reduce hmsh303.1 rfl rfl (by omega) (Nat.le_of_ble_eq_true rfl) dX13_exp_237 rfl (fun rv hh310 hq hqn hqk => ?_) (fun _ _ hq _ _ => hq.elim)
                  clear hqn hqk
                  obtain ⟨rfl, hFhh310, q30hh310, q6hh310, hAChh310⟩ := hq
                  have hfrh310 := hfrh303.tr (hFhh310.mono (rG_mc (fun k h1 h2 => (rG_tl (rG_hd h1 (Nat.lt_of_lt_of_le h2 (by decide))))) (rG_mc (fun k h1 h2 => (rG_tl (rG_tl (rG_tl (rG_hd h1 h2))))) (rG_mc (fun k h1 h2 => (rG_tl (rG_tl (rG_tl (rG_tl (rG_hd (by omega) h2)))))) (rG_mc (fun k h1 h2 => (rG_tl (rG_tl (rG_tl (rG_tl (rG_tl (rG_hd (by omega) h2))))))) (rG_mc (fun k h1 h2 => (rG_tl (rG_tl (rG_tl (rG_tl (rG_tl (rG_tl (rG_hd (by omega) h2)))))))) rG_mn))))))
                  have hmsh310 := hms.fr hfrh310
                  have hrlhh310 := red_len (sgs (tC b n p' - 100)) P'
                  have f311 := f308.fr hFhh310 (fun i hi => (rG_na (am_n0 (by decide)) (rG_na (am_ne (by decide)) (rG_na (am_ne (by decide)) (rG_na (am_ne (by decide)) (rG_na (am_ne (by decide)) rG_nn))))))
                  have hplr := pl_red (sgs (tC b n p' - 100)) f311
                  refine V.aload_n dX13_exp_240 rfl ?_
                  refine V.getr fl_X13_67 hmsh310.1 (hmsh310.2.2 (29, 18) (by decide)) dX13_exp_241 rfl ?_
                  refine V.aload_n dX13_exp_244 rfl ?_
                  refine V.getIe fl_X13_256 hmsh310.1 q30hh310 dX13_exp_245 rfl ?_
                  have f312 := mt.fr hFhh303 (fun k h1 h2 => (rG_na (am_0n (by decide)) rG_nn))
                  have f313 := f312.fr hFhh310 (fun k h1 h2 => (rG_nk (by omega) (rG_na (am_0n (by decide)) (rG_na (am_0n (by decide)) (rG_na (am_0n (by decide)) (rG_na (am_0n (by decide)) rG_nn))))))
                  have hsg314 := f313.2.2.2.1 (by omega)
                  refine V.aload_n dX13_exp_248 rfl ?_
                  refine V.getIe fl_X13_234 hmsh310.1 hsg314 dX13_exp_249 rfl ?_
                  refine V.iastk (j := (red (sgs (tC b n p' - 100)) P').1.length) (hmsh310.2.1 18 (by decide)) rfl (by omega) dX13_exp_252 (fun hh315 ehh315 => ?_)
                  have hFhh315 := Fr1I ehh315
                  have hfrh315 := hfrh310.tr (hFhh315.mono (rG_mc (fun k h1 h2 => (rG_tl (rG_tl (rG_tl (rG_tl (rG_tl (rG_tl (rG_tl (rG_hd (Nat.zero_le _) (by omega)))))))))) rG_mn))
                  have hmsh315 := hms.fr hfrh315
                  have f316 := hI_ps ehh315
                  refine V.aload_n dX13_exp_253 rfl ?_
                  refine V.dup dX13_exp_254 rfl ?_
                  have f317 := hFhh315.I (rG_na (am_0n (by decide)) rG_nn) q30hh310
                  refine V.getIe fl_X13_256 hmsh315.1 f317 dX13_exp_255 rfl ?_
                  refine V.iconst (1) dX13_exp_258 (by decide) ?_
                  refine V.iaddN ((red (sgs (tC b n p' - 100)) P').1.length) (1) rfl rfl dX13_exp_259 ?_
                  refine V.putIk fl_X13_256 hmsh315.1 dX13_exp_260 rfl rfl rfl (fun hh318 ehh318 => ?_)
                  have hFhh318 := Fr1I ehh318
                  have hfrh318 := hfrh315.tr (hFhh318.mono (rG_mc (fun k h1 h2 => (rG_tl (rG_hd h1 (Nat.lt_of_lt_of_le h2 (by decide))))) rG_mn))
                  have hmsh318 := hms.fr hfrh318
                  have f319 := hI_ps ehh318
                  refine V.aload_n dX13_exp_263 rfl ?_
                  have f320 := f313.fr hFhh315 (fun k h1 h2 => (rG_na (am_0n (by decide)) rG_nn))
                  have f321 := f320.fr hFhh318 (fun k h1 h2 => (rG_nk (by omega) rG_nn))
                  have f322 := ht0.fr hFhh303 (rG_na (am_0n (by decide)) rG_nn) (fun j => (rG_na (am_ne (by decide)) rG_nn))
                  have f323 := f322.fr hFhh310 (rG_nl (by decide) (rG_na (am_0n (by decide)) (rG_na (am_0n (by decide)) (rG_na (am_0n (by decide)) (rG_na (am_0n (by decide)) rG_nn))))) (fun j => (rG_na (am_n0 (by decide)) (rG_na (am_ne (by decide)) (rG_na (am_ne (by decide)) (rG_na (am_ne (by decide)) (rG_na (am_ne (by decide)) rG_nn))))))
                  have f324 := f323.fr hFhh315 (rG_na (am_0n (by decide)) rG_nn) (fun j => (rG_na (am_ne (by decide)) rG_nn))
                  have f325 := f324.fr hFhh318 (rG_nl (by decide) rG_nn) (fun j => (rG_na (am_n0 (by decide)) rG_nn))
                  refine V.callV (m_nextR hmsh318 f325 (tE b n p') (by omega) f321.2.2.1) mv_X13_250 ok_Y13_next hmsh318.1 rfl rfl (by omega) (Nat.le_of_ble_eq_true rfl) dX13_exp_264 rfl (fun rv hh326 hq hqn hqk => ?_) (fun _ _ hq _ _ => hq.elim)
                  clear hqn hqk
                  obtain ⟨rfl, hFhh326, mthh326⟩ := hq
                  have hfrh326 := hfrh318.tr (hFhh326.mono (rG_mc (fun k h1 h2 => (rG_hd h1 (Nat.lt_of_lt_of_le h2 (by decide)))) rG_mn))
                  have hmsh326 := hms.fr hfrh326
                  refine V.iconst (1) dX13_exp_267 (by decide) ?_
                  refine V.istore_n dX13_exp_268 (by decide) ?_
                  refine V.goto 46 dX13_exp_269 (by decide) ?_
                  have hop : 2 ≤ sgs (tC b n p' - 100) ∨ (sgs (tC b n p' - 100) = 1 ∧ cs'.head? = some false) := Or.inl c149
                  have hkk : ndk (tC b n p') cs' (lvl P') = sgs (tC b n p' - 100) := by
                    unfold ndk
                    rw [if_neg (fun z => by rw [z.1] at hop; revert hop; simp [show sgs (141 - 100) = 0 from by decide])]
                    rw [if_pos (by omega)]
                  have hor := opn_red (sgs (tC b n p' - 100)) (by omega) P'
                  have hes := est_opr (b := b) (n := n) (p := p') (u := u') (nl := nl) (P := (red (sgs (tC b n p' - 100)) P').1) (cs := cs') (o := o' ++ (red (sgs (tC b n p' - 100)) P').2) (by rw [hor.2, hkk]; exact (red_top (sgs (tC b n p' - 100)) P').resolve_right (by omega)) hop
                  have hopc := sgs_op (c := tC b n p' - 100) (by omega)
                  have f327 := hFhh310.I (rG_na (am_n0 (by decide)) (rG_na (am_ne (by decide)) (rG_na (am_ne (by decide)) (rG_na (am_ne (by decide)) (rG_na (am_ne (by decide)) rG_nn))))) f304
                  have f328 := hFhh315.I (rG_na (am_ne (by decide)) rG_nn) f327
                  have f329 := hFhh318.I (rG_na (am_n0 (by decide)) rG_nn) f328
                  have f330 := hFhh326.I (rG_na (am_n0 (by decide)) rG_nn) f329
                  have f331 := hcm2.2.fr hFhh303 (fun i hi => (rG_nk (by omega) rG_nn))
                  have f332 := f331.fr hFhh310 (fun i hi => (rG_na (am_n0 (by decide)) (rG_na (am_ne (by decide)) (rG_na (am_ne (by decide)) (rG_na (am_ne (by decide)) (rG_na (am_ne (by decide)) rG_nn))))))
                  have f333 := f332.fr hFhh315 (fun i hi => (rG_na (am_ne (by decide)) rG_nn))
                  have f334 := f333.fr hFhh318 (fun i hi => (rG_na (am_n0 (by decide)) rG_nn))
                  have f335 := f334.fr hFhh326 (fun i hi => (rG_na (am_n0 (by decide)) rG_nn))
                  have f336 := hFhh310.I (rG_nl (by decide) (rG_na (am_0n (by decide)) (rG_na (am_0n (by decide)) (rG_na (am_0n (by decide)) (rG_na (am_0n (by decide)) rG_nn))))) f305
                  have f337 := hFhh315.I (rG_na (am_0n (by decide)) rG_nn) f336
                  have f338 := hFhh318.I (rG_nl (by decide) rG_nn) f337
                  have f339 := hFhh326.I (rG_nh (by decide) rG_nn) f338
                  have f340 := hFhh315.I (rG_na (am_ne (by decide)) rG_nn) q6hh310
                  have f341 := hFhh318.I (rG_na (am_n0 (by decide)) rG_nn) f340
                  have f342 := hFhh326.I (rG_na (am_n0 (by decide)) rG_nn) f341
                  have f343 := hAChh310.fr hFhh315 (fun j h1 h2 => ⟨(rG_na (am_ne (by decide)) rG_nn), (rG_na (am_ne (by decide)) rG_nn), (rG_na (am_ne (by decide)) rG_nn)⟩)
                  have f344 := f343.fr hFhh318 (fun j h1 h2 => ⟨(rG_na (am_n0 (by decide)) rG_nn), (rG_na (am_n0 (by decide)) rG_nn), (rG_na (am_n0 (by decide)) rG_nn)⟩)
                  have f345 := f344.fr hFhh326 (fun j h1 h2 => ⟨(rG_na (am_n0 (by decide)) rG_nn), (rG_na (am_n0 (by decide)) rG_nn), (rG_na (am_n0 (by decide)) rG_nn)⟩)
                  have f346 := hFhh326.I (rG_nh (by decide) rG_nn) f319
                  have f347 := hFhh318.I (rG_na (am_n0 (by decide)) rG_nn) f316
                  have f348 := hFhh326.I (rG_na (am_n0 (by decide)) rG_nn) f347
                  have f349 := hplr.fr hFhh315 (fun i hi => (rG_nk (by omega) rG_nn))
                  have f350 := f349.fr hFhh318 (fun i hi => (rG_na (am_n0 (by decide)) rG_nn))
                  have f351 := f350.fr hFhh326 (fun i hi => (rG_na (am_n0 (by decide)) rG_nn))
                  have f352 := hFhh303.I (rG_na (am_0n (by decide)) rG_nn) h31
                  have f353 := hFhh310.I (rG_nh (by decide) (rG_na (am_0n (by decide)) (rG_na (am_0n (by decide)) (rG_na (am_0n (by decide)) (rG_na (am_0n (by decide)) rG_nn))))) f352
                  have f354 := hFhh315.I (rG_na (am_0n (by decide)) rG_nn) f353
                  have f355 := hFhh318.I (rG_nh (by decide) rG_nn) f354
                  have f356 := hFhh326.I (rG_nh (by decide) rG_nn) f355
                  have f357 := hFhh303.I (rG_na (am_0n (by decide)) rG_nn) h33
                  have f358 := hFhh310.I (rG_nh (by decide) (rG_na (am_0n (by decide)) (rG_na (am_0n (by decide)) (rG_na (am_0n (by decide)) (rG_na (am_0n (by decide)) rG_nn))))) f357
                  have f359 := hFhh315.I (rG_na (am_0n (by decide)) rG_nn) f358
                  have f360 := hFhh318.I (rG_nh (by decide) rG_nn) f359
                  have f361 := hFhh326.I (rG_nh (by decide) rG_nn) f360
                  have f362 := hFhh303.I (rG_na (am_ne (by decide)) rG_nn) h3u
                  have f363 := hFhh310.I (rG_na (am_n0 (by decide)) (rG_na (am_ne (by decide)) (rG_na (am_ne (by decide)) (rG_na (am_ne (by decide)) (rG_na (am_ne (by decide)) rG_nn))))) f362
                  have f364 := hFhh315.I (rG_na (am_ne (by decide)) rG_nn) f363
                  have f365 := hFhh318.I (rG_na (am_n0 (by decide)) rG_nn) f364
                  have f366 := hFhh326.I (rG_na (am_n0 (by decide)) rG_nn) f365
                  have f367 := hFhh303.I (rG_na (am_0n (by decide)) rG_nn) hbad
                  have f368 := hFhh310.I (rG_nl (by decide) (rG_na (am_0n (by decide)) (rG_na (am_0n (by decide)) (rG_na (am_0n (by decide)) (rG_na (am_0n (by decide)) rG_nn))))) f367
                  have f369 := hFhh315.I (rG_na (am_0n (by decide)) rG_nn) f368
                  have f370 := hFhh318.I (rG_nl (by decide) rG_nn) f369
                  have f371 := hFhh326.I (rG_nh (by decide) rG_nn) f370
                  have f372 := hFhh303.I (rG_na (am_0n (by decide)) rG_nn) hpl0
                  have f373 := hFhh310.I (rG_nl (by decide) (rG_na (am_0n (by decide)) (rG_na (am_0n (by decide)) (rG_na (am_0n (by decide)) (rG_na (am_0n (by decide)) rG_nn))))) f372
                  have f374 := hFhh315.I (rG_na (am_0n (by decide)) rG_nn) f373
                  have f375 := hFhh318.I (rG_nl (by decide) rG_nn) f374
                  have f376 := hFhh326.I (rG_nh (by decide) rG_nn) f375
                  refine V.wk (ih 0 (tE b n p') u' ((tC b n p' - 100) :: (red (sgs (tC b n p' - 100)) P').1) (cs') (o' ++ (red (sgs (tC b n p' - 100)) P').2) _ (by have := tE_gt (b := b) (n := n) (p := p') (by omega); omega) (by omega) ((hrc.tr (Rc_red (k := sgs (tC b n p' - 100)) P' o' hkk)).tr (Rc.st (hes.trans (by rw [if_neg (by omega)])))) hfrh326 ⟨mthh326, f339, (f342).trans (congrArg nI (by simp only [List.length_append]; omega)), f345, f346, ⟨f348, f351⟩, by rw [opn, if_neg (by omega), hor.1]; exact f356, by rw [lvl, if_neg (by omega), hor.2]; exact f361, (by rw [hcs]; exact ⟨by rw [hcl]; exact (by rw [bI_f c209]; exact f330), f335⟩), f366⟩ f371 f376) ⟨rfl, rfl, rfl, rfl, rfl, trivial⟩
              · refine V.aload_n dX13_exp_152 rfl ?_
                refine V.getIe fl_X13_209 hms0.1 mt.1 dX13_exp_153 rfl ?_
                refine V.iconst (4) dX13_exp_156 (by decide) ?_
                refine V.icmp_neN (mtk (tC b n p')) (4) rfl rfl (by omega) (by omega) 272 dX13_exp_157 (by decide) (fun c157 => absurd c138 c157) (fun c157 => ?_)
                have hsg377 := mt.2.2.2.1 (by omega)
                refine V.aload_n dX13_exp_160 rfl ?_
                refine V.getIe fl_X13_234 hms0.1 hsg377 dX13_exp_161 rfl ?_
                refine V.callS (m_strength (d := 0) (tC b n p' - 100) (by omega)) ms_X13_259 ok_Y13_strength rfl rfl (by omega) (Nat.le_of_ble_eq_true rfl) dX13_exp_164 rfl (fun rv uu hq hqn hqk => ?_) (fun _ _ hq _ _ => hq.elim)
                clear hqn hqk
                obtain ⟨rfl, hu⟩ := hq
                rw [hu]
                show V _ _ _ _ _ _ _ _ (.int _ :: _)
                refine V.iconst (1) dX13_exp_167 (by decide) ?_
                refine V.icmp_neN (sgs (tC b n p' - 100)) (1) rfl rfl (by have := sgs_le (tC b n p' - 100); omega) (by omega) 272 dX13_exp_168 (by decide) (fun c168 => ?_) (fun c168 => ?_)
                · refine V.iconst (0) dX13_exp_272 (by decide) ?_
                  refine V.istore dX13_exp_273 (by decide) ?_
                  refine V.goto 46 dX13_exp_275 (by decide) ?_
                  refine V.iload dX13_exp_46 rfl ?_
                  refine V.if_eq 278 dX13_exp_48 (by decide) (fun _ => ?_) (fun z => absurd rfl z)
                  exact E0 _ _ 1 p' u' P' cs' o' _ hrc hfr0 hE0 hbad rfl hpl0 (fun z => absurd z.2 (by omega)) (fun z => by omega)
                · refine V.aload_n dX13_exp_171 rfl ?_
                  refine V.getr fl_X13_70 hms0.1 (hms0.2.2 (32, 19) (by decide)) dX13_exp_172 rfl ?_
                  refine V.aload_n dX13_exp_175 rfl ?_
                  refine V.getIe fl_X13_269 hms0.1 h33 dX13_exp_176 rfl ?_
                  refine V.zald (j := lvl P') (hms0.2.1 19 (by decide)) rfl (by omega) dX13_exp_179 ?_
                  rw [hfl]
                  refine V.if_neB 272 dX13_exp_180 (by decide) (fun c180 => ?_) (fun c180 => ?_)
                  · refine V.iconst (0) dX13_exp_272 (by decide) ?_
                    refine V.istore dX13_exp_273 (by decide) ?_
                    refine V.goto 46 dX13_exp_275 (by decide) ?_
                    refine V.iload dX13_exp_46 rfl ?_
                    refine V.if_eq 278 dX13_exp_48 (by decide) (fun _ => ?_) (fun z => absurd rfl z)
                    exact E0 _ _ 1 p' u' P' cs' o' _ hrc hfr0 hE0 hbad rfl hpl0 (fun z => absurd z.2 (by omega)) (fun z => by rcases z with z | z; exact absurd z (by omega); rw [hcs] at z; simp only [List.head?_cons, Option.some.injEq] at z; rw [z.2] at c180; cases c180)
                  · have hsg378 := mt.2.2.2.1 (by omega)
                    refine V.aload_n dX13_exp_183 rfl ?_
                    refine V.getIe fl_X13_234 hms0.1 hsg378 dX13_exp_184 rfl ?_
                    refine V.callS (m_strength (d := 0) (tC b n p' - 100) (by omega)) ms_X13_259 ok_Y13_strength rfl rfl (by omega) (Nat.le_of_ble_eq_true rfl) dX13_exp_187 rfl (fun rv uu hq hqn hqk => ?_) (fun _ _ hq _ _ => hq.elim)
                    clear hqn hqk
                    obtain ⟨rfl, hu⟩ := hq
                    rw [hu]
                    show V _ _ _ _ _ _ _ _ (.int _ :: _)
                    refine V.istore dX13_exp_190 (by decide) ?_
                    refine V.aload_n dX13_exp_192 rfl ?_
                    refine V.getr fl_X13_70 hms0.1 (hms0.2.2 (32, 19) (by decide)) dX13_exp_193 rfl ?_
                    refine V.aload_n dX13_exp_196 rfl ?_
                    refine V.getIe fl_X13_269 hms0.1 h33 dX13_exp_197 rfl ?_
                    refine V.aload_n dX13_exp_200 rfl ?_
                    refine V.getr fl_X13_70 hms0.1 (hms0.2.2 (32, 19) (by decide)) dX13_exp_201 rfl ?_
                    refine V.aload_n dX13_exp_204 rfl ?_
                    refine V.getIe fl_X13_269 hms0.1 h33 dX13_exp_205 rfl ?_
                    refine V.zald (j := lvl P') (hms0.2.1 19 (by decide)) rfl (by omega) dX13_exp_208 ?_
                    rw [hfl]
                    refine V.if_neB 218 dX13_exp_209 (by decide) (fun c209 => absurd c209 c180) (fun c209 => ?_)
                    refine V.iload dX13_exp_212 rfl ?_
                    refine V.iconst (1) dX13_exp_214 (by decide) ?_
                    refine V.icmp_neN (sgs (tC b n p' - 100)) (1) rfl rfl (by have := sgs_le (tC b n p' - 100); omega) (by omega) 222 dX13_exp_215 (by decide) (fun c215 => absurd c168 c215) (fun c215 => ?_)
                    refine V.iconst (1) dX13_exp_218 (by decide) ?_
                    refine V.goto 223 dX13_exp_219 (by decide) ?_
                    refine V.zastk (j := lvl P') (hms0.2.1 19 (by decide)) rfl (by omega) (by decide) dX13_exp_223 (fun hh379 ehh379 => ?_)
                    have hFhh379 := Fr1I ehh379
                    have hfrh379 := hfr0.tr (hFhh379.mono (rG_mc (fun k h1 h2 => (rG_tl (rG_tl (rG_tl (rG_tl (rG_tl (rG_tl (rG_tl (rG_tl (rG_hd (Nat.zero_le _) (by omega))))))))))) rG_mn))
                    have hmsh379 := hms.fr hfrh379
                    have f380 := hI_ps ehh379
                    refine V.aload_n dX13_exp_224 rfl ?_
                    refine V.iload dX13_exp_225 rfl ?_
                    refine V.iconst (1) dX13_exp_227 (by decide) ?_
                    refine V.icmp_neN (sgs (tC b n p' - 100)) (1) rfl rfl (by have := sgs_le (tC b n p' - 100); omega) (by omega) 235 dX13_exp_228 (by decide) (fun c228 => absurd c168 c228) (fun c228 => ?_)
                    refine V.iconst (2) dX13_exp_231 (by decide) ?_
                    refine V.goto 237 dX13_exp_232 (by decide) ?_
                    have f381 := hFhh379.I (rG_na (am_0n (by decide)) rG_nn) h28
                    have f382 := hFhh379.I (rG_na (am_ne (by decide)) rG_nn) hac
                    have f383 := hFhh379.I (rG_na (am_0n (by decide)) rG_nn) h30
                    have f384 := hpl.fr hFhh379 (fun i hi => (rG_na (am_ne (by decide)) rG_nn))
                    have f385 := hAC.fr hFhh379 (fun j h1 h2 => ⟨(rG_na (am_ne (by decide)) rG_nn), (rG_na (am_ne (by decide)) rG_nn), (rG_na (am_ne (by decide)) rG_nn)⟩)
                    refine V.callV (m_reduce (d := 0) (a0 := a0 + o'.length) (P0 := P') (k := 2) hmsh379 hr f381 f382 (by omega) f383 f384 (by omega) hmc f385 (by omega) (by omega) (by omega)) mv_X13_276 ok_Y13_reduce hmsh379.1 rfl rfl (by omega) (Nat.le_of_ble_eq_true rfl) dX13_exp_237 rfl (fun rv hh386 hq hqn hqk => ?_) (fun _ _ hq _ _ => hq.elim)
                    clear hqn hqk
                    obtain ⟨rfl, hFhh386, q30hh386, q6hh386, hAChh386⟩ := hq
                    have hfrh386 := hfrh379.tr (hFhh386.mono (rG_mc (fun k h1 h2 => (rG_tl (rG_hd h1 (Nat.lt_of_lt_of_le h2 (by decide))))) (rG_mc (fun k h1 h2 => (rG_tl (rG_tl (rG_tl (rG_hd h1 h2))))) (rG_mc (fun k h1 h2 => (rG_tl (rG_tl (rG_tl (rG_tl (rG_hd (by omega) h2)))))) (rG_mc (fun k h1 h2 => (rG_tl (rG_tl (rG_tl (rG_tl (rG_tl (rG_hd (by omega) h2))))))) (rG_mc (fun k h1 h2 => (rG_tl (rG_tl (rG_tl (rG_tl (rG_tl (rG_tl (rG_hd (by omega) h2)))))))) rG_mn))))))
                    have hmsh386 := hms.fr hfrh386
                    have hrlhh386 := red_len (2) P'
                    have f387 := f384.fr hFhh386 (fun i hi => (rG_na (am_n0 (by decide)) (rG_na (am_ne (by decide)) (rG_na (am_ne (by decide)) (rG_na (am_ne (by decide)) (rG_na (am_ne (by decide)) rG_nn))))))
                    have hplr := pl_red (2) f387
                    refine V.aload_n dX13_exp_240 rfl ?_
                    refine V.getr fl_X13_67 hmsh386.1 (hmsh386.2.2 (29, 18) (by decide)) dX13_exp_241 rfl ?_
                    refine V.aload_n dX13_exp_244 rfl ?_
                    refine V.getIe fl_X13_256 hmsh386.1 q30hh386 dX13_exp_245 rfl ?_
                    have f388 := mt.fr hFhh379 (fun k h1 h2 => (rG_na (am_0n (by decide)) rG_nn))
                    have f389 := f388.fr hFhh386 (fun k h1 h2 => (rG_nk (by omega) (rG_na (am_0n (by decide)) (rG_na (am_0n (by decide)) (rG_na (am_0n (by decide)) (rG_na (am_0n (by decide)) rG_nn))))))
                    have hsg390 := f389.2.2.2.1 (by omega)
                    refine V.aload_n dX13_exp_248 rfl ?_
                    refine V.getIe fl_X13_234 hmsh386.1 hsg390 dX13_exp_249 rfl ?_
                    refine V.iastk (j := (red (2) P').1.length) (hmsh386.2.1 18 (by decide)) rfl (by omega) dX13_exp_252 (fun hh391 ehh391 => ?_)
                    have hFhh391 := Fr1I ehh391
                    have hfrh391 := hfrh386.tr (hFhh391.mono (rG_mc (fun k h1 h2 => (rG_tl (rG_tl (rG_tl (rG_tl (rG_tl (rG_tl (rG_tl (rG_hd (Nat.zero_le _) (by omega)))))))))) rG_mn))
                    have hmsh391 := hms.fr hfrh391
                    have f392 := hI_ps ehh391
                    refine V.aload_n dX13_exp_253 rfl ?_
                    refine V.dup dX13_exp_254 rfl ?_
                    have f393 := hFhh391.I (rG_na (am_0n (by decide)) rG_nn) q30hh386
                    refine V.getIe fl_X13_256 hmsh391.1 f393 dX13_exp_255 rfl ?_
                    refine V.iconst (1) dX13_exp_258 (by decide) ?_
                    refine V.iaddN ((red (2) P').1.length) (1) rfl rfl dX13_exp_259 ?_
                    refine V.putIk fl_X13_256 hmsh391.1 dX13_exp_260 rfl rfl rfl (fun hh394 ehh394 => ?_)
                    have hFhh394 := Fr1I ehh394
                    have hfrh394 := hfrh391.tr (hFhh394.mono (rG_mc (fun k h1 h2 => (rG_tl (rG_hd h1 (Nat.lt_of_lt_of_le h2 (by decide))))) rG_mn))
                    have hmsh394 := hms.fr hfrh394
                    have f395 := hI_ps ehh394
                    refine V.aload_n dX13_exp_263 rfl ?_
                    have f396 := f389.fr hFhh391 (fun k h1 h2 => (rG_na (am_0n (by decide)) rG_nn))
                    have f397 := f396.fr hFhh394 (fun k h1 h2 => (rG_nk (by omega) rG_nn))
                    have f398 := ht0.fr hFhh379 (rG_na (am_0n (by decide)) rG_nn) (fun j => (rG_na (am_ne (by decide)) rG_nn))
                    have f399 := f398.fr hFhh386 (rG_nl (by decide) (rG_na (am_0n (by decide)) (rG_na (am_0n (by decide)) (rG_na (am_0n (by decide)) (rG_na (am_0n (by decide)) rG_nn))))) (fun j => (rG_na (am_n0 (by decide)) (rG_na (am_ne (by decide)) (rG_na (am_ne (by decide)) (rG_na (am_ne (by decide)) (rG_na (am_ne (by decide)) rG_nn))))))
                    have f400 := f399.fr hFhh391 (rG_na (am_0n (by decide)) rG_nn) (fun j => (rG_na (am_ne (by decide)) rG_nn))
                    have f401 := f400.fr hFhh394 (rG_nl (by decide) rG_nn) (fun j => (rG_na (am_n0 (by decide)) rG_nn))
                    refine V.callV (m_nextR hmsh394 f401 (tE b n p') (by omega) f397.2.2.1) mv_X13_250 ok_Y13_next hmsh394.1 rfl rfl (by omega) (Nat.le_of_ble_eq_true rfl) dX13_exp_264 rfl (fun rv hh402 hq hqn hqk => ?_) (fun _ _ hq _ _ => hq.elim)
                    clear hqn hqk
                    obtain ⟨rfl, hFhh402, mthh402⟩ := hq
                    have hfrh402 := hfrh394.tr (hFhh402.mono (rG_mc (fun k h1 h2 => (rG_hd h1 (Nat.lt_of_lt_of_le h2 (by decide)))) rG_mn))
                    have hmsh402 := hms.fr hfrh402
                    refine V.iconst (1) dX13_exp_267 (by decide) ?_
                    refine V.istore_n dX13_exp_268 (by decide) ?_
                    refine V.goto 46 dX13_exp_269 (by decide) ?_
                    have hop : 2 ≤ sgs (tC b n p' - 100) ∨ (sgs (tC b n p' - 100) = 1 ∧ cs'.head? = some false) := Or.inr ⟨c168, by rw [hcs]; simp only [List.head?_cons, Option.some.injEq]; cases b0 with | false => rfl | true => exact absurd rfl c180⟩
                    have hkk : ndk (tC b n p') cs' (lvl P') = 2 := by
                      unfold ndk
                      rw [if_neg (fun z => by rw [z.1] at hop; revert hop; simp [show sgs (141 - 100) = 0 from by decide])]
                      rw [if_neg (by omega), if_pos (hop.resolve_left (by omega))]
                    have hor := opn_red (2) (by omega) P'
                    have hes := est_opr (b := b) (n := n) (p := p') (u := u') (nl := nl) (P := (red (2) P').1) (cs := cs') (o := o' ++ (red (2) P').2) (by rw [hor.2, hkk]; exact (red_top (2) P').resolve_right (by omega)) hop
                    have hopc := sgs_op (c := tC b n p' - 100) (by omega)
                    have f403 := hFhh386.I (rG_na (am_n0 (by decide)) (rG_na (am_ne (by decide)) (rG_na (am_ne (by decide)) (rG_na (am_ne (by decide)) (rG_na (am_ne (by decide)) rG_nn))))) f380
                    have f404 := hFhh391.I (rG_na (am_ne (by decide)) rG_nn) f403
                    have f405 := hFhh394.I (rG_na (am_n0 (by decide)) rG_nn) f404
                    have f406 := hFhh402.I (rG_na (am_n0 (by decide)) rG_nn) f405
                    have f407 := hcm2.2.fr hFhh379 (fun i hi => (rG_nk (by omega) rG_nn))
                    have f408 := f407.fr hFhh386 (fun i hi => (rG_na (am_n0 (by decide)) (rG_na (am_ne (by decide)) (rG_na (am_ne (by decide)) (rG_na (am_ne (by decide)) (rG_na (am_ne (by decide)) rG_nn))))))
                    have f409 := f408.fr hFhh391 (fun i hi => (rG_na (am_ne (by decide)) rG_nn))
                    have f410 := f409.fr hFhh394 (fun i hi => (rG_na (am_n0 (by decide)) rG_nn))
                    have f411 := f410.fr hFhh402 (fun i hi => (rG_na (am_n0 (by decide)) rG_nn))
                    have f412 := hFhh386.I (rG_nl (by decide) (rG_na (am_0n (by decide)) (rG_na (am_0n (by decide)) (rG_na (am_0n (by decide)) (rG_na (am_0n (by decide)) rG_nn))))) f381
                    have f413 := hFhh391.I (rG_na (am_0n (by decide)) rG_nn) f412
                    have f414 := hFhh394.I (rG_nl (by decide) rG_nn) f413
                    have f415 := hFhh402.I (rG_nh (by decide) rG_nn) f414
                    have f416 := hFhh391.I (rG_na (am_ne (by decide)) rG_nn) q6hh386
                    have f417 := hFhh394.I (rG_na (am_n0 (by decide)) rG_nn) f416
                    have f418 := hFhh402.I (rG_na (am_n0 (by decide)) rG_nn) f417
                    have f419 := hAChh386.fr hFhh391 (fun j h1 h2 => ⟨(rG_na (am_ne (by decide)) rG_nn), (rG_na (am_ne (by decide)) rG_nn), (rG_na (am_ne (by decide)) rG_nn)⟩)
                    have f420 := f419.fr hFhh394 (fun j h1 h2 => ⟨(rG_na (am_n0 (by decide)) rG_nn), (rG_na (am_n0 (by decide)) rG_nn), (rG_na (am_n0 (by decide)) rG_nn)⟩)
                    have f421 := f420.fr hFhh402 (fun j h1 h2 => ⟨(rG_na (am_n0 (by decide)) rG_nn), (rG_na (am_n0 (by decide)) rG_nn), (rG_na (am_n0 (by decide)) rG_nn)⟩)
                    have f422 := hFhh402.I (rG_nh (by decide) rG_nn) f395
                    have f423 := hFhh394.I (rG_na (am_n0 (by decide)) rG_nn) f392
                    have f424 := hFhh402.I (rG_na (am_n0 (by decide)) rG_nn) f423
                    have f425 := hplr.fr hFhh391 (fun i hi => (rG_nk (by omega) rG_nn))
                    have f426 := f425.fr hFhh394 (fun i hi => (rG_na (am_n0 (by decide)) rG_nn))
                    have f427 := f426.fr hFhh402 (fun i hi => (rG_na (am_n0 (by decide)) rG_nn))
                    have f428 := hFhh379.I (rG_na (am_0n (by decide)) rG_nn) h31
                    have f429 := hFhh386.I (rG_nh (by decide) (rG_na (am_0n (by decide)) (rG_na (am_0n (by decide)) (rG_na (am_0n (by decide)) (rG_na (am_0n (by decide)) rG_nn))))) f428
                    have f430 := hFhh391.I (rG_na (am_0n (by decide)) rG_nn) f429
                    have f431 := hFhh394.I (rG_nh (by decide) rG_nn) f430
                    have f432 := hFhh402.I (rG_nh (by decide) rG_nn) f431
                    have f433 := hFhh379.I (rG_na (am_0n (by decide)) rG_nn) h33
                    have f434 := hFhh386.I (rG_nh (by decide) (rG_na (am_0n (by decide)) (rG_na (am_0n (by decide)) (rG_na (am_0n (by decide)) (rG_na (am_0n (by decide)) rG_nn))))) f433
                    have f435 := hFhh391.I (rG_na (am_0n (by decide)) rG_nn) f434
                    have f436 := hFhh394.I (rG_nh (by decide) rG_nn) f435
                    have f437 := hFhh402.I (rG_nh (by decide) rG_nn) f436
                    have f438 := hFhh379.I (rG_na (am_ne (by decide)) rG_nn) h3u
                    have f439 := hFhh386.I (rG_na (am_n0 (by decide)) (rG_na (am_ne (by decide)) (rG_na (am_ne (by decide)) (rG_na (am_ne (by decide)) (rG_na (am_ne (by decide)) rG_nn))))) f438
                    have f440 := hFhh391.I (rG_na (am_ne (by decide)) rG_nn) f439
                    have f441 := hFhh394.I (rG_na (am_n0 (by decide)) rG_nn) f440
                    have f442 := hFhh402.I (rG_na (am_n0 (by decide)) rG_nn) f441
                    have f443 := hFhh379.I (rG_na (am_0n (by decide)) rG_nn) hbad
                    have f444 := hFhh386.I (rG_nl (by decide) (rG_na (am_0n (by decide)) (rG_na (am_0n (by decide)) (rG_na (am_0n (by decide)) (rG_na (am_0n (by decide)) rG_nn))))) f443
                    have f445 := hFhh391.I (rG_na (am_0n (by decide)) rG_nn) f444
                    have f446 := hFhh394.I (rG_nl (by decide) rG_nn) f445
                    have f447 := hFhh402.I (rG_nh (by decide) rG_nn) f446
                    have f448 := hFhh379.I (rG_na (am_0n (by decide)) rG_nn) hpl0
                    have f449 := hFhh386.I (rG_nl (by decide) (rG_na (am_0n (by decide)) (rG_na (am_0n (by decide)) (rG_na (am_0n (by decide)) (rG_na (am_0n (by decide)) rG_nn))))) f448
                    have f450 := hFhh391.I (rG_na (am_0n (by decide)) rG_nn) f449
                    have f451 := hFhh394.I (rG_nl (by decide) rG_nn) f450
                    have f452 := hFhh402.I (rG_nh (by decide) rG_nn) f451
                    refine V.wk (ih 0 (tE b n p') u' ((tC b n p' - 100) :: (red (2) P').1) (true :: cs2) (o' ++ (red (2) P').2) _ (by have := tE_gt (b := b) (n := n) (p := p') (by omega); omega) (by omega) ((hrc.tr (Rc_red (k := 2) P' o' hkk)).tr (Rc.st (hes.trans (by rw [if_pos c168, hcs]; rfl)))) hfrh402 ⟨mthh402, f415, (f418).trans (congrArg nI (by simp only [List.length_append]; omega)), f421, f422, ⟨f424, f427⟩, by rw [opn, if_neg (by omega), hor.1]; exact f432, by rw [lvl, if_neg (by omega), hor.2]; exact f437, ⟨by rw [bI_t rfl, hcl]; exact f406, f411⟩, f442⟩ f447 f452) ⟨rfl, rfl, rfl, rfl, rfl, trivial⟩
          · refine V.aload_n dX13_exp_87 rfl ?_
            refine V.iconst (1) dX13_exp_88 (by decide) ?_
            refine V.callV (m_reduce (d := 0) (a0 := a0 + o'.length) (P0 := P') (k := 1) hms0 hr h28 hac (by omega) h30 hpl (by omega) hmc hAC (by omega) (by omega) (by omega)) mv_X13_276 ok_Y13_reduce hms0.1 rfl rfl (by omega) (Nat.le_of_ble_eq_true rfl) dX13_exp_89 rfl (fun rv hh453 hq hqn hqk => ?_) (fun _ _ hq _ _ => hq.elim)
            clear hqn hqk
            obtain ⟨rfl, hFhh453, q30hh453, q6hh453, hAChh453⟩ := hq
            have hfrh453 := hfr0.tr (hFhh453.mono (rG_mc (fun k h1 h2 => (rG_tl (rG_hd h1 (Nat.lt_of_lt_of_le h2 (by decide))))) (rG_mc (fun k h1 h2 => (rG_tl (rG_tl (rG_tl (rG_hd h1 h2))))) (rG_mc (fun k h1 h2 => (rG_tl (rG_tl (rG_tl (rG_tl (rG_hd (by omega) h2)))))) (rG_mc (fun k h1 h2 => (rG_tl (rG_tl (rG_tl (rG_tl (rG_tl (rG_hd (by omega) h2))))))) (rG_mc (fun k h1 h2 => (rG_tl (rG_tl (rG_tl (rG_tl (rG_tl (rG_tl (rG_hd (by omega) h2)))))))) rG_mn))))))
            have hmsh453 := hms.fr hfrh453
            have hrlhh453 := red_len (1) P'
            have hk1 : ndk (tC b n p') cs' (lvl P') = 1 := by
              unfold ndk
              rw [if_pos ⟨c77, by omega⟩]
            have hrc2 := hrc.tr (Rc_red (k := 1) P' o' hk1)
            have hor := opn_red 1 (Nat.le_refl 1) P'
            have hmk := red_mok 1 (Nat.le_refl 1) P' i9 (i10 (Or.inl rfl))
            obtain ⟨Q, hQ⟩ : ∃ Q, (red 1 P').1 = 40 :: Q := by
              rcases mok_top hmk.1 hmk.2 (by have := (red_top 1 P').resolve_right (by decide); omega) with z | z
              · exfalso; rw [z] at hor; simp only [lvl] at hor; omega
              · exact z
            have hmcQ : ∀ c ∈ Q, c ≤ 1000 := fun c hc => mok_le hmk.1 c (by rw [hQ]; exact List.mem_cons_of_mem _ hc)
            rw [hQ] at hor hrc2 hrlhh453
            simp only [opn, lvl, true_or, if_true, List.length_cons] at hor hrlhh453
            have hq30 := q30hh453
            rw [hQ, List.length_cons] at hq30
            have hpm := pmn_len Q
            have hopm := opn_pmn Q
            have f454 := hFhh453.I (rG_nh (by decide) (rG_na (am_0n (by decide)) (rG_na (am_0n (by decide)) (rG_na (am_0n (by decide)) (rG_na (am_0n (by decide)) rG_nn))))) h31
            have hq31 := f454
            rw [← hor.1] at hq31
            have f455 := hFhh453.I (rG_nh (by decide) (rG_na (am_0n (by decide)) (rG_na (am_0n (by decide)) (rG_na (am_0n (by decide)) (rG_na (am_0n (by decide)) rG_nn))))) h33
            have hq33 := f455
            rw [← hor.2] at hq33
            have f456 := hpl.fr hFhh453 (fun i hi => (rG_na (am_n0 (by decide)) (rG_na (am_ne (by decide)) (rG_na (am_ne (by decide)) (rG_na (am_ne (by decide)) (rG_na (am_ne (by decide)) rG_nn))))))
            have hplr := pl_red 1 f456
            rw [hQ] at hplr
            have f457 := hcm.fr hFhh453 (fun i hi => (rG_na (am_n0 (by decide)) (rG_na (am_ne (by decide)) (rG_na (am_ne (by decide)) (rG_na (am_ne (by decide)) (rG_na (am_ne (by decide)) rG_nn))))))
            obtain ⟨b0, cs2, hcs⟩ : ∃ b0 cs2, cs' = b0 :: cs2 := by cases cs' with | nil => simp at i8 | cons b0 cs2 => exact ⟨b0, cs2, rfl⟩
            have hcm2 := f457
            rw [hcs] at hcm2
            refine V.aload_n dX13_exp_92 rfl ?_
            refine V.dup dX13_exp_93 rfl ?_
            refine V.getIe fl_X13_256 hmsh453.1 hq30 dX13_exp_94 rfl ?_
            refine V.iconst (1) dX13_exp_97 (by decide) ?_
            refine V.isubD (Q.length) (1) rfl rfl dX13_exp_98 ?_
            refine V.putIk fl_X13_256 hmsh453.1 dX13_exp_99 rfl rfl rfl (fun hh458 ehh458 => ?_)
            have hFhh458 := Fr1I ehh458
            have hfrh458 := hfrh453.tr (hFhh458.mono (rG_mc (fun k h1 h2 => (rG_tl (rG_hd h1 (Nat.lt_of_lt_of_le h2 (by decide))))) rG_mn))
            have hmsh458 := hms.fr hfrh458
            have f459 := hI_ps ehh458
            refine V.aload_n dX13_exp_102 rfl ?_
            refine V.dup dX13_exp_103 rfl ?_
            have f460 := hFhh458.I (rG_nh (by decide) rG_nn) hq33
            refine V.getIe fl_X13_269 hmsh458.1 f460 dX13_exp_104 rfl ?_
            refine V.iconst (1) dX13_exp_107 (by decide) ?_
            refine V.isubD (lvl Q) (1) rfl rfl dX13_exp_108 ?_
            refine V.putIk fl_X13_269 hmsh458.1 dX13_exp_109 rfl rfl rfl (fun hh461 ehh461 => ?_)
            have hFhh461 := Fr1I ehh461
            have hfrh461 := hfrh458.tr (hFhh461.mono (rG_mc (fun k h1 h2 => (rG_tl (rG_hd (Nat.le_trans (by decide) h1) h2))) rG_mn))
            have hmsh461 := hms.fr hfrh461
            have f462 := hI_ps ehh461
            refine V.aload_n dX13_exp_112 rfl ?_
            refine V.dup dX13_exp_113 rfl ?_
            have f463 := hFhh458.I (rG_nh (by decide) rG_nn) hq31
            have f464 := hFhh461.I (rG_nl (by decide) rG_nn) f463
            refine V.getIe fl_X13_266 hmsh461.1 f464 dX13_exp_114 rfl ?_
            refine V.iconst (1) dX13_exp_117 (by decide) ?_
            refine V.isubD (opn Q) (1) rfl rfl dX13_exp_118 ?_
            refine V.putIk fl_X13_266 hmsh461.1 dX13_exp_119 rfl rfl rfl (fun hh465 ehh465 => ?_)
            have hFhh465 := Fr1I ehh465
            have hfrh465 := hfrh461.tr (hFhh465.mono (rG_mc (fun k h1 h2 => (rG_tl (rG_hd (Nat.le_trans (by decide) h1) (Nat.lt_of_lt_of_le h2 (by decide))))) rG_mn))
            have hmsh465 := hms.fr hfrh465
            have f466 := hI_ps ehh465
            refine V.aload_n dX13_exp_122 rfl ?_
            have f467 := mt.fr hFhh453 (fun k h1 h2 => (rG_nk (by omega) (rG_na (am_0n (by decide)) (rG_na (am_0n (by decide)) (rG_na (am_0n (by decide)) (rG_na (am_0n (by decide)) rG_nn))))))
            have f468 := f467.fr hFhh458 (fun k h1 h2 => (rG_nk (by omega) rG_nn))
            have f469 := f468.fr hFhh461 (fun k h1 h2 => (rG_nk (by omega) rG_nn))
            have f470 := f469.fr hFhh465 (fun k h1 h2 => (rG_nk (by omega) rG_nn))
            have f471 := ht0.fr hFhh453 (rG_nl (by decide) (rG_na (am_0n (by decide)) (rG_na (am_0n (by decide)) (rG_na (am_0n (by decide)) (rG_na (am_0n (by decide)) rG_nn))))) (fun j => (rG_na (am_n0 (by decide)) (rG_na (am_ne (by decide)) (rG_na (am_ne (by decide)) (rG_na (am_ne (by decide)) (rG_na (am_ne (by decide)) rG_nn))))))
            have f472 := f471.fr hFhh458 (rG_nl (by decide) rG_nn) (fun j => (rG_na (am_n0 (by decide)) rG_nn))
            have f473 := f472.fr hFhh461 (rG_nl (by decide) rG_nn) (fun j => (rG_na (am_n0 (by decide)) rG_nn))
            have f474 := f473.fr hFhh465 (rG_nl (by decide) rG_nn) (fun j => (rG_na (am_n0 (by decide)) rG_nn))
            refine V.callV (m_nextR hmsh465 f474 (tE b n p') (by omega) f470.2.2.1) mv_X13_250 ok_Y13_next hmsh465.1 rfl rfl (by omega) (Nat.le_of_ble_eq_true rfl) dX13_exp_123 rfl (fun rv hh475 hq hqn hqk => ?_) (fun _ _ hq _ _ => hq.elim)
            clear hqn hqk
            obtain ⟨rfl, hFhh475, mthh475⟩ := hq
            have hfrh475 := hfrh465.tr (hFhh475.mono (rG_mc (fun k h1 h2 => (rG_hd h1 (Nat.lt_of_lt_of_le h2 (by decide)))) rG_mn))
            have hmsh475 := hms.fr hfrh475
            refine V.aload_n dX13_exp_126 rfl ?_
            have f476 := hFhh453.I (rG_nl (by decide) (rG_na (am_0n (by decide)) (rG_na (am_0n (by decide)) (rG_na (am_0n (by decide)) (rG_na (am_0n (by decide)) rG_nn))))) h28
            have f477 := hFhh458.I (rG_nl (by decide) rG_nn) f476
            have f478 := hFhh461.I (rG_nl (by decide) rG_nn) f477
            have f479 := hFhh465.I (rG_nl (by decide) rG_nn) f478
            have f480 := hFhh475.I (rG_nh (by decide) rG_nn) f479
            have f481 := hFhh458.I (rG_na (am_n0 (by decide)) rG_nn) q6hh453
            have f482 := hFhh461.I (rG_na (am_n0 (by decide)) rG_nn) f481
            have f483 := hFhh465.I (rG_na (am_n0 (by decide)) rG_nn) f482
            have f484 := hFhh475.I (rG_na (am_n0 (by decide)) rG_nn) f483
            have f485 := hFhh461.I (rG_nl (by decide) rG_nn) f459
            have f486 := hFhh465.I (rG_nl (by decide) rG_nn) f485
            have f487 := hFhh475.I (rG_nh (by decide) rG_nn) f486
            have f488 := hFhh475.I (rG_nh (by decide) rG_nn) f466
            have f489 := hplr.fr hFhh458 (fun i hi => (rG_na (am_n0 (by decide)) rG_nn))
            have f490 := f489.fr hFhh461 (fun i hi => (rG_na (am_n0 (by decide)) rG_nn))
            have f491 := f490.fr hFhh465 (fun i hi => (rG_na (am_n0 (by decide)) rG_nn))
            have f492 := f491.fr hFhh475 (fun i hi => (rG_na (am_n0 (by decide)) rG_nn))
            have f493 := hAChh453.fr hFhh458 (fun j h1 h2 => ⟨(rG_na (am_n0 (by decide)) rG_nn), (rG_na (am_n0 (by decide)) rG_nn), (rG_na (am_n0 (by decide)) rG_nn)⟩)
            have f494 := f493.fr hFhh461 (fun j h1 h2 => ⟨(rG_na (am_n0 (by decide)) rG_nn), (rG_na (am_n0 (by decide)) rG_nn), (rG_na (am_n0 (by decide)) rG_nn)⟩)
            have f495 := f494.fr hFhh465 (fun j h1 h2 => ⟨(rG_na (am_n0 (by decide)) rG_nn), (rG_na (am_n0 (by decide)) rG_nn), (rG_na (am_n0 (by decide)) rG_nn)⟩)
            have f496 := f495.fr hFhh475 (fun j h1 h2 => ⟨(rG_na (am_n0 (by decide)) rG_nn), (rG_na (am_n0 (by decide)) rG_nn), (rG_na (am_n0 (by decide)) rG_nn)⟩)
            refine V.callV (m_operand (d := 0) (a0 := a0 + o'.length + (red 1 P').2.length) (P0 := Q) hmsh475 hr f480 f484 (by omega) f487 f488 f492.2 (by omega) hmcQ f496 (by simp only [List.length_append]; omega)) mv_X13_280 ok_Y13_operandIsThere hmsh475.1 rfl rfl (by omega) (Nat.le_of_ble_eq_true rfl) dX13_exp_127 rfl (fun rv hh497 hq hqn hqk => ?_) (fun _ _ hq _ _ => hq.elim)
            clear hqn hqk
            obtain ⟨rfl, hFhh497, q30hh497, q31hh497, q6hh497, hAChh497⟩ := hq
            have hfrh497 := hfrh475.tr (hFhh497.mono (rG_mc (fun k h1 h2 => (rG_tl (rG_hd h1 (Nat.lt_of_lt_of_le h2 (by decide))))) (rG_mc (fun k h1 h2 => (rG_tl (rG_tl (rG_tl (rG_hd h1 h2))))) (rG_mc (fun k h1 h2 => (rG_tl (rG_tl (rG_tl (rG_tl (rG_hd (by omega) h2)))))) (rG_mc (fun k h1 h2 => (rG_tl (rG_tl (rG_tl (rG_tl (rG_tl (rG_hd (by omega) h2))))))) (rG_mc (fun k h1 h2 => (rG_tl (rG_tl (rG_tl (rG_tl (rG_tl (rG_tl (rG_hd (by omega) h2)))))))) rG_mn))))))
            have hmsh497 := hms.fr hfrh497
            refine V.goto 46 dX13_exp_130 (by decide) ?_
            have f498 := mthh475.fr hFhh497 (fun k h1 h2 => (rG_nk (by omega) (rG_na (am_0n (by decide)) (rG_na (am_0n (by decide)) (rG_na (am_0n (by decide)) (rG_na (am_0n (by decide)) rG_nn))))))
            have f499 := hFhh497.I (rG_nl (by decide) (rG_na (am_0n (by decide)) (rG_na (am_0n (by decide)) (rG_na (am_0n (by decide)) (rG_na (am_0n (by decide)) rG_nn))))) f480
            have f500 := f492.fr hFhh497 (fun i hi => (rG_na (am_n0 (by decide)) (rG_na (am_ne (by decide)) (rG_na (am_ne (by decide)) (rG_na (am_ne (by decide)) (rG_na (am_ne (by decide)) rG_nn))))))
            have f501 := hFhh465.I (rG_nh (by decide) rG_nn) f462
            have f502 := hFhh475.I (rG_nh (by decide) rG_nn) f501
            have f503 := hFhh497.I (rG_nh (by decide) (rG_na (am_0n (by decide)) (rG_na (am_0n (by decide)) (rG_na (am_0n (by decide)) (rG_na (am_0n (by decide)) rG_nn))))) f502
            have f504 := hcm2.2.fr hFhh458 (fun i hi => (rG_na (am_n0 (by decide)) rG_nn))
            have f505 := f504.fr hFhh461 (fun i hi => (rG_na (am_n0 (by decide)) rG_nn))
            have f506 := f505.fr hFhh465 (fun i hi => (rG_na (am_n0 (by decide)) rG_nn))
            have f507 := f506.fr hFhh475 (fun i hi => (rG_na (am_n0 (by decide)) rG_nn))
            have f508 := f507.fr hFhh497 (fun i hi => (rG_na (am_n0 (by decide)) (rG_na (am_ne (by decide)) (rG_na (am_ne (by decide)) (rG_na (am_ne (by decide)) (rG_na (am_ne (by decide)) rG_nn))))))
            have f509 := hFhh453.I (rG_na (am_n0 (by decide)) (rG_na (am_ne (by decide)) (rG_na (am_ne (by decide)) (rG_na (am_ne (by decide)) (rG_na (am_ne (by decide)) rG_nn))))) h3u
            have f510 := hFhh458.I (rG_na (am_n0 (by decide)) rG_nn) f509
            have f511 := hFhh461.I (rG_na (am_n0 (by decide)) rG_nn) f510
            have f512 := hFhh465.I (rG_na (am_n0 (by decide)) rG_nn) f511
            have f513 := hFhh475.I (rG_na (am_n0 (by decide)) rG_nn) f512
            have f514 := hFhh497.I (rG_na (am_n0 (by decide)) (rG_na (am_ne (by decide)) (rG_na (am_ne (by decide)) (rG_na (am_ne (by decide)) (rG_na (am_ne (by decide)) rG_nn))))) f513
            have f515 := hFhh453.I (rG_nl (by decide) (rG_na (am_0n (by decide)) (rG_na (am_0n (by decide)) (rG_na (am_0n (by decide)) (rG_na (am_0n (by decide)) rG_nn))))) hbad
            have f516 := hFhh458.I (rG_nl (by decide) rG_nn) f515
            have f517 := hFhh461.I (rG_nl (by decide) rG_nn) f516
            have f518 := hFhh465.I (rG_nl (by decide) rG_nn) f517
            have f519 := hFhh475.I (rG_nh (by decide) rG_nn) f518
            have f520 := hFhh497.I (rG_nl (by decide) (rG_na (am_0n (by decide)) (rG_na (am_0n (by decide)) (rG_na (am_0n (by decide)) (rG_na (am_0n (by decide)) rG_nn))))) f519
            have f521 := hFhh453.I (rG_nl (by decide) (rG_na (am_0n (by decide)) (rG_na (am_0n (by decide)) (rG_na (am_0n (by decide)) (rG_na (am_0n (by decide)) rG_nn))))) hpl0
            have f522 := hFhh458.I (rG_nl (by decide) rG_nn) f521
            have f523 := hFhh461.I (rG_nl (by decide) rG_nn) f522
            have f524 := hFhh465.I (rG_nl (by decide) rG_nn) f523
            have f525 := hFhh475.I (rG_nh (by decide) rG_nn) f524
            have f526 := hFhh497.I (rG_nl (by decide) (rG_na (am_0n (by decide)) (rG_na (am_0n (by decide)) (rG_na (am_0n (by decide)) (rG_na (am_0n (by decide)) rG_nn))))) f525
            exact ih 1 (tE b n p') u' (pmn Q).1 cs'.tail (o' ++ (red 1 P').2 ++ (pmn Q).2) _ (by have := tE_gt (b := b) (n := n) (p := p') (by omega); omega) (by omega) (hrc2.tr (Rc.tr (Rc.st (est_cl c77)) (Rc_pmn Q _))) hfrh497 ⟨f498, f499, (q6hh497).trans (congrArg nI (by simp only [List.length_append]; omega)), hAChh497, q30hh497, pl_pmn f500.2, q31hh497, by rw [hopm.2]; exact f503, by rw [hcs]; exact f508, f514⟩ f520 f526
      · have hmd0 : md = 0 := by omega
        subst hmd0
        refine V.aload_n dX13_exp_62 rfl ?_
        refine V.iload_n dX13_exp_63 rfl ?_
        refine V.callV (m_readUnary (u0 := u) hms0 ht0 hr hE0 hbad (eI_rc (eI_0 hpn hu) hrc) ha0) mv_X13_272 ok_Y13_readUnary hms0.1 rfl rfl (by omega) (Nat.le_of_ble_eq_true rfl) dX13_exp_64 rfl (fun rv hh527 hq hqn hqk => ?_) (fun _ _ hq _ _ => hq.elim)
        clear hqn hqk
        obtain ⟨rv', rfl, hFhh527, md2, p2, u2, P2, cs2, o2, hrc2, hE2, hcase⟩ := hq
        have hfrh527 := hfr0.tr (hFhh527.mono (rG_mc (fun k h1 h2 => (rG_hd h1 h2)) (rG_mc (fun k h1 h2 => (rG_tl (rG_hd h1 h2))) (rG_mc (fun k h1 h2 => (rG_tl (rG_tl (rG_hd h1 h2)))) (rG_mc (fun k h1 h2 => (rG_tl (rG_tl (rG_tl (rG_hd h1 h2))))) (rG_mc (fun k h1 h2 => (rG_tl (rG_tl (rG_tl (rG_tl (rG_hd h1 h2)))))) (rG_mc (fun k h1 h2 => (rG_tl (rG_tl (rG_tl (rG_tl (rG_tl (rG_hd h1 h2))))))) (rG_mc (fun k h1 h2 => (rG_tl (rG_tl (rG_tl (rG_tl (rG_tl (rG_tl (rG_hd h1 h2)))))))) (rG_mc (fun k h1 h2 => (rG_tl (rG_tl (rG_tl (rG_tl (rG_tl (rG_tl (rG_tl (rG_hd h1 h2))))))))) (rG_mc (fun k h1 h2 => (rG_tl (rG_tl (rG_tl (rG_tl (rG_tl (rG_tl (rG_tl (rG_tl (rG_hd h1 h2)))))))))) rG_mn))))))))))
        have hmsh527 := hms.fr hfrh527
        show V _ _ _ _ _ _ _ _ (.int _ :: _)
        refine V.istore_n dX13_exp_67 (by decide) ?_
        refine V.goto 46 dX13_exp_68 (by decide) ?_
        have hp2 := (eI_rc (eI_0 hpn hu) (hrc.tr hrc2)).1
        rcases hcase with ⟨rfl, rfl, z9, z10, zp⟩ | ⟨rfl, rfl, z9, z10, zp⟩ | ⟨rfl, rfl, z9, z10⟩
        · exact ih 0 p2 u2 P2 cs2 o2 _ (by omega) (by omega) (hrc.tr hrc2) hfrh527 hE2 z9 (z10.trans hpl0)
        · exact ih 1 p2 u2 P2 cs2 o2 _ (by omega) (by omega) (hrc.tr hrc2) hfrh527 hE2 z9 (z10.trans hpl0)
        · refine V.iload dX13_exp_46 rfl ?_
          refine V.if_eq 278 dX13_exp_48 (by decide) (fun z => absurd z (by decide)) (fun _ => ?_)
          refine V.aload_n dX13_exp_51 rfl ?_
          refine V.getIe fl_X13_240 hmsh527.1 z9 dX13_exp_52 rfl ?_
          refine V.if_ne 278 dX13_exp_55 (by decide) (fun _ => ?_) (fun z => absurd z (by decide))
          exact E1 _ _ 4 p2 u2 P2 cs2 o2 _ (hrc.tr hrc2) hfrh527 hE2 z9 rfl z10
  refine V.sipush (200) dX13_exp_0 (by decide) ?_
  refine V.aload_n dX13_exp_3 rfl ?_
  refine V.getIe fl_X13_253 hms.1 h28 dX13_exp_4 rfl ?_
  refine V.imulN (200) (r) rfl rfl dX13_exp_7 ?_
  refine V.aload_n dX13_exp_8 rfl ?_
  refine V.getr fl_X13_30 hms.1 (hms.2.2 (16, 6) (by decide)) dX13_exp_9 rfl ?_
  refine V.aload_n dX13_exp_12 rfl ?_
  refine V.getIe fl_X13_253 hms.1 h28 dX13_exp_13 rfl ?_
  refine V.ialde (j := r) (hms.2.1 6 (by decide)) rfl (by omega) (hac) dX13_exp_16 ?_
  refine V.iaddN (200 * (r)) (a0) rfl rfl dX13_exp_17 ?_
  refine V.istore_n dX13_exp_18 (by decide) ?_
  refine V.aload_n dX13_exp_19 rfl ?_
  refine V.iconst (0) dX13_exp_20 (by decide) ?_
  refine V.putIk fl_X13_256 hms.1 dX13_exp_21 rfl rfl rfl (fun hh1 ehh1 => ?_)
  have hFhh1 := Fr1I ehh1
  have hfrh1 := hfr.tr (hFhh1.mono (rG_mc (fun k h1 h2 => (rG_tl (rG_hd h1 (Nat.lt_of_lt_of_le h2 (by decide))))) rG_mn))
  have hmsh1 := hms.fr hfrh1
  have f2 := hI_ps ehh1
  refine V.aload_n dX13_exp_24 rfl ?_
  refine V.iconst (0) dX13_exp_25 (by decide) ?_
  refine V.putIk fl_X13_266 hmsh1.1 dX13_exp_26 rfl rfl rfl (fun hh3 ehh3 => ?_)
  have hFhh3 := Fr1I ehh3
  have hfrh3 := hfrh1.tr (hFhh3.mono (rG_mc (fun k h1 h2 => (rG_tl (rG_hd (Nat.le_trans (by decide) h1) (Nat.lt_of_lt_of_le h2 (by decide))))) rG_mn))
  have hmsh3 := hms.fr hfrh3
  have f4 := hI_ps ehh3
  refine V.aload_n dX13_exp_29 rfl ?_
  refine V.iconst (0) dX13_exp_30 (by decide) ?_
  refine V.putIk fl_X13_269 hmsh3.1 dX13_exp_31 rfl rfl rfl (fun hh5 ehh5 => ?_)
  have hFhh5 := Fr1I ehh5
  have hfrh5 := hfrh3.tr (hFhh5.mono (rG_mc (fun k h1 h2 => (rG_tl (rG_hd (Nat.le_trans (by decide) h1) h2))) rG_mn))
  have hmsh5 := hms.fr hfrh5
  have f6 := hI_ps ehh5
  refine V.aload_n dX13_exp_34 rfl ?_
  refine V.getr fl_X13_70 hmsh5.1 (hmsh5.2.2 (32, 19) (by decide)) dX13_exp_35 rfl ?_
  refine V.iconst (0) dX13_exp_38 (by decide) ?_
  refine V.iconst (0) dX13_exp_39 (by decide) ?_
  refine V.zastk (j := 0) (hmsh5.2.1 19 (by decide)) rfl (by omega) (by decide) dX13_exp_40 (fun hh7 ehh7 => ?_)
  have hFhh7 := Fr1I ehh7
  have hfrh7 := hfrh5.tr (hFhh7.mono (rG_mc (fun k h1 h2 => (rG_tl (rG_tl (rG_tl (rG_tl (rG_tl (rG_tl (rG_tl (rG_tl (rG_hd h1 (Nat.lt_of_lt_of_le h2 (by decide)))))))))))) rG_mn))
  have hmsh7 := hms.fr hfrh7
  have f8 := hI_ps ehh7
  refine V.iconst (1) dX13_exp_41 (by decide) ?_
  refine V.istore_n dX13_exp_42 (by decide) ?_
  refine V.iconst (1) dX13_exp_43 (by decide) ?_
  refine V.istore dX13_exp_44 (by decide) ?_
  have f9 := mt.fr hFhh1 (fun k h1 h2 => (rG_nk (by omega) rG_nn))
  have f10 := f9.fr hFhh3 (fun k h1 h2 => (rG_nk (by omega) rG_nn))
  have f11 := f10.fr hFhh5 (fun k h1 h2 => (rG_nk (by omega) rG_nn))
  have f12 := f11.fr hFhh7 (fun k h1 h2 => (rG_na (am_0n (by decide)) rG_nn))
  have f13 := hFhh1.I (rG_nl (by decide) rG_nn) h28
  have f14 := hFhh3.I (rG_nl (by decide) rG_nn) f13
  have f15 := hFhh5.I (rG_nl (by decide) rG_nn) f14
  have f16 := hFhh7.I (rG_na (am_0n (by decide)) rG_nn) f15
  have f17 := hFhh1.I (rG_na (am_n0 (by decide)) rG_nn) hac
  have f18 := hFhh3.I (rG_na (am_n0 (by decide)) rG_nn) f17
  have f19 := hFhh5.I (rG_na (am_n0 (by decide)) rG_nn) f18
  have f20 := hFhh7.I (rG_na (am_ne (by decide)) rG_nn) f19
  have f21 := hFhh3.I (rG_nl (by decide) rG_nn) f2
  have f22 := hFhh5.I (rG_nl (by decide) rG_nn) f21
  have f23 := hFhh7.I (rG_na (am_0n (by decide)) rG_nn) f22
  have f24 := hFhh5.I (rG_nl (by decide) rG_nn) f4
  have f25 := hFhh7.I (rG_na (am_0n (by decide)) rG_nn) f24
  have f26 := hFhh7.I (rG_na (am_0n (by decide)) rG_nn) f6
  have f27 := hFhh1.I (rG_na (am_n0 (by decide)) rG_nn) h3u
  have f28 := hFhh3.I (rG_na (am_n0 (by decide)) rG_nn) f27
  have f29 := hFhh5.I (rG_na (am_n0 (by decide)) rG_nn) f28
  have f30 := hFhh7.I (rG_na (am_ne (by decide)) rG_nn) f29
  have f31 := hFhh1.I (rG_nl (by decide) rG_nn) hbad
  have f32 := hFhh3.I (rG_nl (by decide) rG_nn) f31
  have f33 := hFhh5.I (rG_nl (by decide) rG_nn) f32
  have f34 := hFhh7.I (rG_na (am_0n (by decide)) rG_nn) f33
  have f35 := hFhh1.I (rG_nl (by decide) rG_nn) (rfl : hI h m 10 = hI h m 10)
  have f36 := hFhh3.I (rG_nl (by decide) rG_nn) f35
  have f37 := hFhh5.I (rG_nl (by decide) rG_nn) f36
  have f38 := hFhh7.I (rG_na (am_0n (by decide)) rG_nn) f37
  exact L46 (n + 1) 0 p u [] [false] [] _ (by omega) (by omega) Rc.rf hfrh7 ⟨f12, f16, f20, AC_nil, f23, trivial, f25, f26, ⟨by rw [bI_f (by decide)]; exact f8, trivial⟩, f30⟩ f34 f38
