/-! Lastbus: what changes the table -/
theorem tg_ne {own : Nat → Nat} {z j k : Nat} {h : MH} {a b : Nat} {c c' : Bool × va_E} (ha : (tg own z j h).2.2 a = some c) (hb : (tg own z k h).2.2 b = some c') (hc : c ≠ c') : a ≠ b := fun e => by
  rw [e] at ha
  exact hc (Option.some.inj ((tg_at ha).1.symm.trans (tg_at hb).1))
theorem upO {own : Nat → Nat} {z j : Nat} {h h' : MH} (hj : j ≠ 0) (hz : z ≤ h'.1) (e : ∀ b, b < z → own b ≠ j → h'.2.2 b = h.2.2 b) : ∀ k, k ≠ j → tg (ownJ own z j) h'.1 k h' = tg own z k h := fun k hk => tg_upJ (J := fun q => q = j) (fun b hb => if_pos hb) (fun b hb => if_neg (by omega)) (fun h9 => hj h9.symm) hk hz e
theorem u_setChange (K : KT) (d : Nat) (own : Nat → Nat) (h : MH) (z x : Nat) (sg : TS) (s c : Int) (hd : 8 ≤ d) (hT : TB sg) (hW : WorldO own K h z x sg) (hz1 : z ≤ h.1) (i1 : In s) (i2 : In c) (hz : h.1 + 25000 ≤ kC K ∧ h.2.1 + 304000 ≤ kS K) : Mt K yiX1_setChange d [.ref x, vi s, vi c] h (Rw [RJ14, RJ12] fun th v h' => (¬ (0 ≤ s ∧ s ≤ sg.1 1 - 1) ∧ th = 1 ∧ QFr h h') ∨ ((0 ≤ s ∧ s ≤ sg.1 1 - 1) ∧ ¬ (0 ≤ c ∧ c ≤ 30) ∧ th = 2 ∧ QFr h h') ∨ ((0 ≤ s ∧ s ≤ sg.1 1 - 1) ∧ (0 ≤ c ∧ c ≤ 30) ∧ th = 0 ∧ MutQ K own h h' z x (ovr sg [] [(2, upz (sg.2 2) s c)]) ∧ v = sg.2 2 s)) := by
  have f1b := of1 (hT.1 1)
  have := i1.1; have := i1.2; have := i2.1; have := i2.2
  have hW0 : World K h z x sg := ⟨own, hW⟩
  obtain ⟨e0, cc, ch, wk, sv, tr, lt, ws, tx, se, te, we, kp, sp, tp, wp, T, hKt, hEt, hIt, hxt, hcht, hwkt, hsvt, htrt, hltt, hwst, htxt, hkpt, hR0⟩ := id hW
  obtain ⟨hx, hxz, -⟩ := tg_at hxt
  obtain ⟨hch, hchz, -⟩ := tg_at hcht
  have hxo := hR0.own hxt
  have hcho := hR0.own hcht
  have hE1 := hEt.1
  obtain ⟨hE2, hE2z, -⟩ := tg_at hEt.2
  obtain ⟨k0, k1, k3, k4, k5, k8, k9, k10, k11, k12⟩ := id hKt
  have hwk := And.intro hwkt.1.C hwkt.2
  have hsv := hsvt
  have htr := htrt
  have hlt := hltt
  have hws := hwst
  have htx := htxt
  have nxc : x ≠ ch := ne_oa hx hch
  refine mt_ofQ (by decide) (Nat.le_of_ble_eq_true rfl) (fun Q hQ => ?_)
  show MW K yiX1_setChange d h 0 [some (.ref x), some (vi s), some (vi c), none] [] Q
  refine mw_wf (fun hwf => ?_)
  have l_hx := hwf _ _ hx
  have l_hch := hwf _ _ hch
  have fR : ∀ b, (b ≠ ch) → h.2.2 b = h.2.2 b := fun _ _ => rfl
  refine m_aload_n (y := yiX1_setChange) dX1_setChange_0 rfl ?_
  refine j_iload_n (y := yiX1_setChange) dX1_setChange_1 rfl ?_
  refine m_invV (y := yiX1_setChange) (rB := (RX1, TX1, 10)) [(vi s)] dX1_setChange_2 hx rfl q889 q891 qs2 q123 q892 rfl (c_X1_isStop (d := 1) s (by omega) hx ⟨by omega, by omega⟩ ⟨by omega, by omega⟩) pdX1_isStop ⟨Nat.le_of_ble_eq_true rfl, by decide, by omega⟩ (kk_z fun r2 h2 q2 => ?_) kx_z
  obtain ⟨rfl, rfl⟩ := q2
  refine mw_top (x' := bz (0 ≤ s ∧ s ≤ (sg.1 1) - 1)) rfl ?_
  by_cases c5 : (0 ≤ s ∧ s ≤ (sg.1 1) - 1)
  · refine mw_top (x' := 1) ((bz_t c5).symm) ?_
    refine m_invS (y := yiX1_setChange) [(vi 1)] dX1_setChange_5 q893 q894 q123 q895 (c_X1_requireIndex_1 K 0 h) pdX1_requireIndex ⟨Nat.le_of_ble_eq_true rfl, by decide, by omega⟩ (kk_v fun h5 q5 => ?_) kx_v
    obtain rfl := q5
    refine j_iload_n (y := yiX1_setChange) dX1_setChange_8 rfl ?_
    refine j_iconst (y := yiX1_setChange) dX1_setChange_9 ?_
    refine j_bipush (y := yiX1_setChange) dX1_setChange_10 (by decide) ?_
    refine m_invS (y := yiX1_setChange) [(vi c), (vi 0), (vi 30)] dX1_setChange_12 q850 q851 q123 q852 (c_X1_isBetween K 0 h c 0 30 ⟨by omega, by omega⟩ ⟨by omega, by omega⟩ ⟨by omega, by omega⟩) pdX1_isBetween ⟨Nat.le_of_ble_eq_true rfl, by decide, by omega⟩ (kk_z fun r12 h12 q12 => ?_) kx_z
    obtain ⟨rfl, rfl⟩ := q12
    refine mw_top (x' := bz (0 ≤ c ∧ c ≤ 30)) rfl ?_
    by_cases c15 : (0 ≤ c ∧ c ≤ 30)
    · refine mw_top (x' := 1) ((bz_t c15).symm) ?_
      refine m_invS (y := yiX1_setChange) [(vi 1)] dX1_setChange_15 q853 q854 q123 q855 (c_X1_require_1 K 0 h) pdX1_require ⟨Nat.le_of_ble_eq_true rfl, by decide, by omega⟩ (kk_v fun h15 q15 => ?_) kx_v
      obtain rfl := q15
      refine m_aload_n (y := yiX1_setChange) dX1_setChange_18 rfl ?_
      refine m_getfS (y := yiX1_setChange) kc_0 0 (by decide) dX1_setChange_19 q296 hx rfl ?_
      refine j_iload_n (y := yiX1_setChange) dX1_setChange_22 rfl ?_
      refine j_iald (y := yiX1_setChange) dX1_setChange_23 hch (by omega) ⟨by omega, by omega⟩ ?_
      refine j_istore_n (y := yiX1_setChange) [some (.ref x), some (vi s), some (vi c), some (vi ((sg.2 2) s))] dX1_setChange_24 (by decide) rfl rfl ?_
      refine m_aload_n (y := yiX1_setChange) dX1_setChange_25 rfl ?_
      refine m_getfS (y := yiX1_setChange) kc_0 0 (by decide) dX1_setChange_26 q296 hx rfl ?_
      refine j_iload_n (y := yiX1_setChange) dX1_setChange_29 rfl ?_
      refine j_iload_n (y := yiX1_setChange) dX1_setChange_30 rfl ?_
      refine j_iast (y := yiX1_setChange) dX1_setChange_31 hch (by omega) ⟨by omega, by omega⟩ (hp_put fun g1 g1H => ?_)
      have hx : g1.2.2 x = some (true, .inr (0, [(.ref ch), (.ref wk), (vi (sg.1 1)), (.ref sv), (.ref tr), (.ref lt), (.ref ws), (.ref tx), (vi (sg.1 21)), (va_rf kp)])) := (g1H.2.2.2 _ (by omega)).trans hx
      have fR : ∀ b, (b ≠ ch) → g1.2.2 b = h.2.2 b := fun b hb => (g1H.2.2.2 b (by omega)).trans (fR b hb)
      have hch : g1.2.2 ch = some (true, ia K 12 (upz (sg.2 2) s c)) := g1H.2.2.1
      have g11 := g1H.1
      have g12 := g1H.2.1
      have eJ : ∀ b, b < z → own b ≠ 2 → g1.2.2 b = h.2.2 b := fun b hb hn => fR b (fun e9 => by { rw [e9] at hn; exact hn hcho })
      have U := upO (j := 2) (by decide) (show z ≤ g1.1 by omega) eJ
      refine j_iload_n (y := yiX1_setChange) dX1_setChange_32 rfl ?_
      subst hQ; exact j_wret (y := yiX1_setChange) dX1_setChange_33 rfl (Or.inr (Or.inr ⟨c5, c15, rfl, ⟨ownJ own z 2, fun b hb => if_pos hb, ⟨e0, cc, ch, wk, sv, tr, lt, ws, tx, se, te, we, kp, sp, tp, wp, T, hKt, (by rw [U 0 (by decide)]; exact hEt), (by rw [U 0 (by decide)]; exact hIt), (by rw [U 1 (by decide)]; exact hxt), (tg_mk hch (by omega) (Or.inl ((if_pos hchz).trans hcho))), (by rw [U 3 (by decide)]; exact hwkt), ⟨by rw [U 4 (by decide)]; exact hsvt.1, fun s a b => by rw [U (100 + s.toNat) (by have b9 : s < sg.1 6 := b; omega)]; exact hsvt.2 s a b⟩, ⟨by rw [U 5 (by decide)]; exact htrt.1, fun t a b => by rw [U (200 + t.toNat) (by have b9 : t < sg.1 8 := b; omega)]; exact htrt.2 t a b⟩, (by rw [U 6 (by decide)]; exact hltt), ⟨by rw [U 7 (by decide)]; exact hwst.1, fun w a b => by rw [U 7 (by decide)]; exact hwst.2 w a b⟩, (by rw [U 8 (by decide)]; exact htxt), (by rw [U 9 (by decide)]; exact hkpt), hR0.up (J := fun q => q = 2) (fun b hb => if_pos hb) (fun b hb => if_neg (by omega)) (by decide) eJ⟩, fun b hb h10 => eJ b hb (by omega), by omega, by omega⟩, rfl⟩))
    · refine mw_top (x' := 0) ((bz_f c15).symm) ?_
      refine m_invS (y := yiX1_setChange) [(vi 0)] dX1_setChange_15 q853 q854 q123 q855 (c_X1_require_0 K 6 h (by omega) ⟨by omega, by omega⟩) pdX1_require ⟨Nat.le_of_ble_eq_true rfl, by decide, by omega⟩ kk_t (kx_t fun q15 h15 x15 => ?_)
      subst hQ; exact mx_ret rfl (Or.inr ⟨1, RJ12, q15, rfl, rfl, fun _ => Or.inr (Or.inl ⟨c5, c15, rfl, QFr.th x15 ⟨by omega, by omega⟩ ⟨by omega, by omega⟩ (fun _ _ => rfl)⟩)⟩)
  · refine mw_top (x' := 0) ((bz_f c5).symm) ?_
    refine m_invS (y := yiX1_setChange) [(vi 0)] dX1_setChange_5 q893 q894 q123 q895 (c_X1_requireIndex_0 K 6 h (by omega) ⟨by omega, by omega⟩) pdX1_requireIndex ⟨Nat.le_of_ble_eq_true rfl, by decide, by omega⟩ kk_t (kx_t fun q5 h5 x5 => ?_)
    subst hQ; exact mx_ret rfl (Or.inr ⟨0, RJ14, q5, rfl, rfl, fun _ => Or.inl ⟨c5, rfl, QFr.th x5 ⟨by omega, by omega⟩ ⟨by omega, by omega⟩ (fun _ _ => rfl)⟩⟩)
theorem u_stop (K : KT) (d : Nat) (own : Nat → Nat) (h : MH) (z x : Nat) (sg : TS) (c : Int) (hd : 8 ≤ d) (hT : TB sg) (hW : WorldO own K h z x sg) (hz1 : z ≤ h.1) (i2 : In c) (hz : h.1 + 25000 ≤ kC K ∧ h.2.1 + 304000 ≤ kS K) : Mt K yiX1_stop d [.ref x, vi c] h (Rw [RJ12, RJ13] fun th v h' => (¬ (0 ≤ c ∧ c ≤ 30) ∧ th = 1 ∧ QFr h h') ∨ ((0 ≤ c ∧ c ≤ 30) ∧ sg.1 1 = 12 ∧ th = 2 ∧ QFr h h') ∨ ((0 ≤ c ∧ c ≤ 30) ∧ sg.1 1 < 12 ∧ th = 0 ∧ MutQ K own h h' z x (ovr sg [(1, sg.1 1 + 1)] [(2, upz (sg.2 2) (sg.1 1) c)]) ∧ v = sg.1 1)) := by
  have f1b := of1 (hT.1 1)
  have := i2.1; have := i2.2
  have hW0 : World K h z x sg := ⟨own, hW⟩
  obtain ⟨e0, cc, ch, wk, sv, tr, lt, ws, tx, se, te, we, kp, sp, tp, wp, T, hKt, hEt, hIt, hxt, hcht, hwkt, hsvt, htrt, hltt, hwst, htxt, hkpt, hR0⟩ := id hW
  obtain ⟨hx, hxz, -⟩ := tg_at hxt
  obtain ⟨hch, hchz, -⟩ := tg_at hcht
  have hxo := hR0.own hxt
  have hcho := hR0.own hcht
  have hE1 := hEt.1
  obtain ⟨hE2, hE2z, -⟩ := tg_at hEt.2
  obtain ⟨k0, k1, k3, k4, k5, k8, k9, k10, k11, k12⟩ := id hKt
  have hwk := And.intro hwkt.1.C hwkt.2
  have hsv := hsvt
  have htr := htrt
  have hlt := hltt
  have hws := hwst
  have htx := htxt
  have nxc : x ≠ ch := ne_oa hx hch
  refine mt_ofQ (by decide) (Nat.le_of_ble_eq_true rfl) (fun Q hQ => ?_)
  show MW K yiX1_stop d h 0 [some (.ref x), some (vi c)] [] Q
  refine mw_wf (fun hwf => ?_)
  have l_hx := hwf _ _ hx
  have l_hch := hwf _ _ hch
  have fR : ∀ b, (b ≠ ch ∧ b ≠ x) → h.2.2 b = h.2.2 b := fun _ _ => rfl
  refine j_iload_n (y := yiX1_stop) dX1_stop_0 rfl ?_
  refine j_iconst (y := yiX1_stop) dX1_stop_1 ?_
  refine j_bipush (y := yiX1_stop) dX1_stop_2 (by decide) ?_
  refine m_invS (y := yiX1_stop) [(vi c), (vi 0), (vi 30)] dX1_stop_4 q850 q851 q123 q852 (c_X1_isBetween K 0 h c 0 30 ⟨by omega, by omega⟩ ⟨by omega, by omega⟩ ⟨by omega, by omega⟩) pdX1_isBetween ⟨Nat.le_of_ble_eq_true rfl, by decide, by omega⟩ (kk_z fun r4 h4 q4 => ?_) kx_z
  obtain ⟨rfl, rfl⟩ := q4
  refine mw_top (x' := bz (0 ≤ c ∧ c ≤ 30)) rfl ?_
  by_cases c7 : (0 ≤ c ∧ c ≤ 30)
  · refine mw_top (x' := 1) ((bz_t c7).symm) ?_
    refine m_invS (y := yiX1_stop) [(vi 1)] dX1_stop_7 q853 q854 q123 q855 (c_X1_require_1 K 0 h) pdX1_require ⟨Nat.le_of_ble_eq_true rfl, by decide, by omega⟩ (kk_v fun h7 q7 => ?_) kx_v
    obtain rfl := q7
    refine m_aload_n (y := yiX1_stop) dX1_stop_10 rfl ?_
    refine m_getfS (y := yiX1_stop) kc_0 2 (by decide) dX1_stop_11 q300 hx rfl ?_
    refine j_bipush (y := yiX1_stop) dX1_stop_14 (by decide) ?_
    refine j_icmp_ge (y := yiX1_stop) 23 dX1_stop_16 (by decide) ⟨⟨by omega, by omega⟩, ⟨by omega, by omega⟩⟩ (fun c16 => ?_) (fun c16 => ?_)
    · refine j_iconst (y := yiX1_stop) dX1_stop_23 ?_
      refine m_invS (y := yiX1_stop) [(vi 0)] dX1_stop_24 q861 q862 q123 q863 (c_X1_requireState_0 K 6 h (by omega) ⟨by omega, by omega⟩) pdX1_requireState ⟨Nat.le_of_ble_eq_true rfl, by decide, by omega⟩ kk_t (kx_t fun q24 h24 x24 => ?_)
      subst hQ; exact mx_ret rfl (Or.inr ⟨1, RJ13, q24, rfl, rfl, fun _ => Or.inr (Or.inl ⟨c7, by omega, rfl, QFr.th x24 ⟨by omega, by omega⟩ ⟨by omega, by omega⟩ (fun _ _ => rfl)⟩)⟩)
    · refine j_iconst (y := yiX1_stop) dX1_stop_19 ?_
      refine m_goto (y := yiX1_stop) 24 dX1_stop_20 (by decide) ?_
      refine m_invS (y := yiX1_stop) [(vi 1)] dX1_stop_24 q861 q862 q123 q863 (c_X1_requireState_1 K 0 h) pdX1_requireState ⟨Nat.le_of_ble_eq_true rfl, by decide, by omega⟩ (kk_v fun h24 q24 => ?_) kx_v
      obtain rfl := q24
      refine m_aload_n (y := yiX1_stop) dX1_stop_27 rfl ?_
      refine m_getfS (y := yiX1_stop) kc_0 0 (by decide) dX1_stop_28 q296 hx rfl ?_
      refine m_aload_n (y := yiX1_stop) dX1_stop_31 rfl ?_
      refine m_getfS (y := yiX1_stop) kc_0 2 (by decide) dX1_stop_32 q300 hx rfl ?_
      refine j_iload_n (y := yiX1_stop) dX1_stop_35 rfl ?_
      refine j_iast (y := yiX1_stop) dX1_stop_36 hch (by omega) ⟨by omega, by omega⟩ (hp_put fun g1 g1H => ?_)
      have hx : g1.2.2 x = some (true, .inr (0, [(.ref ch), (.ref wk), (vi (sg.1 1)), (.ref sv), (.ref tr), (.ref lt), (.ref ws), (.ref tx), (vi (sg.1 21)), (va_rf kp)])) := (g1H.2.2.2 _ (by omega)).trans hx
      have fR : ∀ b, (b ≠ ch ∧ b ≠ x) → g1.2.2 b = h.2.2 b := fun b hb => (g1H.2.2.2 b (by omega)).trans (fR b hb)
      have hch : g1.2.2 ch = some (true, ia K 12 (upz (sg.2 2) (sg.1 1) c)) := g1H.2.2.1
      have g11 := g1H.1
      have g12 := g1H.2.1
      refine m_aload_n (y := yiX1_stop) dX1_stop_37 rfl ?_
      refine m_dup (y := yiX1_stop) dX1_stop_38 rfl ?_
      refine m_getfS (y := yiX1_stop) kc_0 2 (by decide) dX1_stop_39 q300 hx rfl ?_
      refine j_iconst (y := yiX1_stop) dX1_stop_42 ?_
      refine j_iadd (y := yiX1_stop) dX1_stop_43 ?_
      refine m_putfS (y := yiX1_stop) kc_0 2 (by decide) dX1_stop_44 q300 rfl hx rfl rfl (hp_put fun g2 g2H => ?_)
      have hch : g2.2.2 ch = some (true, ia K 12 (upz (sg.2 2) (sg.1 1) c)) := (g2H.2.2.2 _ (by omega)).trans hch
      have fR : ∀ b, (b ≠ ch ∧ b ≠ x) → g2.2.2 b = h.2.2 b := fun b hb => (g2H.2.2.2 b (by omega)).trans (fR b hb)
      have hx : g2.2.2 x = some (true, .inr (0, [(.ref ch), (.ref wk), (vi ((sg.1 1) + 1)), (.ref sv), (.ref tr), (.ref lt), (.ref ws), (.ref tx), (vi (sg.1 21)), (va_rf kp)])) := g2H.2.2.1
      have g21 := g2H.1
      have g22 := g2H.2.1
      refine m_aload_n (y := yiX1_stop) dX1_stop_47 rfl ?_
      refine m_getfS (y := yiX1_stop) kc_0 2 (by decide) dX1_stop_48 q300 hx rfl ?_
      refine j_iconst (y := yiX1_stop) dX1_stop_51 ?_
      refine j_isub (y := yiX1_stop) dX1_stop_52 ?_
      have eJ : ∀ b, b < z → ¬ (own b = 1 ∨ own b = 2) → g2.2.2 b = h.2.2 b := fun b hb hn => fR b ⟨fun e9 => by { rw [e9] at hn; exact hn (Or.inr hcho) }, fun e9 => by { rw [e9] at hn; exact hn (Or.inl hxo) }⟩
      have U : ∀ k, ¬ (k = 1 ∨ k = 2) → tg (ownJ own z 1) g2.1 k g2 = tg own z k h := fun k hk => tg_upJ (J := fun q => q = 1 ∨ q = 2) (fun b hb => if_pos hb) (fun b hb => Or.inl (if_neg (by omega))) (by decide) hk (by omega) eJ
      subst hQ; exact j_wret (y := yiX1_stop) dX1_stop_53 rfl (Or.inr (Or.inr ⟨c7, by omega, rfl, ⟨ownJ own z 1, fun b hb => if_pos hb, ⟨e0, cc, ch, wk, sv, tr, lt, ws, tx, se, te, we, kp, sp, tp, wp, T, hKt, (by rw [U 0 (by decide)]; exact hEt), (by rw [U 0 (by decide)]; exact hIt), (tg_mk hx (by omega) (Or.inl ((if_pos hxz).trans hxo))), (tg_mk hch (by omega) (Or.inl ((if_pos hchz).trans hcho))), (by rw [U 3 (by decide)]; exact hwkt), ⟨by rw [U 4 (by decide)]; exact hsvt.1, fun s a b => by rw [U (100 + s.toNat) (by have b9 : s < sg.1 6 := b; omega)]; exact hsvt.2 s a b⟩, ⟨by rw [U 5 (by decide)]; exact htrt.1, fun t a b => by rw [U (200 + t.toNat) (by have b9 : t < sg.1 8 := b; omega)]; exact htrt.2 t a b⟩, (by rw [U 6 (by decide)]; exact hltt), ⟨by rw [U 7 (by decide)]; exact hwst.1, fun w a b => by rw [U 7 (by decide)]; exact hwst.2 w a b⟩, (by rw [U 8 (by decide)]; exact htxt), (by rw [U 9 (by decide)]; exact hkpt), hR0.up (J := fun q => q = 1 ∨ q = 2) (fun b hb => if_pos hb) (fun b hb => Or.inl (if_neg (by omega))) (by decide) eJ⟩, fun b hb h10 => eJ b hb (by omega), by omega, by omega⟩, by omega⟩))
  · refine mw_top (x' := 0) ((bz_f c7).symm) ?_
    refine m_invS (y := yiX1_stop) [(vi 0)] dX1_stop_7 q853 q854 q123 q855 (c_X1_require_0 K 6 h (by omega) ⟨by omega, by omega⟩) pdX1_require ⟨Nat.le_of_ble_eq_true rfl, by decide, by omega⟩ kk_t (kx_t fun q7 h7 x7 => ?_)
    subst hQ; exact mx_ret rfl (Or.inr ⟨0, RJ12, q7, rfl, rfl, fun _ => Or.inl ⟨c7, rfl, QFr.th x7 ⟨by omega, by omega⟩ ⟨by omega, by omega⟩ (fun _ _ => rfl)⟩⟩)
theorem WyI.put {K : KT} {h h' : MH} {wk : Nat} {T : Int → Int → Int} {wr : Int → Nat} {f : Int → Option Nat} {a b c : Int} (hab : a ≠ b) (ha : 0 ≤ a ∧ a < 12) (hb : 0 ≤ b ∧ b < 12) (h1 : h'.2.2 wk = some (true, aaE K 12 f)) (h2 : ∀ i, 0 ≤ i → i < 12 → f i = some (wr i) ∧ h.2.2 (wr i) = some (true, ia K 12 (T i))) (h3 : ∀ i j, 0 ≤ i → i < j → j < 12 → wr i ≠ wr j) (h4 : h'.2.2 (wr a) = some (true, ia K 12 (upz (T a) b c))) (h5 : h'.2.2 (wr b) = some (true, ia K 12 (upz (T b) a c))) (h6 : ∀ i, 0 ≤ i → i < 12 → wr i ≠ wr a → wr i ≠ wr b → h'.2.2 (wr i) = h.2.2 (wr i)) : WyI K h' wk (gup (gup T a b c) b a c) := by
  have h7 : ∀ i j, 0 ≤ i → i < 12 → 0 ≤ j → j < 12 → i ≠ j → wr i ≠ wr j := fun i j i0 i1 j0 j1 n => by
    by_cases e : i < j
    · exact h3 i j i0 e j1
    · exact (h3 j i j0 (by omega) i1).symm
  refine ⟨wr, f, h1, fun i i0 i1 => ⟨(h2 i i0 i1).1, ?_⟩, h3⟩
  unfold gup
  by_cases e1 : i = b
  · rw [if_pos e1, if_neg (fun e9 => hab e9.symm), e1]; exact h5
  · rw [if_neg e1]
    by_cases e2 : i = a
    · rw [if_pos e2, e2]; exact h4
    · rw [if_neg e2, h6 i i0 i1 (h7 i a i0 i1 ha.1 ha.2 e2) (h7 i b i0 i1 hb.1 hb.2 e1)]; exact (h2 i i0 i1).2
theorem aa_ia {K : KT} {n m : Nat} {w w' : Bool} {f : Int → Option Nat} {g : Int → Int} : ¬ (some (w, aaE K n f) = some (w', ia K m g)) := fun h => by
  injection h with h
  injection h with _ h
  injection h with h
  injection h with _ h
  injection h with _ h
  cases h
theorem u_walk (K : KT) (d : Nat) (own : Nat → Nat) (h : MH) (z x : Nat) (sg : TS) (s o c : Int) (hd : 8 ≤ d) (hT : TB sg) (hW : WorldO own K h z x sg) (hz1 : z ≤ h.1) (i1 : In s) (i2 : In o) (i3 : In c) (hz : h.1 + 25000 ≤ kC K ∧ h.2.1 + 304000 ≤ kS K) : Mt K yiX1_walk d [.ref x, vi s, vi o, vi c] h (Rw [RJ14, RJ12] fun th v h' => (¬ ((0 ≤ s ∧ s ≤ sg.1 1 - 1) ∧ (0 ≤ o ∧ o ≤ sg.1 1 - 1)) ∧ th = 1 ∧ QFr h h') ∨ (((0 ≤ s ∧ s ≤ sg.1 1 - 1) ∧ (0 ≤ o ∧ o ≤ sg.1 1 - 1)) ∧ ¬ (s ≠ o ∧ 0 ≤ c ∧ c ≤ 60) ∧ th = 2 ∧ QFr h h') ∨ (((0 ≤ s ∧ s ≤ sg.1 1 - 1) ∧ (0 ≤ o ∧ o ≤ sg.1 1 - 1)) ∧ (s ≠ o ∧ 0 ≤ c ∧ c ≤ 60) ∧ th = 0 ∧ MutQ K own h h' z x (ovr sg [] [(3, upz (upz (sg.2 3) (12 * s + o) c) (12 * o + s) c)]) ∧ v = sg.2 3 (12 * s + o))) := by
  have f1b := of1 (hT.1 1)
  have := i1.1; have := i1.2; have := i2.1; have := i2.2; have := i3.1; have := i3.2
  have hW0 : World K h z x sg := ⟨own, hW⟩
  obtain ⟨e0, cc, ch, wk, sv, tr, lt, ws, tx, se, te, we, kp, sp, tp, wp, T, hKt, hEt, hIt, hxt, hcht, hwkt, hsvt, htrt, hltt, hwst, htxt, hkpt, hR0⟩ := id hW
  obtain ⟨hx, hxz, -⟩ := tg_at hxt
  obtain ⟨hch, hchz, -⟩ := tg_at hcht
  have hxo := hR0.own hxt
  have hcho := hR0.own hcht
  have hE1 := hEt.1
  obtain ⟨hE2, hE2z, -⟩ := tg_at hEt.2
  obtain ⟨k0, k1, k3, k4, k5, k8, k9, k10, k11, k12⟩ := id hKt
  have hwk := And.intro hwkt.1.C hwkt.2
  have hsv := hsvt
  have htr := htrt
  have hlt := hltt
  have hws := hwst
  have htx := htxt
  obtain ⟨wr, f, hwy0, hwr, hwn⟩ := id hwkt.1
  obtain ⟨hwy, hwyz, -⟩ := tg_at hwy0
  have hwyo := hR0.own hwy0
  refine mt_ofQ (by decide) (Nat.le_of_ble_eq_true rfl) (fun Q hQ => ?_)
  show MW K yiX1_walk d h 0 [some (.ref x), some (vi s), some (vi o), some (vi c), none] [] Q
  refine mw_wf (fun hwf => ?_)
  have l_hx := hwf _ _ hx
  have l_hwy := hwf _ _ hwy
  have fR : ∀ b, (b ≠ wr s ∧ b ≠ wr o) → h.2.2 b = h.2.2 b := fun _ _ => rfl
  refine m_aload_n (y := yiX1_walk) dX1_walk_0 rfl ?_
  refine j_iload_n (y := yiX1_walk) dX1_walk_1 rfl ?_
  refine m_invV (y := yiX1_walk) (rB := (RX1, TX1, 10)) [(vi s)] dX1_walk_2 hx rfl q889 q891 qs2 q123 q892 rfl (c_X1_isStop (d := 1) s (by omega) hx ⟨by omega, by omega⟩ ⟨by omega, by omega⟩) pdX1_isStop ⟨Nat.le_of_ble_eq_true rfl, by decide, by omega⟩ (kk_z fun r2 h2 q2 => ?_) kx_z
  obtain ⟨rfl, rfl⟩ := q2
  refine mw_top (x' := bz (0 ≤ s ∧ s ≤ (sg.1 1) - 1)) rfl ?_
  refine j_bz_eq (y := yiX1_walk) 20 dX1_walk_5 (by decide) (fun c5 => ?_) (fun c5 => ?_)
  · refine j_iconst (y := yiX1_walk) dX1_walk_20 ?_
    refine m_invS (y := yiX1_walk) [(vi 0)] dX1_walk_21 q893 q894 q123 q895 (c_X1_requireIndex_0 K 6 h (by omega) ⟨by omega, by omega⟩) pdX1_requireIndex ⟨Nat.le_of_ble_eq_true rfl, by decide, by omega⟩ kk_t (kx_t fun q21 h21 x21 => ?_)
    subst hQ; exact mx_ret rfl (Or.inr ⟨0, RJ14, q21, rfl, rfl, fun _ => Or.inl ⟨by omega, rfl, QFr.th x21 ⟨by omega, by omega⟩ ⟨by omega, by omega⟩ (fun _ _ => rfl)⟩⟩)
  · refine m_aload_n (y := yiX1_walk) dX1_walk_8 rfl ?_
    refine j_iload_n (y := yiX1_walk) dX1_walk_9 rfl ?_
    refine m_invV (y := yiX1_walk) (rB := (RX1, TX1, 10)) [(vi o)] dX1_walk_10 hx rfl q889 q891 qs2 q123 q892 rfl (c_X1_isStop (d := 1) o (by omega) hx ⟨by omega, by omega⟩ ⟨by omega, by omega⟩) pdX1_isStop ⟨Nat.le_of_ble_eq_true rfl, by decide, by omega⟩ (kk_z fun r10 h10 q10 => ?_) kx_z
    obtain ⟨rfl, rfl⟩ := q10
    refine mw_top (x' := bz (0 ≤ o ∧ o ≤ (sg.1 1) - 1)) rfl ?_
    refine j_bz_eq (y := yiX1_walk) 20 dX1_walk_13 (by decide) (fun c13 => ?_) (fun c13 => ?_)
    · refine j_iconst (y := yiX1_walk) dX1_walk_20 ?_
      refine m_invS (y := yiX1_walk) [(vi 0)] dX1_walk_21 q893 q894 q123 q895 (c_X1_requireIndex_0 K 6 h (by omega) ⟨by omega, by omega⟩) pdX1_requireIndex ⟨Nat.le_of_ble_eq_true rfl, by decide, by omega⟩ kk_t (kx_t fun q21 h21 x21 => ?_)
      subst hQ; exact mx_ret rfl (Or.inr ⟨0, RJ14, q21, rfl, rfl, fun _ => Or.inl ⟨by omega, rfl, QFr.th x21 ⟨by omega, by omega⟩ ⟨by omega, by omega⟩ (fun _ _ => rfl)⟩⟩)
    · refine j_iconst (y := yiX1_walk) dX1_walk_16 ?_
      refine m_goto (y := yiX1_walk) 21 dX1_walk_17 (by decide) ?_
      refine m_invS (y := yiX1_walk) [(vi 1)] dX1_walk_21 q893 q894 q123 q895 (c_X1_requireIndex_1 K 0 h) pdX1_requireIndex ⟨Nat.le_of_ble_eq_true rfl, by decide, by omega⟩ (kk_v fun h21 q21 => ?_) kx_v
      obtain rfl := q21
      refine j_iload_n (y := yiX1_walk) dX1_walk_24 rfl ?_
      refine j_iload_n (y := yiX1_walk) dX1_walk_25 rfl ?_
      refine j_icmp_eq (y := yiX1_walk) 43 dX1_walk_26 (by decide) ⟨⟨by omega, by omega⟩, ⟨by omega, by omega⟩⟩ (fun c26 => ?_) (fun c26 => ?_)
      · refine j_iconst (y := yiX1_walk) dX1_walk_43 ?_
        refine m_invS (y := yiX1_walk) [(vi 0)] dX1_walk_44 q853 q854 q123 q855 (c_X1_require_0 K 6 h (by omega) ⟨by omega, by omega⟩) pdX1_require ⟨Nat.le_of_ble_eq_true rfl, by decide, by omega⟩ kk_t (kx_t fun q44 h44 x44 => ?_)
        subst hQ; exact mx_ret rfl (Or.inr ⟨1, RJ12, q44, rfl, rfl, fun _ => Or.inr (Or.inl ⟨by omega, by omega, rfl, QFr.th x44 ⟨by omega, by omega⟩ ⟨by omega, by omega⟩ (fun _ _ => rfl)⟩)⟩)
      · refine j_iload_n (y := yiX1_walk) dX1_walk_29 rfl ?_
        refine j_iconst (y := yiX1_walk) dX1_walk_30 ?_
        refine j_bipush (y := yiX1_walk) dX1_walk_31 (by decide) ?_
        refine m_invS (y := yiX1_walk) [(vi c), (vi 0), (vi 60)] dX1_walk_33 q850 q851 q123 q852 (c_X1_isBetween K 0 h c 0 60 ⟨by omega, by omega⟩ ⟨by omega, by omega⟩ ⟨by omega, by omega⟩) pdX1_isBetween ⟨Nat.le_of_ble_eq_true rfl, by decide, by omega⟩ (kk_z fun r33 h33 q33 => ?_) kx_z
        obtain ⟨rfl, rfl⟩ := q33
        refine mw_top (x' := bz (0 ≤ c ∧ c ≤ 60)) rfl ?_
        refine j_bz_eq (y := yiX1_walk) 43 dX1_walk_36 (by decide) (fun c36 => ?_) (fun c36 => ?_)
        · refine j_iconst (y := yiX1_walk) dX1_walk_43 ?_
          refine m_invS (y := yiX1_walk) [(vi 0)] dX1_walk_44 q853 q854 q123 q855 (c_X1_require_0 K 6 h (by omega) ⟨by omega, by omega⟩) pdX1_require ⟨Nat.le_of_ble_eq_true rfl, by decide, by omega⟩ kk_t (kx_t fun q44 h44 x44 => ?_)
          subst hQ; exact mx_ret rfl (Or.inr ⟨1, RJ12, q44, rfl, rfl, fun _ => Or.inr (Or.inl ⟨by omega, by omega, rfl, QFr.th x44 ⟨by omega, by omega⟩ ⟨by omega, by omega⟩ (fun _ _ => rfl)⟩)⟩)
        · refine j_iconst (y := yiX1_walk) dX1_walk_39 ?_
          refine m_goto (y := yiX1_walk) 44 dX1_walk_40 (by decide) ?_
          refine m_invS (y := yiX1_walk) [(vi 1)] dX1_walk_44 q853 q854 q123 q855 (c_X1_require_1 K 0 h) pdX1_require ⟨Nat.le_of_ble_eq_true rfl, by decide, by omega⟩ (kk_v fun h44 q44 => ?_) kx_v
          obtain rfl := q44
          have ra := hwr s (by omega) (by omega)
          have rb := hwr o (by omega) (by omega)
          have ra2 := tg_at ra.2
          have rb2 := tg_at rb.2
          have rao := hR0.own ra.2
          have rbo := hR0.own rb.2
          have nab : wr s ≠ wr o := by { by_cases e9 : s < o; { exact hwn s o (by omega) e9 (by omega) }; { exact (hwn o s (by omega) (by omega) (by omega)).symm } }
          have nwa : wr s ≠ wk := fun e9 => by { have u9 := ra2.1; rw [e9, hwy] at u9; exact absurd u9 aa_ia }
          have nwb : wr o ≠ wk := fun e9 => by { have u9 := rb2.1; rw [e9, hwy] at u9; exact absurd u9 aa_ia }
          have nxa : x ≠ wr s := ne_oa hx ra2.1
          have nxb : x ≠ wr o := ne_oa hx rb2.1
          have hra : h.2.2 (wr s) = some (true, ia K 12 (T s)) := ra2.1
          have l_hra := hwf _ _ hra
          have hrb : h.2.2 (wr o) = some (true, ia K 12 (T o)) := rb2.1
          have l_hrb := hwf _ _ hrb
          refine m_aload_n (y := yiX1_walk) dX1_walk_47 rfl ?_
          refine m_getfS (y := yiX1_walk) kc_0 1 (by decide) dX1_walk_48 q298 hx rfl ?_
          refine j_iload_n (y := yiX1_walk) dX1_walk_51 rfl ?_
          refine h_aald6 (y := yiX1_walk) dX1_walk_52 hwy ⟨by omega, by omega⟩ (by omega) ?_
          rw [ra.1]
          show MW K yiX1_walk d h 53 [some (.ref x), some (vi s), some (vi o), some (vi c), none] [(.ref (wr s))] Q
          refine j_iload_n (y := yiX1_walk) dX1_walk_53 rfl ?_
          refine j_iald (y := yiX1_walk) dX1_walk_54 hra (by omega) ⟨by omega, by omega⟩ ?_
          refine j_istore (y := yiX1_walk) [some (.ref x), some (vi s), some (vi o), some (vi c), some (vi ((T s) o))] dX1_walk_55 (by decide) rfl rfl ?_
          refine m_aload_n (y := yiX1_walk) dX1_walk_57 rfl ?_
          refine m_getfS (y := yiX1_walk) kc_0 1 (by decide) dX1_walk_58 q298 hx rfl ?_
          refine j_iload_n (y := yiX1_walk) dX1_walk_61 rfl ?_
          refine h_aald6 (y := yiX1_walk) dX1_walk_62 hwy ⟨by omega, by omega⟩ (by omega) ?_
          rw [ra.1]
          show MW K yiX1_walk d h 63 [some (.ref x), some (vi s), some (vi o), some (vi c), some (vi ((T s) o))] [(.ref (wr s))] Q
          refine j_iload_n (y := yiX1_walk) dX1_walk_63 rfl ?_
          refine j_iload_n (y := yiX1_walk) dX1_walk_64 rfl ?_
          refine j_iast (y := yiX1_walk) dX1_walk_65 hra (by omega) ⟨by omega, by omega⟩ (hp_put fun g1 g1H => ?_)
          have hx : g1.2.2 x = some (true, .inr (0, [(.ref ch), (.ref wk), (vi (sg.1 1)), (.ref sv), (.ref tr), (.ref lt), (.ref ws), (.ref tx), (vi (sg.1 21)), (va_rf kp)])) := (g1H.2.2.2 _ (by omega)).trans hx
          have hwy : g1.2.2 wk = some (true, aaE K 12 f) := (g1H.2.2.2 _ (by omega)).trans hwy
          have hrb : g1.2.2 (wr o) = some (true, ia K 12 (T o)) := (g1H.2.2.2 _ (by omega)).trans hrb
          have fR : ∀ b, (b ≠ wr s ∧ b ≠ wr o) → g1.2.2 b = h.2.2 b := fun b hb => (g1H.2.2.2 b (by omega)).trans (fR b hb)
          have hra : g1.2.2 (wr s) = some (true, ia K 12 (upz (T s) o c)) := g1H.2.2.1
          have g11 := g1H.1
          have g12 := g1H.2.1
          refine m_aload_n (y := yiX1_walk) dX1_walk_66 rfl ?_
          refine m_getfS (y := yiX1_walk) kc_0 1 (by decide) dX1_walk_67 q298 hx rfl ?_
          refine j_iload_n (y := yiX1_walk) dX1_walk_70 rfl ?_
          refine h_aald6 (y := yiX1_walk) dX1_walk_71 hwy ⟨by omega, by omega⟩ (by omega) ?_
          rw [rb.1]
          show MW K yiX1_walk d g1 72 [some (.ref x), some (vi s), some (vi o), some (vi c), some (vi ((T s) o))] [(.ref (wr o))] Q
          refine j_iload_n (y := yiX1_walk) dX1_walk_72 rfl ?_
          refine j_iload_n (y := yiX1_walk) dX1_walk_73 rfl ?_
          refine j_iast (y := yiX1_walk) dX1_walk_74 hrb (by omega) ⟨by omega, by omega⟩ (hp_put fun g2 g2H => ?_)
          have hx : g2.2.2 x = some (true, .inr (0, [(.ref ch), (.ref wk), (vi (sg.1 1)), (.ref sv), (.ref tr), (.ref lt), (.ref ws), (.ref tx), (vi (sg.1 21)), (va_rf kp)])) := (g2H.2.2.2 _ (by omega)).trans hx
          have hwy : g2.2.2 wk = some (true, aaE K 12 f) := (g2H.2.2.2 _ (by omega)).trans hwy
          have hra : g2.2.2 (wr s) = some (true, ia K 12 (upz (T s) o c)) := (g2H.2.2.2 _ (by omega)).trans hra
          have fR : ∀ b, (b ≠ wr s ∧ b ≠ wr o) → g2.2.2 b = h.2.2 b := fun b hb => (g2H.2.2.2 b (by omega)).trans (fR b hb)
          have hrb : g2.2.2 (wr o) = some (true, ia K 12 (upz (T o) s c)) := g2H.2.2.1
          have g21 := g2H.1
          have g22 := g2H.2.1
          refine j_iload (y := yiX1_walk) dX1_walk_75 rfl ?_
          have eJ : ∀ q, q < z → own q ≠ 3 → g2.2.2 q = h.2.2 q := fun q hq hn => fR q ⟨fun e9 => by { rw [e9] at hn; exact hn rao }, fun e9 => by { rw [e9] at hn; exact hn rbo }⟩
          have U := upO (j := 3) (by decide) (show z ≤ g2.1 by omega) eJ
          have tm : ∀ q c, q < z → own q = 3 → g2.2.2 q = some c → (tg (ownJ own z 3) g2.1 3 g2).2.2 q = some c := fun q c l1 l2 l3 => tg_mk l3 (by omega) (Or.inl ((if_pos l1).trans l2))
          have hnew : WyI K (tg (ownJ own z 3) g2.1 3 g2) wk (gup (gup T s o c) o s c) := WyI.put (h := tg own z 3 h) (by omega) ⟨by omega, by omega⟩ ⟨by omega, by omega⟩ (tm _ _ hwyz hwyo hwy) hwr hwn (tm _ _ ra2.2.1 rao hra) (tm _ _ rb2.2.1 rbo hrb) (fun i j0 j1 n1 n2 => by { have u9 := (hwr i j0 j1).2; have v9 := tg_at u9; rw [u9]; exact tm _ _ v9.2.1 (hR0.own u9) ((fR _ ⟨n1, n2⟩).trans v9.1) })
          subst hQ; exact j_wret (y := yiX1_walk) dX1_walk_77 rfl (Or.inr (Or.inr ⟨by omega, by omega, rfl, ⟨ownJ own z 3, fun q hq => if_pos hq, ⟨e0, cc, ch, wk, sv, tr, lt, ws, tx, se, te, we, kp, sp, tp, wp, gup (gup T s o c) o s c, hKt, (by rw [U 0 (by decide)]; exact hEt), (by rw [U 0 (by decide)]; exact hIt), (by rw [U 1 (by decide)]; exact hxt), (by rw [U 2 (by decide)]; exact hcht), ⟨hnew, (hwkt.2.up ⟨by omega, by omega⟩ ⟨by omega, by omega⟩).up ⟨by omega, by omega⟩ ⟨by omega, by omega⟩⟩, ⟨by rw [U 4 (by decide)]; exact hsvt.1, fun s a b => by rw [U (100 + s.toNat) (by have b9 : s < sg.1 6 := b; omega)]; exact hsvt.2 s a b⟩, ⟨by rw [U 5 (by decide)]; exact htrt.1, fun t a b => by rw [U (200 + t.toNat) (by have b9 : t < sg.1 8 := b; omega)]; exact htrt.2 t a b⟩, (by rw [U 6 (by decide)]; exact hltt), ⟨by rw [U 7 (by decide)]; exact hwst.1, fun w a b => by rw [U 7 (by decide)]; exact hwst.2 w a b⟩, (by rw [U 8 (by decide)]; exact htxt), (by rw [U 9 (by decide)]; exact hkpt), hR0.up (J := fun q => q = 3) (fun b hb => if_pos hb) (fun b hb => if_neg (by omega)) (by decide) eJ⟩, fun q hq h10 => eJ q hq (by omega), by omega, by omega⟩, hwkt.2 s o (by omega) (by omega) (by omega) (by omega)⟩))
