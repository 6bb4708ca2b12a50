/-! Lastbus: what is asked of the table -/
section GET
variable (K : KT) (d : Nat) (h : MH) (z x : Nat) (sg : TS)
theorem c_callOf_1 (t c : Int) (hd : 4 ≤ d) (hT : TB sg) (hW : World K h z x sg) (ht : 0 ≤ t ∧ t ≤ sg.1 8 - 1) (hc : 0 ≤ c ∧ c ≤ sg.2 10 t - 1) : Mt K yiX1_callOf d [.ref x, vi t, vi c] h (Rr fun r h' => h = h' ∧ h.2.2 r = some (true, .inr (3, [vi (trS sg t c), vi (trA sg t c), vi (trD sg t c)]))) := by
  have f8 := of8 (hT.1 8)
  have hW9 := hW
  have hnb := oa10 (hT.2 10) t (by omega) (by omega)
  have hW0 := hW
  obtain ⟨own, e0, cc, ch, wk, sv, tr, lt, ws, tx, se, te, we, kp, sp, tp, wp, T, hK, hE, hI, hx, hch, hwk, hsv, htr, hlt, hws, htx, hkp, hR0⟩ := hW
  obtain ⟨hx, hxz, -⟩ := tg_at hx
  obtain ⟨hch, hchz, -⟩ := tg_at hch
  have hE1 := hE.1
  obtain ⟨hE2, hE2z, -⟩ := tg_at hE.2
  obtain ⟨k0, k1, k3, k4, k5, k8, k9, k10, k11, k12⟩ := hK
  have hwk := And.intro hwk.1.C hwk.2
  refine mt_ofQ (by decide) (Nat.le_of_ble_eq_true rfl) (fun Q hQ => ?_)
  show MW K yiX1_callOf d h 0 [some (.ref x), some (vi t), some (vi c), none] [] Q
  refine mw_wf (fun hwf => ?_)
  have l_hx := hwf _ _ hx
  refine m_aload_n (y := yiX1_callOf) dX1_callOf_0 rfl ?_
  refine j_iload_n (y := yiX1_callOf) dX1_callOf_1 rfl ?_
  refine m_invV (y := yiX1_callOf) (rB := (RX1, TX1, 10)) [(vi t)] dX1_callOf_2 hx rfl q1177 q1179 qs12 q123 q1180 rfl (c_X1_tripOf_1 K 3 h z x sg t (by omega) hT hW9 ⟨by omega, by omega⟩) pdX1_tripOf ⟨Nat.le_of_ble_eq_true rfl, by decide, by omega⟩ (kk_r fun r2 h2 q2 => ?_) kx_r
  obtain ⟨rfl, e0', hE0', l, e, p, hq0, ⟨wl, cl, ml, fl, hlo, hle, hlae, hl0, hlw, hlc, hlf, hlno⟩, hcl⟩ := q2
  have hq9 := (rs_at hq0).1
  have hlo9 := (rs_at hlo).1
  have hle9 := (rs_at hle).1
  have hcl9 := (rs_at (hcl c (by omega) (by omega))).1
  have hq9 : h.2.2 r2 = some (true, .inr (2, [(vi (sg.2 9 t)), (.ref l)])) := hq9
  have l_hq9 := hwf _ _ hq9
  have hlo9 : h.2.2 l = some (true, .inr (14, [(vi ml), (.ref e), (vi (sg.2 10 t))])) := hlo9
  have l_hlo9 := hwf _ _ hlo9
  have hle9 : h.2.2 e = some (wl, oaE K cl fl) := hle9
  have l_hle9 := hwf _ _ hle9
  have hcl9 : h.2.2 (p c) = some (true, .inr (3, [(vi (trS sg t c)), (vi (trA sg t c)), (vi (trD sg t c))])) := hcl9
  have l_hcl9 := hwf _ _ hcl9
  refine m_astore_n (y := yiX1_callOf) dX1_callOf_5 (by decide) rfl ?_
  show MW K yiX1_callOf d h 6 [some (.ref x), some (vi t), some (vi c), some (.ref r2)] [] Q
  refine j_iload_n (y := yiX1_callOf) dX1_callOf_6 rfl ?_
  refine j_iconst (y := yiX1_callOf) dX1_callOf_7 ?_
  refine m_aload_n (y := yiX1_callOf) dX1_callOf_8 rfl ?_
  refine m_getfN (y := yiX1_callOf) kc_2 1 (by decide) dX1_callOf_9 q1146 hq9 rfl ?_
  refine m_invV (y := yiX1_callOf) (rB := (RJ2, TJ2, 3)) [] dX1_callOf_12 hlo9 rfl q333 q334 q335 q126 q336 rfl (c_J2_size K 0 h _ _ _ _ hlo9) pdJ2_size ⟨Nat.le_of_ble_eq_true rfl, by decide, by omega⟩ (kk_z fun r12 h12 q12 => ?_) kx_z
  obtain ⟨rfl, rfl⟩ := q12
  refine mw_top (x' := sg.2 10 t) rfl ?_
  refine j_iconst (y := yiX1_callOf) dX1_callOf_15 ?_
  refine j_isub (y := yiX1_callOf) dX1_callOf_16 ?_
  refine m_invS (y := yiX1_callOf) [(vi c), (vi 0), (vi ((sg.2 10 t) - 1))] dX1_callOf_17 q850 q851 q123 q852 (c_X1_isBetween K 0 h c 0 ((sg.2 10 t) - 1) ⟨by omega, by omega⟩ ⟨by omega, by omega⟩ ⟨by omega, by omega⟩) pdX1_isBetween ⟨Nat.le_of_ble_eq_true rfl, by decide, by omega⟩ (kk_z fun r17 h17 q17 => ?_) kx_z
  obtain ⟨rfl, rfl⟩ := q17
  refine mw_top (x' := bz (0 ≤ c ∧ c ≤ ((sg.2 10 t) - 1))) rfl ?_
  by_cases c20 : (0 ≤ c ∧ c ≤ ((sg.2 10 t) - 1))
  · refine mw_top (x' := 1) ((bz_t c20).symm) ?_
    refine m_invS (y := yiX1_callOf) [(vi 1)] dX1_callOf_20 q893 q894 q123 q895 (c_X1_requireIndex_1 K 0 h) pdX1_requireIndex ⟨Nat.le_of_ble_eq_true rfl, by decide, by omega⟩ (kk_v fun h20 q20 => ?_) kx_v
    obtain rfl := q20
    refine m_aload_n (y := yiX1_callOf) dX1_callOf_23 rfl ?_
    refine m_getfN (y := yiX1_callOf) kc_2 1 (by decide) dX1_callOf_24 q1146 hq9 rfl ?_
    refine j_iload_n (y := yiX1_callOf) dX1_callOf_27 rfl ?_
    refine m_invV (y := yiX1_callOf) (rB := (RJ2, TJ2, 3)) [(vi c)] dX1_callOf_28 hlo9 rfl q1035 q1036 q1037 q126 q1038 rfl (c_J2_get K 2 h _ _ _ _ _ _ _ _ _ (by omega) hlo9 hle9 ⟨by omega, by omega⟩ ⟨by omega, by omega⟩ (hlf _ (by omega) (by omega))) pdJ2_get ⟨Nat.le_of_ble_eq_true rfl, by decide, by omega⟩ (kk_r fun r28 h28 q28 => ?_) kx_r
    obtain ⟨rfl, rfl⟩ := q28
    refine m_cast (y := yiX1_callOf) dX1_callOf_31 hcl9 rfl q795 (Or.inl rfl) ?_
    subst hQ; exact m_aret (y := yiX1_callOf) (x := (some (p c))) dX1_callOf_34 rfl (Or.inl ⟨_, rfl⟩) ⟨(p c), rfl, ⟨rfl, hcl9⟩⟩
  · refine mw_top (x' := 0) ((bz_f c20).symm) ?_
    refine m_invS (y := yiX1_callOf) [(vi 0)] dX1_callOf_20 q893 q894 q123 q895 (c_X1_requireIndex_0 K 6 h (by omega) ⟨by omega, by omega⟩) pdX1_requireIndex ⟨Nat.le_of_ble_eq_true rfl, by decide, by omega⟩ kk_t (kx_t fun q20 h20 x20 => ?_)
    subst hQ; exact mx_ret rfl (absurd hc c20)
theorem c_callOf_0 (t c : Int) (hd : 8 ≤ d) (hT : TB sg) (hW : World K h z x sg) (i1 : In t) (i2 : In c) (hn : ¬ ((0 ≤ t ∧ t ≤ sg.1 8 - 1) ∧ 0 ≤ c ∧ c ≤ sg.2 10 t - 1)) (hz : h.1 + 1 ≤ kC K ∧ h.2.1 + 6 ≤ kS K) : Mt K yiX1_callOf d [.ref x, vi t, vi c] h (Rt RJ14 (ThH h)) := by
  have f8 := of8 (hT.1 8)
  have hW9 := hW
  have := i1.1; have := i1.2; have := i2.1; have := i2.2
  have hW0 := hW
  obtain ⟨own, e0, cc, ch, wk, sv, tr, lt, ws, tx, se, te, we, kp, sp, tp, wp, T, hK, hE, hI, hx, hch, hwk, hsv, htr, hlt, hws, htx, hkp, hR0⟩ := hW
  obtain ⟨hx, hxz, -⟩ := tg_at hx
  obtain ⟨hch, hchz, -⟩ := tg_at hch
  have hE1 := hE.1
  obtain ⟨hE2, hE2z, -⟩ := tg_at hE.2
  obtain ⟨k0, k1, k3, k4, k5, k8, k9, k10, k11, k12⟩ := hK
  have hwk := And.intro hwk.1.C hwk.2
  refine mt_ofQ (by decide) (Nat.le_of_ble_eq_true rfl) (fun Q hQ => ?_)
  show MW K yiX1_callOf d h 0 [some (.ref x), some (vi t), some (vi c), none] [] Q
  refine mw_wf (fun hwf => ?_)
  have l_hx := hwf _ _ hx
  refine m_aload_n (y := yiX1_callOf) dX1_callOf_0 rfl ?_
  refine j_iload_n (y := yiX1_callOf) dX1_callOf_1 rfl ?_
  by_cases c2 : 0 ≤ t ∧ t ≤ sg.1 8 - 1
  · refine m_invV (y := yiX1_callOf) (rB := (RX1, TX1, 10)) [(vi t)] dX1_callOf_2 hx rfl q1177 q1179 qs12 q123 q1180 rfl (c_X1_tripOf_1 K 3 h z x sg t (by omega) hT hW9 c2) pdX1_tripOf ⟨Nat.le_of_ble_eq_true rfl, by decide, by omega⟩ (kk_r fun r2 h2 q2 => ?_) kx_r
    obtain ⟨rfl, e0', hE0', l, e, p, hq0, ⟨wl, cl, ml, fl, hlo, hle, hlae, hl0, hlw, hlc, hlf, hlno⟩, hcl⟩ := q2
    have hq9 := (rs_at hq0).1
    have hlo9 := (rs_at hlo).1
    have hq9 : h.2.2 r2 = some (true, .inr (2, [(vi (sg.2 9 t)), (.ref l)])) := hq9
    have l_hq9 := hwf _ _ hq9
    have hlo9 : h.2.2 l = some (true, .inr (14, [(vi ml), (.ref e), (vi (sg.2 10 t))])) := hlo9
    have l_hlo9 := hwf _ _ hlo9
    refine m_astore_n (y := yiX1_callOf) dX1_callOf_5 (by decide) rfl ?_
    show MW K yiX1_callOf d h 6 [some (.ref x), some (vi t), some (vi c), some (.ref r2)] [] Q
    refine j_iload_n (y := yiX1_callOf) dX1_callOf_6 rfl ?_
    refine j_iconst (y := yiX1_callOf) dX1_callOf_7 ?_
    refine m_aload_n (y := yiX1_callOf) dX1_callOf_8 rfl ?_
    refine m_getfN (y := yiX1_callOf) kc_2 1 (by decide) dX1_callOf_9 q1146 hq9 rfl ?_
    refine m_invV (y := yiX1_callOf) (rB := (RJ2, TJ2, 3)) [] dX1_callOf_12 hlo9 rfl q333 q334 q335 q126 q336 rfl (c_J2_size K 0 h _ _ _ _ hlo9) pdJ2_size ⟨Nat.le_of_ble_eq_true rfl, by decide, by omega⟩ (kk_z fun r12 h12 q12 => ?_) kx_z
    obtain ⟨rfl, rfl⟩ := q12
    refine mw_top (x' := sg.2 10 t) rfl ?_
    refine j_iconst (y := yiX1_callOf) dX1_callOf_15 ?_
    refine j_isub (y := yiX1_callOf) dX1_callOf_16 ?_
    refine m_invS (y := yiX1_callOf) [(vi c), (vi 0), (vi ((sg.2 10 t) - 1))] dX1_callOf_17 q850 q851 q123 q852 (c_X1_isBetween K 0 h c 0 ((sg.2 10 t) - 1) ⟨by omega, by omega⟩ ⟨by omega, by omega⟩ ⟨by omega, by omega⟩) pdX1_isBetween ⟨Nat.le_of_ble_eq_true rfl, by decide, by omega⟩ (kk_z fun r17 h17 q17 => ?_) kx_z
    obtain ⟨rfl, rfl⟩ := q17
    refine mw_top (x' := bz (0 ≤ c ∧ c ≤ ((sg.2 10 t) - 1))) rfl ?_
    by_cases c20 : (0 ≤ c ∧ c ≤ ((sg.2 10 t) - 1))
    · refine mw_top (x' := 1) ((bz_t c20).symm) ?_
      refine m_invS (y := yiX1_callOf) [(vi 1)] dX1_callOf_20 q893 q894 q123 q895 (c_X1_requireIndex_1 K 0 h) pdX1_requireIndex ⟨Nat.le_of_ble_eq_true rfl, by decide, by omega⟩ (kk_v fun h20 q20 => ?_) kx_v
      obtain rfl := q20
      exact absurd ⟨c2, c20⟩ hn
    · refine mw_top (x' := 0) ((bz_f c20).symm) ?_
      refine m_invS (y := yiX1_callOf) [(vi 0)] dX1_callOf_20 q893 q894 q123 q895 (c_X1_requireIndex_0 K 6 h (by omega) ⟨by omega, by omega⟩) pdX1_requireIndex ⟨Nat.le_of_ble_eq_true rfl, by decide, by omega⟩ kk_t (kx_t fun q20 h20 x20 => ?_)
      subst hQ; exact mx_ret rfl (⟨q20, rfl, x20⟩)
  · refine m_invV (y := yiX1_callOf) (rB := (RX1, TX1, 10)) [(vi t)] dX1_callOf_2 hx rfl q1177 q1179 qs12 q123 q1180 rfl (c_X1_tripOf_0 K 7 h z x sg t (by omega) hT hW9 i1 c2 ⟨by omega, by omega⟩) pdX1_tripOf ⟨Nat.le_of_ble_eq_true rfl, by decide, by omega⟩ kk_t (kx_t fun q2 h2 x2 => ?_)
    subst hQ; exact mx_ret rfl (⟨q2, rfl, x2⟩)
theorem q_trips (hd : 2 ≤ d) (hW : World K h z x sg) : Mt K yiX1_trips d [.ref x] h (Rz fun v h' => h = h' ∧ sg.1 8 = v) := by
  have hW0 := hW
  obtain ⟨own, e0, cc, ch, wk, sv, tr, lt, ws, tx, se, te, we, kp, sp, tp, wp, T, hK, hE, hI, hx, hch, hwk, hsv, htr, hlt, hws, htx, hkp, hR0⟩ := hW
  obtain ⟨hx, hxz, -⟩ := tg_at hx
  obtain ⟨hch, hchz, -⟩ := tg_at hch
  have hE1 := hE.1
  obtain ⟨hE2, hE2z, -⟩ := tg_at hE.2
  obtain ⟨k0, k1, k3, k4, k5, k8, k9, k10, k11, k12⟩ := hK
  have hwk := And.intro hwk.1.C hwk.2
  obtain ⟨⟨wt, capt, mct, ft, hto, hte, htne, ht0, htw, htcap, htf, htno⟩, htt⟩ := htr
  obtain ⟨hto, htoz, -⟩ := tg_at hto
  obtain ⟨hte, htez, -⟩ := tg_at hte
  refine mt_ofQ (by decide) (Nat.le_of_ble_eq_true rfl) (fun Q hQ => ?_)
  show MW K yiX1_trips d h 0 [some (.ref x)] [] Q
  refine mw_wf (fun hwf => ?_)
  have l_hx := hwf _ _ hx
  have l_hto := hwf _ _ hto
  refine m_aload_n (y := yiX1_trips) dX1_trips_0 rfl ?_
  refine m_getfS (y := yiX1_trips) kc_0 4 (by decide) dX1_trips_1 q302 hx rfl ?_
  refine m_invV (y := yiX1_trips) (rB := (RJ2, TJ2, 3)) [] dX1_trips_4 hto rfl q333 q334 q335 q126 q336 rfl (c_J2_size K 0 h _ _ _ _ hto) pdJ2_size ⟨Nat.le_of_ble_eq_true rfl, by decide, by omega⟩ (kk_z fun r4 h4 q4 => ?_) kx_z
  obtain ⟨rfl, rfl⟩ := q4
  refine mw_top (x' := sg.1 8) rfl ?_
  subst hQ; exact j_iret (y := yiX1_trips) dX1_trips_7 rfl (⟨rfl, rfl⟩)
theorem q_calls (t : Int) (hd : 8 ≤ d) (hT : TB sg) (hW : World K h z x sg) (i1 : In t) (hz : h.1 + 1 ≤ kC K ∧ h.2.1 + 6 ≤ kS K) : Mt K yiX1_calls d [.ref x, vi t] h (Rw [RJ14] fun th v h' => (¬ (0 ≤ t ∧ t ≤ sg.1 8 - 1) ∧ th = 1 ∧ QFr h h') ∨ ((0 ≤ t ∧ t ≤ sg.1 8 - 1) ∧ th = 0 ∧ h' = h ∧ v = sg.2 10 t)) := by
  have f8 := of8 (hT.1 8)
  have hW9 := hW
  have hW0 := hW
  obtain ⟨own, e0, cc, ch, wk, sv, tr, lt, ws, tx, se, te, we, kp, sp, tp, wp, T, hK, hE, hI, hx, hch, hwk, hsv, htr, hlt, hws, htx, hkp, hR0⟩ := hW
  obtain ⟨hx, hxz, -⟩ := tg_at hx
  obtain ⟨hch, hchz, -⟩ := tg_at hch
  have hE1 := hE.1
  obtain ⟨hE2, hE2z, -⟩ := tg_at hE.2
  obtain ⟨k0, k1, k3, k4, k5, k8, k9, k10, k11, k12⟩ := hK
  have hwk := And.intro hwk.1.C hwk.2
  refine mt_ofQ (by decide) (Nat.le_of_ble_eq_true rfl) (fun Q hQ => ?_)
  show MW K yiX1_calls d h 0 [some (.ref x), some (vi t)] [] Q
  refine mw_wf (fun hwf => ?_)
  have l_hx := hwf _ _ hx
  refine m_aload_n (y := yiX1_calls) dX1_calls_0 rfl ?_
  refine j_iload_n (y := yiX1_calls) dX1_calls_1 rfl ?_
  by_cases c2 : 0 ≤ t ∧ t ≤ sg.1 8 - 1
  · refine m_invV (y := yiX1_calls) (rB := (RX1, TX1, 10)) [(vi t)] dX1_calls_2 hx rfl q1177 q1179 qs12 q123 q1180 rfl (c_X1_tripOf_1 K 3 h z x sg t (by omega) hT hW9 c2) pdX1_tripOf ⟨Nat.le_of_ble_eq_true rfl, by decide, by omega⟩ (kk_r fun r2 h2 q2 => ?_) kx_r
    obtain ⟨rfl, e0', hE0', l, e, p, hq0, ⟨wl, cl, ml, fl, hlo, hle, hlae, hl0, hlw, hlc, hlf, hlno⟩, hcl⟩ := q2
    have hq9 := (rs_at hq0).1
    have hlo9 := (rs_at hlo).1
    have hq9 : h.2.2 r2 = some (true, .inr (2, [(vi (sg.2 9 t)), (.ref l)])) := hq9
    have l_hq9 := hwf _ _ hq9
    have hlo9 : h.2.2 l = some (true, .inr (14, [(vi ml), (.ref e), (vi (sg.2 10 t))])) := hlo9
    have l_hlo9 := hwf _ _ hlo9
    refine m_getfN (y := yiX1_calls) kc_2 1 (by decide) dX1_calls_5 q1146 hq9 rfl ?_
    refine m_invV (y := yiX1_calls) (rB := (RJ2, TJ2, 3)) [] dX1_calls_8 hlo9 rfl q333 q334 q335 q126 q336 rfl (c_J2_size K 0 h _ _ _ _ hlo9) pdJ2_size ⟨Nat.le_of_ble_eq_true rfl, by decide, by omega⟩ (kk_z fun r8 h8 q8 => ?_) kx_z
    obtain ⟨rfl, rfl⟩ := q8
    refine mw_top (x' := sg.2 10 t) rfl ?_
    subst hQ; exact j_wret (y := yiX1_calls) dX1_calls_11 rfl (Or.inr ⟨c2, rfl, rfl, rfl⟩)
  · refine m_invV (y := yiX1_calls) (rB := (RX1, TX1, 10)) [(vi t)] dX1_calls_2 hx rfl q1177 q1179 qs12 q123 q1180 rfl (c_X1_tripOf_0 K 7 h z x sg t (by omega) hT hW9 i1 c2 ⟨by omega, by omega⟩) pdX1_tripOf ⟨Nat.le_of_ble_eq_true rfl, by decide, by omega⟩ kk_t (kx_t fun q2 h2 x2 => ?_)
    subst hQ; exact mx_ret rfl (Or.inr ⟨0, RJ14, q2, rfl, rfl, fun _ => Or.inl ⟨c2, rfl, QFr.th x2 ⟨by omega, by omega⟩ ⟨by omega, by omega⟩ (fun _ _ => rfl)⟩⟩)
theorem q_stopAt (t c : Int) (hd : 9 ≤ d) (hT : TB sg) (hW : World K h z x sg) (i1 : In t) (i2 : In c) (hz : h.1 + 1 ≤ kC K ∧ h.2.1 + 6 ≤ kS K) : Mt K yiX1_stopAt d [.ref x, vi t, vi c] h (Rw [RJ14] fun th v h' => (¬ ((0 ≤ t ∧ t ≤ sg.1 8 - 1) ∧ (0 ≤ c ∧ c ≤ sg.2 10 t - 1)) ∧ th = 1 ∧ QFr h h') ∨ (((0 ≤ t ∧ t ≤ sg.1 8 - 1) ∧ (0 ≤ c ∧ c ≤ sg.2 10 t - 1)) ∧ th = 0 ∧ h' = h ∧ v = sg.2 11 (8 * t + c))) := by
  have f8 := of8 (hT.1 8)
  have hW9 := hW
  have hW0 := hW
  obtain ⟨own, e0, cc, ch, wk, sv, tr, lt, ws, tx, se, te, we, kp, sp, tp, wp, T, hK, hE, hI, hx, hch, hwk, hsv, htr, hlt, hws, htx, hkp, hR0⟩ := hW
  obtain ⟨hx, hxz, -⟩ := tg_at hx
  obtain ⟨hch, hchz, -⟩ := tg_at hch
  have hE1 := hE.1
  obtain ⟨hE2, hE2z, -⟩ := tg_at hE.2
  obtain ⟨k0, k1, k3, k4, k5, k8, k9, k10, k11, k12⟩ := hK
  have hwk := And.intro hwk.1.C hwk.2
  refine mt_ofQ (by decide) (Nat.le_of_ble_eq_true rfl) (fun Q hQ => ?_)
  show MW K yiX1_stopAt d h 0 [some (.ref x), some (vi t), some (vi c)] [] Q
  refine mw_wf (fun hwf => ?_)
  have l_hx := hwf _ _ hx
  refine m_aload_n (y := yiX1_stopAt) dX1_stopAt_0 rfl ?_
  refine j_iload_n (y := yiX1_stopAt) dX1_stopAt_1 rfl ?_
  refine j_iload_n (y := yiX1_stopAt) dX1_stopAt_2 rfl ?_
  by_cases c3 : (0 ≤ t ∧ t ≤ sg.1 8 - 1) ∧ 0 ≤ c ∧ c ≤ sg.2 10 t - 1
  · refine m_invV (y := yiX1_stopAt) (rB := (RX1, TX1, 10)) [(vi t), (vi c)] dX1_stopAt_3 hx rfl q1205 q1207 qs13 q123 q1208 rfl (c_callOf_1 K 4 h z x sg t c (by omega) hT hW9 c3.1 c3.2) pdX1_callOf ⟨Nat.le_of_ble_eq_true rfl, by decide, by omega⟩ (kk_r fun r3 h3 q3 => ?_) kx_r
    obtain ⟨rfl, hcl9⟩ := q3
    have hcl9 : h.2.2 r3 = some (true, .inr (3, [(vi (trS sg t c)), (vi (trA sg t c)), (vi (trD sg t c))])) := hcl9
    have l_hcl9 := hwf _ _ hcl9
    refine m_invV (y := yiX1_stopAt) (rB := (RX4, TX4, 3)) [] dX1_stopAt_6 hcl9 rfl q796 q797 q798 q155 q799 rfl (c_X4_stop (d := 0) hcl9) pdX4_stop ⟨Nat.le_of_ble_eq_true rfl, by decide, by omega⟩ (kk_z fun r6 h6 q6 => ?_) kx_z
    obtain ⟨rfl, rfl⟩ := q6
    refine mw_top (x' := (trS sg t c)) rfl ?_
    subst hQ; exact j_wret (y := yiX1_stopAt) dX1_stopAt_9 rfl (Or.inr ⟨c3, rfl, rfl, rfl⟩)
  · refine m_invV (y := yiX1_stopAt) (rB := (RX1, TX1, 10)) [(vi t), (vi c)] dX1_stopAt_3 hx rfl q1205 q1207 qs13 q123 q1208 rfl (c_callOf_0 K 8 h z x sg t c (by omega) hT hW9 i1 i2 c3 ⟨by omega, by omega⟩) pdX1_callOf ⟨Nat.le_of_ble_eq_true rfl, by decide, by omega⟩ kk_t (kx_t fun q3 h3 x3 => ?_)
    subst hQ; exact mx_ret rfl (Or.inr ⟨0, RJ14, q3, rfl, rfl, fun _ => Or.inl ⟨c3, rfl, QFr.th x3 ⟨by omega, by omega⟩ ⟨by omega, by omega⟩ (fun _ _ => rfl)⟩⟩)
theorem q_timeAt (t c : Int) (p : Prop) [Decidable p] (hd : 9 ≤ d) (hT : TB sg) (hW : World K h z x sg) (i1 : In t) (i2 : In c) (hz : h.1 + 1 ≤ kC K ∧ h.2.1 + 6 ≤ kS K) : Mt K yiX1_timeAt d [.ref x, vi t, vi c, vi (bz p)] h (Rw [RJ14] fun th v h' => (¬ ((0 ≤ t ∧ t ≤ sg.1 8 - 1) ∧ (0 ≤ c ∧ c ≤ sg.2 10 t - 1)) ∧ th = 1 ∧ QFr h h') ∨ (((0 ≤ t ∧ t ≤ sg.1 8 - 1) ∧ (0 ≤ c ∧ c ≤ sg.2 10 t - 1)) ∧ th = 0 ∧ h' = h ∧ v = (if p then sg.2 12 (8 * t + c) else sg.2 13 (8 * t + c)))) := by
  have f8 := of8 (hT.1 8)
  have hW9 := hW
  have hW0 := hW
  obtain ⟨own, e0, cc, ch, wk, sv, tr, lt, ws, tx, se, te, we, kp, sp, tp, wp, T, hK, hE, hI, hx, hch, hwk, hsv, htr, hlt, hws, htx, hkp, hR0⟩ := hW
  obtain ⟨hx, hxz, -⟩ := tg_at hx
  obtain ⟨hch, hchz, -⟩ := tg_at hch
  have hE1 := hE.1
  obtain ⟨hE2, hE2z, -⟩ := tg_at hE.2
  obtain ⟨k0, k1, k3, k4, k5, k8, k9, k10, k11, k12⟩ := hK
  have hwk := And.intro hwk.1.C hwk.2
  refine mt_ofQ (by decide) (Nat.le_of_ble_eq_true rfl) (fun Q hQ => ?_)
  show MW K yiX1_timeAt d h 0 [some (.ref x), some (vi t), some (vi c), some (vi (bz p)), none] [] Q
  refine mw_wf (fun hwf => ?_)
  have l_hx := hwf _ _ hx
  refine m_aload_n (y := yiX1_timeAt) dX1_timeAt_0 rfl ?_
  refine j_iload_n (y := yiX1_timeAt) dX1_timeAt_1 rfl ?_
  refine j_iload_n (y := yiX1_timeAt) dX1_timeAt_2 rfl ?_
  by_cases c3 : (0 ≤ t ∧ t ≤ sg.1 8 - 1) ∧ 0 ≤ c ∧ c ≤ sg.2 10 t - 1
  · refine m_invV (y := yiX1_timeAt) (rB := (RX1, TX1, 10)) [(vi t), (vi c)] dX1_timeAt_3 hx rfl q1205 q1207 qs13 q123 q1208 rfl (c_callOf_1 K 4 h z x sg t c (by omega) hT hW9 c3.1 c3.2) pdX1_callOf ⟨Nat.le_of_ble_eq_true rfl, by decide, by omega⟩ (kk_r fun r3 h3 q3 => ?_) kx_r
    obtain ⟨rfl, hcl9⟩ := q3
    have hcl9 : h.2.2 r3 = some (true, .inr (3, [(vi (trS sg t c)), (vi (trA sg t c)), (vi (trD sg t c))])) := hcl9
    have l_hcl9 := hwf _ _ hcl9
    refine m_astore (y := yiX1_timeAt) dX1_timeAt_6 (by decide) rfl ?_
    show MW K yiX1_timeAt d h 8 [some (.ref x), some (vi t), some (vi c), some (vi (bz p)), some (.ref r3)] [] Q
    refine j_iload_n (y := yiX1_timeAt) dX1_timeAt_8 rfl ?_
    refine j_bz_eq (y := yiX1_timeAt) 20 dX1_timeAt_9 (by decide) (fun c9 => ?_) (fun c9 => ?_)
    · refine m_aload (y := yiX1_timeAt) dX1_timeAt_20 rfl ?_
      refine m_invV (y := yiX1_timeAt) (rB := (RX4, TX4, 3)) [] dX1_timeAt_22 hcl9 rfl q804 q805 q806 q155 q807 rfl (c_X4_departure (d := 0) hcl9) pdX4_departure ⟨Nat.le_of_ble_eq_true rfl, by decide, by omega⟩ (kk_z fun r22 h22 q22 => ?_) kx_z
      obtain ⟨rfl, rfl⟩ := q22
      refine mw_top (x' := (trD sg t c)) rfl ?_
      subst hQ; exact j_wret (y := yiX1_timeAt) dX1_timeAt_25 rfl (Or.inr ⟨c3, rfl, rfl, by first | rw [if_pos c9]; rfl | rw [if_neg c9]; rfl⟩)
    · refine m_aload (y := yiX1_timeAt) dX1_timeAt_12 rfl ?_
      refine m_invV (y := yiX1_timeAt) (rB := (RX4, TX4, 3)) [] dX1_timeAt_14 hcl9 rfl q800 q801 q802 q155 q803 rfl (c_X4_arrival (d := 0) hcl9) pdX4_arrival ⟨Nat.le_of_ble_eq_true rfl, by decide, by omega⟩ (kk_z fun r14 h14 q14 => ?_) kx_z
      obtain ⟨rfl, rfl⟩ := q14
      refine mw_top (x' := (trA sg t c)) rfl ?_
      refine m_goto (y := yiX1_timeAt) 25 dX1_timeAt_17 (by decide) ?_
      subst hQ; exact j_wret (y := yiX1_timeAt) dX1_timeAt_25 rfl (Or.inr ⟨c3, rfl, rfl, by first | rw [if_pos c9]; rfl | rw [if_neg c9]; rfl⟩)
  · refine m_invV (y := yiX1_timeAt) (rB := (RX1, TX1, 10)) [(vi t), (vi c)] dX1_timeAt_3 hx rfl q1205 q1207 qs13 q123 q1208 rfl (c_callOf_0 K 8 h z x sg t c (by omega) hT hW9 i1 i2 c3 ⟨by omega, by omega⟩) pdX1_callOf ⟨Nat.le_of_ble_eq_true rfl, by decide, by omega⟩ kk_t (kx_t fun q3 h3 x3 => ?_)
    subst hQ; exact mx_ret rfl (Or.inr ⟨0, RJ14, q3, rfl, rfl, fun _ => Or.inl ⟨c3, rfl, QFr.th x3 ⟨by omega, by omega⟩ ⟨by omega, by omega⟩ (fun _ _ => rfl)⟩⟩)
theorem c_serviceOf_1 (s : Int) (hd : 3 ≤ d) (hT : TB sg) (hW : World K h z x sg) (hs : 0 ≤ s ∧ s ≤ sg.1 6 - 1) : Mt K yiX1_serviceOf d [.ref x, vi s] h (Rr fun r h' => h = h' ∧ SvA K (rs 0 z h) (sg.2 7) s r) := by
  have f6 := of6 (hT.1 6)
  have hW0 := hW
  obtain ⟨own, e0, cc, ch, wk, sv, tr, lt, ws, tx, se, te, we, kp, sp, tp, wp, T, hK, hE, hI, hx, hch, hwk, hsv, htr, hlt, hws, htx, hkp, hR0⟩ := hW
  obtain ⟨hx, hxz, -⟩ := tg_at hx
  obtain ⟨hch, hchz, -⟩ := tg_at hch
  have hE1 := hE.1
  obtain ⟨hE2, hE2z, -⟩ := tg_at hE.2
  obtain ⟨k0, k1, k3, k4, k5, k8, k9, k10, k11, k12⟩ := hK
  have hwk := And.intro hwk.1.C hwk.2
  obtain ⟨⟨wsv, caps, mcs, fsv, hso, hse, hsne, hs0, hsw, hscap, hsf, hsno⟩, hss⟩ := hsv
  obtain ⟨hso, hsoz, -⟩ := tg_at hso
  obtain ⟨hse, hsez, -⟩ := tg_at hse
  have hs9 := hss s (by omega) (by omega)
  obtain ⟨wb, nb, fb, hb, hb1, hb2⟩ := id hs9
  have hbq := (tg_at hb.1).1
  refine mt_ofQ (by decide) (Nat.le_of_ble_eq_true rfl) (fun Q hQ => ?_)
  show MW K yiX1_serviceOf d h 0 [some (.ref x), some (vi s)] [] Q
  refine mw_wf (fun hwf => ?_)
  have l_hx := hwf _ _ hx
  have l_hso := hwf _ _ hso
  have l_hse := hwf _ _ hse
  have l_hbq := hwf _ _ hbq
  refine j_iload_n (y := yiX1_serviceOf) dX1_serviceOf_0 rfl ?_
  refine j_iconst (y := yiX1_serviceOf) dX1_serviceOf_1 ?_
  refine m_aload_n (y := yiX1_serviceOf) dX1_serviceOf_2 rfl ?_
  refine m_getfS (y := yiX1_serviceOf) kc_0 3 (by decide) dX1_serviceOf_3 q301 hx rfl ?_
  refine m_invV (y := yiX1_serviceOf) (rB := (RJ2, TJ2, 3)) [] dX1_serviceOf_6 hso rfl q333 q334 q335 q126 q336 rfl (c_J2_size K 0 h _ _ _ _ hso) pdJ2_size ⟨Nat.le_of_ble_eq_true rfl, by decide, by omega⟩ (kk_z fun r6 h6 q6 => ?_) kx_z
  obtain ⟨rfl, rfl⟩ := q6
  refine mw_top (x' := sg.1 6) rfl ?_
  refine j_iconst (y := yiX1_serviceOf) dX1_serviceOf_9 ?_
  refine j_isub (y := yiX1_serviceOf) dX1_serviceOf_10 ?_
  refine m_invS (y := yiX1_serviceOf) [(vi s), (vi 0), (vi ((sg.1 6) - 1))] dX1_serviceOf_11 q850 q851 q123 q852 (c_X1_isBetween K 0 h s 0 ((sg.1 6) - 1) ⟨by omega, by omega⟩ ⟨by omega, by omega⟩ ⟨by omega, by omega⟩) pdX1_isBetween ⟨Nat.le_of_ble_eq_true rfl, by decide, by omega⟩ (kk_z fun r11 h11 q11 => ?_) kx_z
  obtain ⟨rfl, rfl⟩ := q11
  refine mw_top (x' := bz (0 ≤ s ∧ s ≤ ((sg.1 6) - 1))) rfl ?_
  by_cases c14 : (0 ≤ s ∧ s ≤ ((sg.1 6) - 1))
  · refine mw_top (x' := 1) ((bz_t c14).symm) ?_
    refine m_invS (y := yiX1_serviceOf) [(vi 1)] dX1_serviceOf_14 q893 q894 q123 q895 (c_X1_requireIndex_1 K 0 h) pdX1_requireIndex ⟨Nat.le_of_ble_eq_true rfl, by decide, by omega⟩ (kk_v fun h14 q14 => ?_) kx_v
    obtain rfl := q14
    refine m_aload_n (y := yiX1_serviceOf) dX1_serviceOf_17 rfl ?_
    refine m_getfS (y := yiX1_serviceOf) kc_0 3 (by decide) dX1_serviceOf_18 q301 hx rfl ?_
    refine j_iload_n (y := yiX1_serviceOf) dX1_serviceOf_21 rfl ?_
    refine m_invV (y := yiX1_serviceOf) (rB := (RJ2, TJ2, 3)) [(vi s)] dX1_serviceOf_22 hso rfl q1035 q1036 q1037 q126 q1038 rfl (c_J2_get K 2 h _ _ _ _ _ _ _ _ _ (by omega) hso hse ⟨by omega, by omega⟩ ⟨by omega, by omega⟩ (hsf _ (by omega) (by omega))) pdJ2_get ⟨Nat.le_of_ble_eq_true rfl, by decide, by omega⟩ (kk_r fun r22 h22 q22 => ?_) kx_r
    obtain ⟨rfl, rfl⟩ := q22
    refine m_cast (y := yiX1_serviceOf) dX1_serviceOf_25 hbq rfl q808 (Or.inl rfl) ?_
    subst hQ; exact m_aret (y := yiX1_serviceOf) (x := (some (sp s))) dX1_serviceOf_28 rfl (Or.inl ⟨_, rfl⟩) ⟨(sp s), rfl, ⟨rfl, wb, nb, fb, ⟨tg_rs _ _ hb.1, tg_rs _ _ hb.2.1, hb.2.2⟩, hb1, hb2⟩⟩
  · refine mw_top (x' := 0) ((bz_f c14).symm) ?_
    refine m_invS (y := yiX1_serviceOf) [(vi 0)] dX1_serviceOf_14 q893 q894 q123 q895 (c_X1_requireIndex_0 K 6 h (by omega) ⟨by omega, by omega⟩) pdX1_requireIndex ⟨Nat.le_of_ble_eq_true rfl, by decide, by omega⟩ kk_t (kx_t fun q14 h14 x14 => ?_)
    subst hQ; exact mx_ret rfl (absurd hs c14)
theorem c_serviceOf_0 (s : Int) (hd : 7 ≤ d) (hT : TB sg) (hW : World K h z x sg) (i1 : In s) (hs : ¬ (0 ≤ s ∧ s ≤ sg.1 6 - 1)) (hz : h.1 + 1 ≤ kC K ∧ h.2.1 + 6 ≤ kS K) : Mt K yiX1_serviceOf d [.ref x, vi s] h (Rt RJ14 (ThH h)) := by
  have f6 := of6 (hT.1 6)
  have := i1.1; have := i1.2
  have hW0 := hW
  obtain ⟨own, e0, cc, ch, wk, sv, tr, lt, ws, tx, se, te, we, kp, sp, tp, wp, T, hK, hE, hI, hx, hch, hwk, hsv, htr, hlt, hws, htx, hkp, hR0⟩ := hW
  obtain ⟨hx, hxz, -⟩ := tg_at hx
  obtain ⟨hch, hchz, -⟩ := tg_at hch
  have hE1 := hE.1
  obtain ⟨hE2, hE2z, -⟩ := tg_at hE.2
  obtain ⟨k0, k1, k3, k4, k5, k8, k9, k10, k11, k12⟩ := hK
  have hwk := And.intro hwk.1.C hwk.2
  obtain ⟨⟨wsv, caps, mcs, fsv, hso, hse, hsne, hs0, hsw, hscap, hsf, hsno⟩, hss⟩ := hsv
  obtain ⟨hso, hsoz, -⟩ := tg_at hso
  obtain ⟨hse, hsez, -⟩ := tg_at hse
  refine mt_ofQ (by decide) (Nat.le_of_ble_eq_true rfl) (fun Q hQ => ?_)
  show MW K yiX1_serviceOf d h 0 [some (.ref x), some (vi s)] [] Q
  refine mw_wf (fun hwf => ?_)
  have l_hx := hwf _ _ hx
  have l_hso := hwf _ _ hso
  refine j_iload_n (y := yiX1_serviceOf) dX1_serviceOf_0 rfl ?_
  refine j_iconst (y := yiX1_serviceOf) dX1_serviceOf_1 ?_
  refine m_aload_n (y := yiX1_serviceOf) dX1_serviceOf_2 rfl ?_
  refine m_getfS (y := yiX1_serviceOf) kc_0 3 (by decide) dX1_serviceOf_3 q301 hx rfl ?_
  refine m_invV (y := yiX1_serviceOf) (rB := (RJ2, TJ2, 3)) [] dX1_serviceOf_6 hso rfl q333 q334 q335 q126 q336 rfl (c_J2_size K 0 h _ _ _ _ hso) pdJ2_size ⟨Nat.le_of_ble_eq_true rfl, by decide, by omega⟩ (kk_z fun r6 h6 q6 => ?_) kx_z
  obtain ⟨rfl, rfl⟩ := q6
  refine mw_top (x' := sg.1 6) rfl ?_
  refine j_iconst (y := yiX1_serviceOf) dX1_serviceOf_9 ?_
  refine j_isub (y := yiX1_serviceOf) dX1_serviceOf_10 ?_
  refine m_invS (y := yiX1_serviceOf) [(vi s), (vi 0), (vi ((sg.1 6) - 1))] dX1_serviceOf_11 q850 q851 q123 q852 (c_X1_isBetween K 0 h s 0 ((sg.1 6) - 1) ⟨by omega, by omega⟩ ⟨by omega, by omega⟩ ⟨by omega, by omega⟩) pdX1_isBetween ⟨Nat.le_of_ble_eq_true rfl, by decide, by omega⟩ (kk_z fun r11 h11 q11 => ?_) kx_z
  obtain ⟨rfl, rfl⟩ := q11
  refine mw_top (x' := bz (0 ≤ s ∧ s ≤ ((sg.1 6) - 1))) rfl ?_
  by_cases c14 : (0 ≤ s ∧ s ≤ ((sg.1 6) - 1))
  · refine mw_top (x' := 1) ((bz_t c14).symm) ?_
    refine m_invS (y := yiX1_serviceOf) [(vi 1)] dX1_serviceOf_14 q893 q894 q123 q895 (c_X1_requireIndex_1 K 0 h) pdX1_requireIndex ⟨Nat.le_of_ble_eq_true rfl, by decide, by omega⟩ (kk_v fun h14 q14 => ?_) kx_v
    obtain rfl := q14
    exact absurd c14 hs
  · refine mw_top (x' := 0) ((bz_f c14).symm) ?_
    refine m_invS (y := yiX1_serviceOf) [(vi 0)] dX1_serviceOf_14 q893 q894 q123 q895 (c_X1_requireIndex_0 K 6 h (by omega) ⟨by omega, by omega⟩) pdX1_requireIndex ⟨Nat.le_of_ble_eq_true rfl, by decide, by omega⟩ kk_t (kx_t fun q14 h14 x14 => ?_)
    subst hQ; exact mx_ret rfl (⟨q14, rfl, x14⟩)
theorem q_runsOn (s y : Int) (hd : 9 ≤ d) (hT : TB sg) (hW : World K h z x sg) (i1 : In s) (i2 : In y) (hz : h.1 + 1 ≤ kC K ∧ h.2.1 + 6 ≤ kS K) : Mt K yiX1_runsOn d [.ref x, vi s, vi y] h (Rw [RJ14, RJ12] fun th v h' => (¬ (0 ≤ s ∧ s ≤ sg.1 6 - 1) ∧ th = 1 ∧ QFr h h') ∨ ((0 ≤ s ∧ s ≤ sg.1 6 - 1) ∧ ¬ (0 ≤ y ∧ y ≤ 27) ∧ th = 2 ∧ QFr h h') ∨ ((0 ≤ s ∧ s ≤ sg.1 6 - 1) ∧ (0 ≤ y ∧ y ≤ 27) ∧ th = 0 ∧ h' = h ∧ (v = 0 ∨ v = 1) ∧ (v = 1 ↔ sg.2 7 (28 * s + y) ≠ 0))) := by
  have f6 := of6 (hT.1 6)
  have hW9 := hW
  have := i1.1; have := i1.2; have := i2.1; have := i2.2
  have hW0 := hW
  obtain ⟨own, e0, cc, ch, wk, sv, tr, lt, ws, tx, se, te, we, kp, sp, tp, wp, T, hK, hE, hI, hx, hch, hwk, hsv, htr, hlt, hws, htx, hkp, hR0⟩ := hW
  obtain ⟨hx, hxz, -⟩ := tg_at hx
  obtain ⟨hch, hchz, -⟩ := tg_at hch
  have hE1 := hE.1
  obtain ⟨hE2, hE2z, -⟩ := tg_at hE.2
  obtain ⟨k0, k1, k3, k4, k5, k8, k9, k10, k11, k12⟩ := hK
  have hwk := And.intro hwk.1.C hwk.2
  refine mt_ofQ (by decide) (Nat.le_of_ble_eq_true rfl) (fun Q hQ => ?_)
  show MW K yiX1_runsOn d h 0 [some (.ref x), some (vi s), some (vi y), none] [] Q
  refine mw_wf (fun hwf => ?_)
  have l_hx := hwf _ _ hx
  refine m_aload_n (y := yiX1_runsOn) dX1_runsOn_0 rfl ?_
  refine j_iload_n (y := yiX1_runsOn) dX1_runsOn_1 rfl ?_
  by_cases c2 : 0 ≤ s ∧ s ≤ sg.1 6 - 1
  · refine m_invV (y := yiX1_runsOn) (rB := (RX1, TX1, 10)) [(vi s)] dX1_runsOn_2 hx rfl q1031 q1033 qs8 q123 q1034 rfl (c_serviceOf_1 K 3 h z x sg s (by omega) hT hW9 c2) pdX1_serviceOf ⟨Nat.le_of_ble_eq_true rfl, by decide, by omega⟩ (kk_r fun r2 h2 q2 => ?_) kx_r
    obtain ⟨rfl, wb, nb, fb, hb0, hb1, hb2⟩ := q2
    have hb9 : BsA K h r2 wb nb 1 fb := ⟨(rs_at hb0.1).1, (rs_at hb0.2.1).1, hb0.2.2⟩
    have hbq := hb9.1
    have hbq : h.2.2 r2 = some (true, .inr (16, [(.ref wb), (vi nb), (vi 0)])) := hbq
    have l_hbq := hwf _ _ hbq
    refine m_astore_n (y := yiX1_runsOn) dX1_runsOn_5 (by decide) rfl ?_
    show MW K yiX1_runsOn d h 6 [some (.ref x), some (vi s), some (vi y), some (.ref r2)] [] Q
    refine j_iload_n (y := yiX1_runsOn) dX1_runsOn_6 rfl ?_
    refine m_invS (y := yiX1_runsOn) [(vi y)] dX1_runsOn_7 q1049 q1050 q123 q1051 (c_X1_isDay K 1 h y (by omega) ⟨by omega, by omega⟩) pdX1_isDay ⟨Nat.le_of_ble_eq_true rfl, by decide, by omega⟩ (kk_z fun r7 h7 q7 => ?_) kx_z
    obtain ⟨rfl, rfl⟩ := q7
    refine mw_top (x' := bz (0 ≤ y ∧ y ≤ 27)) rfl ?_
    by_cases c10 : (0 ≤ y ∧ y ≤ 27)
    · refine mw_top (x' := 1) ((bz_t c10).symm) ?_
      refine m_invS (y := yiX1_runsOn) [(vi 1)] dX1_runsOn_10 q853 q854 q123 q855 (c_X1_require_1 K 0 h) pdX1_require ⟨Nat.le_of_ble_eq_true rfl, by decide, by omega⟩ (kk_v fun h10 q10 => ?_) kx_v
      obtain rfl := q10
      refine m_aload_n (y := yiX1_runsOn) dX1_runsOn_13 rfl ?_
      refine j_iload_n (y := yiX1_runsOn) dX1_runsOn_14 rfl ?_
      refine m_invV (y := yiX1_runsOn) (rB := (RJ18, TJ18, 3)) [(vi y)] dX1_runsOn_15 hbq rfl q809 q810 q811 q143 q812 rfl (c_J18_get K 1 h r2 wb nb y 1 fb (by omega) k8 hb9 (by omega)) pdJ18_get ⟨Nat.le_of_ble_eq_true rfl, by decide, by omega⟩ (kk_z fun r15 h15 q15 => ?_) kx_z
      obtain ⟨rfl, e1, e2⟩ := q15
      subst hQ; exact j_wzret (y := yiX1_runsOn) dX1_runsOn_18 rfl (by omega) (Or.inr (Or.inr ⟨c2, c10, rfl, rfl, e1, e2.trans (hb1 y (by omega) (by omega))⟩))
    · refine mw_top (x' := 0) ((bz_f c10).symm) ?_
      refine m_invS (y := yiX1_runsOn) [(vi 0)] dX1_runsOn_10 q853 q854 q123 q855 (c_X1_require_0 K 6 h (by omega) ⟨by omega, by omega⟩) pdX1_require ⟨Nat.le_of_ble_eq_true rfl, by decide, by omega⟩ kk_t (kx_t fun q10 h10 x10 => ?_)
      subst hQ; exact mx_ret rfl (Or.inr ⟨1, RJ12, q10, rfl, rfl, fun _ => Or.inr (Or.inl ⟨c2, c10, rfl, QFr.th x10 ⟨by omega, by omega⟩ ⟨by omega, by omega⟩ (fun _ _ => rfl)⟩)⟩)
  · refine m_invV (y := yiX1_runsOn) (rB := (RX1, TX1, 10)) [(vi s)] dX1_runsOn_2 hx rfl q1031 q1033 qs8 q123 q1034 rfl (c_serviceOf_0 K 7 h z x sg s (by omega) hT hW9 i1 c2 ⟨by omega, by omega⟩) pdX1_serviceOf ⟨Nat.le_of_ble_eq_true rfl, by decide, by omega⟩ kk_t (kx_t fun q2 h2 x2 => ?_)
    subst hQ; exact mx_ret rfl (Or.inr ⟨0, RJ14, q2, rfl, rfl, fun _ => Or.inl ⟨c2, rfl, QFr.th x2 ⟨by omega, by omega⟩ ⟨by omega, by omega⟩ (fun _ _ => rfl)⟩⟩)
end GET
