/-! Lastbus: trips, services, lateness asked -/
def TrpZ (K : KT) (h : MH) (z : Nat) (sg : TS) (t : Int) (q : Nat) : Prop := ∃ e0, E0A K (rs 0 z h) e0 ∧ TrpA K (rs 0 z h) e0 (sg.2 9 t) (sg.2 10 t) (trS sg t) (trA sg t) (trD sg t) q
def svOk (sg : TS) : Prop := ∀ t, 0 ≤ t → t < sg.1 8 → 0 ≤ sg.2 9 t ∧ sg.2 9 t < sg.1 6
/-- all calls of all trips -/
def clT (sg : TS) : Nat := smN (fun t => if (t : Int) < sg.1 8 then (sg.2 10 (t : Int)).toNat else 0) 24
/-- what holds of the twin's state between calls -/
def Iv (sg : TS) : Prop := WF sg ∧ clOk sg ∧ svOk sg ∧ WayOk sg ∧ sg.1 5 = -1 ∧ wsOk sg ∧ sg.1 1 + (clT sg : Int) ≤ 23 ∧ (∀ k, 0 ≤ k → k < sg.1 29 → 0 ≤ sg.2 30 k) ∧ ∀ q, 28 * sg.1 6 ≤ q → q < 168 → sg.2 7 q = 0
theorem Iv.cls {sg : TS} (h : Iv sg) : clS sg ≤ 21 ∧ sg.1 1 + (clS sg : Int) ≤ 22 := by
  obtain ⟨hF, hC, -, -, -, -, hb, -⟩ := h
  have f1 := of1 (hF.1.1 1)
  have f8 := of8 (hF.1.1 8)
  by_cases e : 0 < sg.1 8
  · have h1 : clS sg < clT sg := smN_lt (j := 0) (fun k hk => by
      by_cases e9 : (k : Int) < sg.1 8
      · rw [if_pos e9, if_pos e9]; omega
      · rw [if_neg e9, if_neg e9]; exact Nat.le_refl _) (by omega) (by
      have c := hC 0 (by omega) e
      rw [if_pos (show ((0 : Nat) : Int) < sg.1 8 from e), if_pos (show ((0 : Nat) : Int) < sg.1 8 from e)]
      show (sg.2 10 0 - 1).toNat < (sg.2 10 0).toNat
      omega)
    have h2 := hF.2.1 0 0 (by omega) e (by omega) (by have := hC 0 (by omega) e; omega)
    omega
  · have h1 : clS sg ≤ smN (fun _ => 0) 24 := smN_le (fun k hk => by rw [if_neg (by omega)]; exact Nat.le_refl _)
    have h2 : smN (fun _ => 0) 24 = 0 := by decide
    omega
theorem rs_tg0 {K : KT} {own : Nat → Nat} {z : Nat} {h : MH} {e0 : Nat} (hE : E0A K (tg own z 0 h) e0) : E0A K (rs 0 z h) e0 := ⟨hE.1, tg_rs _ _ hE.2⟩
theorem c_X1_tripOf_1 (K : KT) (d : Nat) (h : MH) (z x : Nat) (sg : TS) (i : Int) (hd : 3 ≤ d) (hT : TB sg) (hW : World K h z x sg) (hi : 0 ≤ i ∧ i ≤ sg.1 8 - 1) : Mt K yiX1_tripOf d [.ref x, vi i] h (Rr fun r h' => h = h' ∧ TrpZ K h z sg i r) := by
  have f8 := of8 (hT.1 8)
  have hW0 := hW
  obtain ⟨own, e0, cc, ch, wk, sv, tr, lt, ws, tx, se, te, we, kp, sp, tp, wp, T, hK, hE, hI, hx, hch, hwk, hsv, htr, hlt, hws, htx, hkp, hR0⟩ := hW
  obtain ⟨hx, hxz, -⟩ := tg_at hx
  obtain ⟨hch, hchz, -⟩ := tg_at hch
  have hE1 := hE.1
  obtain ⟨hE2, hE2z, -⟩ := tg_at hE.2
  obtain ⟨k0, k1, k3, k4, k5, k8, k9, k10, k11, k12⟩ := hK
  have hwk := And.intro hwk.1.C hwk.2
  obtain ⟨⟨wt, capt, mct, ft, hto, hte, htne, ht0, htw, htcap, htf, htno⟩, htt⟩ := htr
  obtain ⟨hto, htoz, -⟩ := tg_at hto
  obtain ⟨hte, htez, -⟩ := tg_at hte
  have hti := htt i (by omega) (by omega)
  have htz : TrpZ K h z sg i (tp i) := ⟨e0, rs_tg0 hE, hti.up tg_rs⟩
  obtain ⟨l, e, p, htq, -⟩ := hti
  obtain ⟨htq, htqz, -⟩ := tg_at htq
  refine mt_ofQ (by decide) (Nat.le_of_ble_eq_true rfl) (fun Q hQ => ?_)
  show MW K yiX1_tripOf d h 0 [some (.ref x), some (vi i)] [] Q
  refine mw_wf (fun hwf => ?_)
  have l_hx := hwf _ _ hx
  have l_hto := hwf _ _ hto
  have l_hte := hwf _ _ hte
  have l_htq := hwf _ _ htq
  refine j_iload_n (y := yiX1_tripOf) dX1_tripOf_0 rfl ?_
  refine j_iconst (y := yiX1_tripOf) dX1_tripOf_1 ?_
  refine m_aload_n (y := yiX1_tripOf) dX1_tripOf_2 rfl ?_
  refine m_getfS (y := yiX1_tripOf) kc_0 4 (by decide) dX1_tripOf_3 q302 hx rfl ?_
  refine m_invV (y := yiX1_tripOf) (rB := (RJ2, TJ2, 3)) [] dX1_tripOf_6 hto rfl q333 q334 q335 q126 q336 rfl (c_J2_size K 0 h _ _ _ _ hto) pdJ2_size ⟨Nat.le_of_ble_eq_true rfl, by decide, by omega⟩ (kk_z fun r6 h6 q6 => ?_) kx_z
  obtain ⟨rfl, rfl⟩ := q6
  refine mw_top (x' := sg.1 8) rfl ?_
  refine j_iconst (y := yiX1_tripOf) dX1_tripOf_9 ?_
  refine j_isub (y := yiX1_tripOf) dX1_tripOf_10 ?_
  refine m_invS (y := yiX1_tripOf) [(vi i), (vi 0), (vi ((sg.1 8) - 1))] dX1_tripOf_11 q850 q851 q123 q852 (c_X1_isBetween K 0 h i 0 ((sg.1 8) - 1) ⟨by omega, by omega⟩ ⟨by omega, by omega⟩ ⟨by omega, by omega⟩) pdX1_isBetween ⟨Nat.le_of_ble_eq_true rfl, by decide, by omega⟩ (kk_z fun r11 h11 q11 => ?_) kx_z
  obtain ⟨rfl, rfl⟩ := q11
  refine mw_top (x' := bz (0 ≤ i ∧ i ≤ ((sg.1 8) - 1))) rfl ?_
  by_cases c14 : (0 ≤ i ∧ i ≤ ((sg.1 8) - 1))
  · refine mw_top (x' := 1) ((bz_t c14).symm) ?_
    refine m_invS (y := yiX1_tripOf) [(vi 1)] dX1_tripOf_14 q893 q894 q123 q895 (c_X1_requireIndex_1 K 0 h) pdX1_requireIndex ⟨Nat.le_of_ble_eq_true rfl, by decide, by omega⟩ (kk_v fun h14 q14 => ?_) kx_v
    obtain rfl := q14
    refine m_aload_n (y := yiX1_tripOf) dX1_tripOf_17 rfl ?_
    refine m_getfS (y := yiX1_tripOf) kc_0 4 (by decide) dX1_tripOf_18 q302 hx rfl ?_
    refine j_iload_n (y := yiX1_tripOf) dX1_tripOf_21 rfl ?_
    refine m_invV (y := yiX1_tripOf) (rB := (RJ2, TJ2, 3)) [(vi i)] dX1_tripOf_22 hto rfl q1035 q1036 q1037 q126 q1038 rfl (c_J2_get K 2 h _ _ _ _ _ _ _ _ _ (by omega) hto hte ⟨by omega, by omega⟩ ⟨by omega, by omega⟩ (htf _ (by omega) (by omega))) pdJ2_get ⟨Nat.le_of_ble_eq_true rfl, by decide, by omega⟩ (kk_r fun r22 h22 q22 => ?_) kx_r
    obtain ⟨rfl, rfl⟩ := q22
    refine m_cast (y := yiX1_tripOf) dX1_tripOf_25 htq rfl q794 (Or.inl rfl) ?_
    subst hQ; exact m_aret (y := yiX1_tripOf) (x := (some (tp i))) dX1_tripOf_28 rfl (Or.inl ⟨_, rfl⟩) ⟨(tp i), rfl, ⟨rfl, htz⟩⟩
  · refine mw_top (x' := 0) ((bz_f c14).symm) ?_
    refine m_invS (y := yiX1_tripOf) [(vi 0)] dX1_tripOf_14 q893 q894 q123 q895 (c_X1_requireIndex_0 K 6 h (by omega) ⟨by omega, by omega⟩) pdX1_requireIndex ⟨Nat.le_of_ble_eq_true rfl, by decide, by omega⟩ kk_t (kx_t fun q14 h14 x14 => ?_)
    subst hQ; exact mx_ret rfl (absurd hi c14)
theorem c_X1_tripOf_0 (K : KT) (d : Nat) (h : MH) (z x : Nat) (sg : TS) (i : Int) (hd : 7 ≤ d) (hT : TB sg) (hW : World K h z x sg) (hv : In i) (hi : ¬ (0 ≤ i ∧ i ≤ sg.1 8 - 1)) (hz : h.1 + 1 ≤ kC K ∧ h.2.1 + 6 ≤ kS K) : Mt K yiX1_tripOf d [.ref x, vi i] h (Rt RJ14 (ThH h)) := by
  have f8 := of8 (hT.1 8)
  have := hv.1; have := hv.2
  have hW0 := hW
  obtain ⟨own, e0, cc, ch, wk, sv, tr, lt, ws, tx, se, te, we, kp, sp, tp, wp, T, hK, hE, hI, hx, hch, hwk, hsv, htr, hlt, hws, htx, hkp, hR0⟩ := hW
  obtain ⟨hx, hxz, -⟩ := tg_at hx
  obtain ⟨hch, hchz, -⟩ := tg_at hch
  have hE1 := hE.1
  obtain ⟨hE2, hE2z, -⟩ := tg_at hE.2
  obtain ⟨k0, k1, k3, k4, k5, k8, k9, k10, k11, k12⟩ := hK
  have hwk := And.intro hwk.1.C hwk.2
  obtain ⟨⟨wt, capt, mct, ft, hto, hte, htne, ht0, htw, htcap, htf, htno⟩, htt⟩ := htr
  obtain ⟨hto, htoz, -⟩ := tg_at hto
  obtain ⟨hte, htez, -⟩ := tg_at hte
  refine mt_ofQ (by decide) (Nat.le_of_ble_eq_true rfl) (fun Q hQ => ?_)
  show MW K yiX1_tripOf d h 0 [some (.ref x), some (vi i)] [] Q
  refine mw_wf (fun hwf => ?_)
  have l_hx := hwf _ _ hx
  have l_hto := hwf _ _ hto
  have l_hte := hwf _ _ hte
  refine j_iload_n (y := yiX1_tripOf) dX1_tripOf_0 rfl ?_
  refine j_iconst (y := yiX1_tripOf) dX1_tripOf_1 ?_
  refine m_aload_n (y := yiX1_tripOf) dX1_tripOf_2 rfl ?_
  refine m_getfS (y := yiX1_tripOf) kc_0 4 (by decide) dX1_tripOf_3 q302 hx rfl ?_
  refine m_invV (y := yiX1_tripOf) (rB := (RJ2, TJ2, 3)) [] dX1_tripOf_6 hto rfl q333 q334 q335 q126 q336 rfl (c_J2_size K 0 h _ _ _ _ hto) pdJ2_size ⟨Nat.le_of_ble_eq_true rfl, by decide, by omega⟩ (kk_z fun r6 h6 q6 => ?_) kx_z
  obtain ⟨rfl, rfl⟩ := q6
  refine mw_top (x' := sg.1 8) rfl ?_
  refine j_iconst (y := yiX1_tripOf) dX1_tripOf_9 ?_
  refine j_isub (y := yiX1_tripOf) dX1_tripOf_10 ?_
  refine m_invS (y := yiX1_tripOf) [(vi i), (vi 0), (vi ((sg.1 8) - 1))] dX1_tripOf_11 q850 q851 q123 q852 (c_X1_isBetween K 0 h i 0 ((sg.1 8) - 1) ⟨by omega, by omega⟩ ⟨by omega, by omega⟩ ⟨by omega, by omega⟩) pdX1_isBetween ⟨Nat.le_of_ble_eq_true rfl, by decide, by omega⟩ (kk_z fun r11 h11 q11 => ?_) kx_z
  obtain ⟨rfl, rfl⟩ := q11
  refine mw_top (x' := bz (0 ≤ i ∧ i ≤ ((sg.1 8) - 1))) rfl ?_
  by_cases c14 : (0 ≤ i ∧ i ≤ ((sg.1 8) - 1))
  · refine mw_top (x' := 1) ((bz_t c14).symm) ?_
    refine m_invS (y := yiX1_tripOf) [(vi 1)] dX1_tripOf_14 q893 q894 q123 q895 (c_X1_requireIndex_1 K 0 h) pdX1_requireIndex ⟨Nat.le_of_ble_eq_true rfl, by decide, by omega⟩ (kk_v fun h14 q14 => ?_) kx_v
    obtain rfl := q14
    exact absurd c14 hi
  · refine mw_top (x' := 0) ((bz_f c14).symm) ?_
    refine m_invS (y := yiX1_tripOf) [(vi 0)] dX1_tripOf_14 q893 q894 q123 q895 (c_X1_requireIndex_0 K 6 h (by omega) ⟨by omega, by omega⟩) pdX1_requireIndex ⟨Nat.le_of_ble_eq_true rfl, by decide, by omega⟩ kk_t (kx_t fun q14 h14 x14 => ?_)
    subst hQ; exact mx_ret rfl (⟨q14, rfl, x14⟩)
theorem c_X1_runs (K : KT) (d : Nat) (h : MH) (z x : Nat) (sg : TS) (i y : Int) (hd : 4 ≤ d) (hT : TB sg) (hW : World K h z x sg) (hi : 0 ≤ i ∧ i < sg.1 8) (hsi : 0 ≤ sg.2 9 i ∧ sg.2 9 i < sg.1 6) (hy : In y) : Mt K yiX1_runs d [.ref x, vi i, vi y] h (Rz fun r h' => h = h' ∧ bz ((0 ≤ y ∧ y ≤ 27) ∧ sg.2 7 (28 * sg.2 9 i + y) ≠ 0) = r) := by
  have f8 := of8 (hT.1 8)
  have f6 := of6 (hT.1 6)
  have y1 := hy.1
  have y2 := hy.2
  have hW0 := hW
  obtain ⟨own, e0, cc, ch, wk, sv, tr, lt, ws, tx, se, te, we, kp, sp, tp, wp, T, hK, hE, hI, hx, hch, hwk, hsv, htr, hlt, hws, htx, hkp, hR0⟩ := hW
  obtain ⟨hx, hxz, -⟩ := tg_at hx
  obtain ⟨hch, hchz, -⟩ := tg_at hch
  have hE1 := hE.1
  obtain ⟨hE2, hE2z, -⟩ := tg_at hE.2
  obtain ⟨k0, k1, k3, k4, k5, k8, k9, k10, k11, k12⟩ := hK
  have hwk := And.intro hwk.1.C hwk.2
  obtain ⟨⟨wt, capt, mct, ft, hto, hte, htne, ht0, htw, htcap, htf, htno⟩, htt⟩ := htr
  obtain ⟨hto, htoz, -⟩ := tg_at hto
  obtain ⟨hte, htez, -⟩ := tg_at hte
  obtain ⟨⟨wsv, caps, mcs, fsv, hso, hse, hsne, hs0, hsw, hscap, hsf, hsno⟩, hss⟩ := hsv
  obtain ⟨hso, hsoz, -⟩ := tg_at hso
  obtain ⟨hse, hsez, -⟩ := tg_at hse
  obtain ⟨l, e, p, htq, -⟩ := htt i (by omega) (by omega)
  obtain ⟨htq, htqz, -⟩ := tg_at htq
  obtain ⟨wb, nb, fb, hb, hb1, hb2⟩ := hss (sg.2 9 i) hsi.1 hsi.2
  have hb0 : BsA K h (sp (sg.2 9 i)) wb nb 1 fb := ⟨tg_h _ _ hb.1, tg_h _ _ hb.2.1, hb.2.2⟩
  have hbq := hb0.1
  refine mt_ofQ (by decide) (Nat.le_of_ble_eq_true rfl) (fun Q hQ => ?_)
  show MW K yiX1_runs d h 0 [some (.ref x), some (vi i), some (vi y)] [] Q
  refine mw_wf (fun hwf => ?_)
  have l_hx := hwf _ _ hx
  have l_hto := hwf _ _ hto
  have l_hte := hwf _ _ hte
  have l_hso := hwf _ _ hso
  have l_hse := hwf _ _ hse
  have l_htq := hwf _ _ htq
  have l_hbq := hwf _ _ hbq
  refine j_iload_n (y := yiX1_runs) dX1_runs_0 rfl ?_
  refine m_invS (y := yiX1_runs) [(vi y)] dX1_runs_1 q1049 q1050 q123 q1051 (c_X1_isDay K 1 h y (by omega) ⟨by omega, by omega⟩) pdX1_isDay ⟨Nat.le_of_ble_eq_true rfl, by decide, by omega⟩ (kk_z fun r1 h1 q1 => ?_) kx_z
  obtain ⟨rfl, rfl⟩ := q1
  refine mw_top (x' := bz (0 ≤ y ∧ y ≤ 27)) rfl ?_
  refine j_bz_eq (y := yiX1_runs) 42 dX1_runs_4 (by decide) (fun c4 => ?_) (fun c4 => ?_)
  · refine j_iconst (y := yiX1_runs) dX1_runs_42 ?_
    subst hQ; exact j_zret (y := yiX1_runs) dX1_runs_43 rfl (by omega) (⟨rfl, by { unfold bz; split; { first | rfl | (next h9 => exact absurd h9.1 c4) | (next h9 => exact absurd (e2.mpr (hb3.mpr h9.2)) (by omega)) }; { first | rfl | (next h9 => exact absurd ⟨c4, hb3.mp (e2.mp (by omega))⟩ h9) } }⟩)
  · refine m_aload_n (y := yiX1_runs) dX1_runs_7 rfl ?_
    refine m_getfS (y := yiX1_runs) kc_0 3 (by decide) dX1_runs_8 q301 hx rfl ?_
    refine m_aload_n (y := yiX1_runs) dX1_runs_11 rfl ?_
    refine m_getfS (y := yiX1_runs) kc_0 4 (by decide) dX1_runs_12 q302 hx rfl ?_
    refine j_iload_n (y := yiX1_runs) dX1_runs_15 rfl ?_
    refine m_invV (y := yiX1_runs) (rB := (RJ2, TJ2, 3)) [(vi i)] dX1_runs_16 hto rfl q1035 q1036 q1037 q126 q1038 rfl (c_J2_get K 2 h _ _ _ _ _ _ _ _ _ (by omega) hto hte ⟨by omega, by omega⟩ ⟨by omega, by omega⟩ (htf _ (by omega) (by omega))) pdJ2_get ⟨Nat.le_of_ble_eq_true rfl, by decide, by omega⟩ (kk_r fun r16 h16 q16 => ?_) kx_r
    obtain ⟨rfl, rfl⟩ := q16
    refine m_cast (y := yiX1_runs) dX1_runs_19 htq rfl q794 (Or.inl rfl) ?_
    refine m_getfN (y := yiX1_runs) kc_2 0 (by decide) dX1_runs_22 q1143 htq rfl ?_
    refine m_invV (y := yiX1_runs) (rB := (RJ2, TJ2, 3)) [(vi (sg.2 9 i))] dX1_runs_25 hso rfl q1035 q1036 q1037 q126 q1038 rfl (c_J2_get K 2 h _ _ _ _ _ _ _ _ _ (by omega) hso hse ⟨by omega, by omega⟩ ⟨by omega, by omega⟩ (hsf _ (by omega) (by omega))) pdJ2_get ⟨Nat.le_of_ble_eq_true rfl, by decide, by omega⟩ (kk_r fun r25 h25 q25 => ?_) kx_r
    obtain ⟨rfl, rfl⟩ := q25
    refine m_cast (y := yiX1_runs) dX1_runs_28 hbq rfl q808 (Or.inl rfl) ?_
    refine j_iload_n (y := yiX1_runs) dX1_runs_31 rfl ?_
    refine m_invV (y := yiX1_runs) (rB := (RJ18, TJ18, 3)) [(vi y)] dX1_runs_32 hbq rfl q809 q810 q811 q143 q812 rfl (c_J18_get K 1 h (sp (sg.2 9 i)) wb nb y 1 fb (by omega) k8 hb0 (by omega)) pdJ18_get ⟨Nat.le_of_ble_eq_true rfl, by decide, by omega⟩ (kk_z fun r32 h32 q32 => ?_) kx_z
    obtain ⟨rfl, e1, e2⟩ := q32
    have hb3 := hb1 y (by omega) (by omega)
    refine j_if_eq (y := yiX1_runs) 42 dX1_runs_35 (by decide) ⟨by omega, by omega⟩ (fun c35 => ?_) (fun c35 => ?_)
    · refine j_iconst (y := yiX1_runs) dX1_runs_42 ?_
      subst hQ; exact j_zret (y := yiX1_runs) dX1_runs_43 rfl (by omega) (⟨rfl, by { unfold bz; split; { first | rfl | (next h9 => exact absurd h9.1 c4) | (next h9 => exact absurd (e2.mpr (hb3.mpr h9.2)) (by omega)) }; { first | rfl | (next h9 => exact absurd ⟨c4, hb3.mp (e2.mp (by omega))⟩ h9) } }⟩)
    · refine j_iconst (y := yiX1_runs) dX1_runs_38 ?_
      refine m_goto (y := yiX1_runs) 43 dX1_runs_39 (by decide) ?_
      subst hQ; exact j_zret (y := yiX1_runs) dX1_runs_43 rfl (by omega) (⟨rfl, by { unfold bz; split; { first | rfl | (next h9 => exact absurd h9.1 c4) | (next h9 => exact absurd (e2.mpr (hb3.mpr h9.2)) (by omega)) }; { first | rfl | (next h9 => exact absurd ⟨c4, hb3.mp (e2.mp (by omega))⟩ h9) } }⟩)
theorem latAt_in {ld lt : Int → Int} {y t : Int} (n : Nat) : (latAt ld lt y t n = -1 ∧ ∀ i : Int, 0 ≤ i → i < n → ¬ (ld i = y ∧ lt i = t)) ∨ (0 ≤ latAt ld lt y t n ∧ latAt ld lt y t n < n ∧ ld (latAt ld lt y t n) = y ∧ lt (latAt ld lt y t n) = t) := by
  induction n with
  | zero => exact Or.inl ⟨rfl, fun i a b => by omega⟩
  | succ k ih =>
    unfold latAt
    by_cases e : ld (k : Int) = y ∧ lt (k : Int) = t
    · rw [if_pos e]; exact Or.inr ⟨by omega, by omega, e⟩
    · rw [if_neg e]
      rcases ih with ⟨h1, h2⟩ | ⟨h1, h2, h3⟩
      · refine Or.inl ⟨h1, fun i a b => ?_⟩
        by_cases e2 : i = (k : Int)
        · rw [e2]; exact e
        · exact h2 i a (by omega)
      · exact Or.inr ⟨h1, by omega, h3⟩
abbrev latI (sg : TS) (y t : Int) : Int := latAt (sg.2 15) (sg.2 16) y t (sg.1 14).toNat
/-- what lateOf answers -/
def LatR (h' : MH) (z : Nat) (sg : TS) (y t : Int) (r : Option Nat) : Prop := (latI sg y t = -1 ∧ r = none) ∨ ∃ q, r = some q ∧ q < z ∧ (0 ≤ latI sg y t ∧ latI sg y t < sg.1 14) ∧ h'.2.2 q = some (true, .inr (6, [vi (sg.2 17 (latI sg y t)), vi (sg.2 18 (latI sg y t))]))
theorem m_castq {K : KT} {y : YT} {d : Nat} {h : MH} {pc : Nat} {ls : List (Option Value)} {st : List Value} {Q : OT → MH → Prop} {x : Option Nat} {ci : Nat} {r : vw_C} {nm : String} {index : Nat} (hdg : decode y.2.1 pc = .ok (.checkcast index, 3)) (hr : mcl[ci]? = some r) (hw : Cond.classLink y.1.cls index nm ∈ lw_all) (hca : nm = r.1 ∨ Cond.castable r.1 nm ∈ lw_tbl) (hx : ∀ a, x = some a → ∃ w fs, h.2.2 a = some (w, .inr (ci, fs))) (kk : MW K y d h (pc + 3) ls (va_rf x :: st) Q) : MW K y d h pc ls (va_rf x :: st) Q := by
  cases x with
  | none => exact m_castN hdg kk
  | some a =>
    obtain ⟨w, fs, ha⟩ := hx a rfl
    exact m_cast hdg ha hr hw hca kk
theorem IgA.up {h h' : MH} {q : Nat} {i : Int} (e1 : ∀ b c, h.2.2 b = some c → h'.2.2 b = some c) (H : IgA h q i) : IgA h' q i := by
  obtain ⟨w, hq⟩ := H; exact ⟨w, e1 _ _ hq⟩
theorem TmC.up {h h' : MH} {m : Nat} {L : List Nat} {ko : Nat → Nat} {vl lf rt pa : Nat → Option Nat} {co : Nat → Int} {root : Option Nat} {mc : Int} (e1 : ∀ b c, h.2.2 b = some c → h'.2.2 b = some c) (H : TmC h m L ko vl lf rt pa co root mc) : TmC h' m L ko vl lf rt pa co root mc := ⟨e1 _ _ H.1, fun a ha => e1 _ _ (H.2 a ha)⟩
theorem TmK.up {h h' : MH} {L : List Nat} {ko : Nat → Nat} {key : Nat → Int} (e1 : ∀ b c, h.2.2 b = some c → h'.2.2 b = some c) (H : TmK h L ko key) : TmK h' L ko key := fun a ha => (H a ha).up e1
theorem ICa.up {K : KT} {h h' : MH} {cc : Nat} (e1 : ∀ b c, h.2.2 b = some c → h'.2.2 b = some c) (H : ICa K h cc) : ICa K h' cc := by
  obtain ⟨n, f, h1, h2, h3⟩ := H
  exact ⟨n, f, e1 _ _ h1, h2, fun i a b => by obtain ⟨q, u, w, v⟩ := h3 i a b; exact ⟨q, u, w, e1 _ _ v⟩⟩
theorem c_X1_lateOf (K : KT) (d : Nat) (h : MH) (z x : Nat) (sg : TS) (y t : Int) (hd : 5 ≤ d) (hT : TB sg) (hW : World K h z x sg) (hz1 : z ≤ h.1) (hy : 0 ≤ y ∧ y ≤ 27) (ht : 0 ≤ t ∧ t < 24) (hz : h.1 + 1 ≤ kC K ∧ h.2.1 + 1 ≤ kS K) : Mt K yiX1_lateOf d [.ref x, vi y, vi t] h (Rq fun r h' => LatR h' z sg y t r ∧ (h.1 ≤ h'.1 ∧ h'.1 ≤ h.1 + 1) ∧ (h.2.1 ≤ h'.2.1 ∧ h'.2.1 ≤ h.2.1 + 1) ∧ ∀ b, b < h.1 → h'.2.2 b = h.2.2 b) := by
  have f14 := of14 (hT.1 14)
  have hW0 := hW
  obtain ⟨own, e0, cc, ch, wk, sv, tr, lt, ws, tx, se, te, we, kp, sp, tp, wp, T, hK, hE, hI, hx, hch, hwk, hsv, htr, hlt, hws, htx, hkp, hR0⟩ := hW
  obtain ⟨hx, hxz, -⟩ := tg_at hx
  obtain ⟨hch, hchz, -⟩ := tg_at hch
  have hE1 := hE.1
  obtain ⟨hE2, hE2z, -⟩ := tg_at hE.2
  obtain ⟨k0, k1, k3, k4, k5, k8, k9, k10, k11, k12⟩ := hK
  have hwk := And.intro hwk.1.C hwk.2
  obtain ⟨L, ko, key, vl, lf, rt, pa, co, lo, hi, root, mc, hF9, hKk, hS9, hLn, hv, hi1, hu⟩ := hlt
  have hC := hF9.C
  have hS := hS9.1.1
  obtain ⟨hm, hmz, -⟩ := tg_at hC.1
  have hat : ∀ i, 0 ≤ i → i < sg.1 14 → 24 * sg.2 15 i + sg.2 16 i = 24 * y + t → i = latI sg y t := fun i i0 i1 e => by
    have b1 := oa16 (hT.2 16) i i0 (by omega)
    rcases latAt_in (ld := sg.2 15) (lt := sg.2 16) (y := y) (t := t) (sg.1 14).toNat with ⟨e1, e2⟩ | ⟨e1, e2, e3, e4⟩
    · exact absurd ⟨by omega, by omega⟩ (e2 i i0 (by omega))
    · exact hu i _ i0 i1 e1 (show latAt (sg.2 15) (sg.2 16) y t (sg.1 14).toNat < sg.1 14 by omega) (by rw [e3, e4]; exact e)
  have hno : latI sg y t ≠ -1 → (0 ≤ latI sg y t ∧ latI sg y t < sg.1 14) ∧ 24 * sg.2 15 (latI sg y t) + sg.2 16 (latI sg y t) = 24 * y + t := fun e => by
    rcases latAt_in (ld := sg.2 15) (lt := sg.2 16) (y := y) (t := t) (sg.1 14).toNat with ⟨e1, e2⟩ | ⟨e1, e2, e3, e4⟩
    · exact absurd e1 e
    · exact ⟨⟨e1, show latAt (sg.2 15) (sg.2 16) y t (sg.1 14).toNat < sg.1 14 by omega⟩, by rw [e3, e4]⟩
  refine mt_ofQ (by decide) (Nat.le_of_ble_eq_true rfl) (fun Q hQ => ?_)
  show MW K yiX1_lateOf d h 0 [some (.ref x), some (vi y), some (vi t)] [] Q
  refine mw_wf (fun hwf => ?_)
  have l_hx := hwf _ _ hx
  have l_hm := hwf _ _ hm
  have fR : ∀ b, (b < h.1) → h.2.2 b = h.2.2 b := fun _ _ => rfl
  refine m_aload_n (y := yiX1_lateOf) dX1_lateOf_0 rfl ?_
  refine m_getfS (y := yiX1_lateOf) kc_0 5 (by decide) dX1_lateOf_1 q303 hx rfl ?_
  refine j_bipush (y := yiX1_lateOf) dX1_lateOf_4 (by decide) ?_
  refine j_iload_n (y := yiX1_lateOf) dX1_lateOf_6 rfl ?_
  refine j_imul (y := yiX1_lateOf) dX1_lateOf_7 ?_
  refine j_iload_n (y := yiX1_lateOf) dX1_lateOf_8 rfl ?_
  refine j_iadd (y := yiX1_lateOf) dX1_lateOf_9 ?_
  refine m_invS (y := yiX1_lateOf) [(vi ((24 * y) + t))] dX1_lateOf_10 q1493 q1379 q151 q1380 (c_J25_valueOf K 4 h cc _ (by omega) k9 k10 (hI.up tg_h) ⟨by omega, by omega⟩ ⟨by omega, by omega⟩) pdJ25_valueOf ⟨Nat.le_of_ble_eq_true rfl, by decide, by omega⟩ (kk_r fun r10 h10 q10 => ?_) kx_r
  obtain ⟨q1, q2, q3, q4, q5, q6⟩ := q10
  have hx : h10.2.2 x = some (true, .inr (0, [(.ref ch), (.ref wk), (vi (sg.1 1)), (.ref sv), (.ref tr), (.ref lt), (.ref ws), (.ref tx), (vi (sg.1 21)), (va_rf kp)])) := (q5 _ (by omega)).trans hx
  have hm : h10.2.2 lt = some (true, .inr (17, [.null, .null, .null, (va_rf root), (vi (L.length : Int)), (vi mc), .null, .null, .null])) := (q5 _ (by omega)).trans hm
  have fR : ∀ b, (b < h.1) → h10.2.2 b = h.2.2 b := fun b hb => (q5 b (by omega)).trans (fR b hb)
  refine mw_wf (fun hwf10 => ?_)
  have hup : ∀ b c, (tg own z 6 h).2.2 b = some c → h10.2.2 b = some c := fun b c e => by { have u := tg_at e; exact (q5 b (by omega)).trans u.1 }
  obtain ⟨wr, q1'⟩ := q1
  have q1' : h10.2.2 r10 = some (wr, .inr (22, [(vi ((24 * y) + t))])) := q1'
  have l_q1' := hwf10 _ _ q1'
  refine m_invV (y := yiX1_lateOf) (rB := (RJ4, TJ4, 9)) [(.ref r10)] dX1_lateOf_13 hm rfl q1494 q1495 q1496 q128 q1497 rfl (c_J4_get K 4 h10 lt r10 L ko key vl lf rt pa co lo hi root mc (-1) 1000 _ (by omega) (hC.up hup) (hKk.up hup) hS ⟨by omega, by omega⟩ ⟨wr, q1'⟩ ⟨by omega, by omega⟩) pdJ4_get ⟨Nat.le_of_ble_eq_true rfl, by decide, by omega⟩ (kk_q fun r13 h13 q13 => ?_) kx_q
  obtain ⟨rfl, e13⟩ := q13
  have hcell : ∀ a, r13 = some a → a < z ∧ (0 ≤ latI sg y t ∧ latI sg y t < sg.1 14) ∧ h10.2.2 a = some (true, .inr (6, [vi (sg.2 17 (latI sg y t)), vi (sg.2 18 (latI sg y t))])) := fun a ha => by { rcases e13 with ⟨a', u1, u2, u3⟩ | ⟨u1, -⟩; { obtain ⟨q, i, v1, v2, v3, v4⟩ := hv a' u2; have w1 : q = a := by { rw [u1, v1] at ha; exact Option.some.inj ha }; subst w1; have w2 := hat i v2.1 v2.2 (by omega); subst w2; have w3 := tg_at v4; exact ⟨w3.2.1, v2, hup _ _ v4⟩ }; { rw [u1] at ha; cases ha } }
  refine m_castq (y := yiX1_lateOf) (ci := 6) dX1_lateOf_16 rfl q1731 (Or.inl rfl) (fun a ha => ⟨_, _, (hcell a ha).2.2⟩) ?_
  subst hQ; exact m_aret (y := yiX1_lateOf) (x := r13) dX1_lateOf_19 rfl (Or.inl ⟨_, rfl⟩) ⟨r13, rfl, ⟨by { cases hr : r13 with | none => (rcases e13 with ⟨a', u1, u2, u3⟩ | ⟨u1, u2⟩; { obtain ⟨q, i, v1, v2⟩ := hv a' u2; rw [hr, v1] at u1; cases u1 }; { refine Or.inl ⟨?_, rfl⟩; exact Classical.byContradiction (fun h9 => by { have w := hno h9; obtain ⟨a, w1, w2⟩ := hi1 _ w.1.1 w.1.2; exact u2 a w1 (by omega) }) }) | some a => exact Or.inr ⟨a, rfl, hcell a hr⟩ }, q2, q3, fR⟩⟩
