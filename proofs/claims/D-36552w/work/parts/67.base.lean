/-! Lastbus: refusals and small questions -/
theorem c_X1_isBetween (K : KT) (d : Nat) (h : MH) (v lo hi : Int) (hv : In v) (hl : In lo) (hh : In hi) : Mt K yiX1_isBetween d [vi v, vi lo, vi hi] h (Rz fun r h' => h = h' ∧ bz (lo ≤ v ∧ v ≤ hi) = r) := by
  have := hv.1; have := hv.2; have := hl.1; have := hl.2; have := hh.1; have := hh.2
  refine mt_ofQ (by decide) (Nat.le_of_ble_eq_true rfl) (fun Q hQ => ?_)
  show MW K yiX1_isBetween d h 0 [some (vi v), some (vi lo), some (vi hi)] [] Q
  refine mw_wf (fun hwf => ?_)
  refine j_iload_n (y := yiX1_isBetween) dX1_isBetween_0 rfl ?_
  refine j_iload_n (y := yiX1_isBetween) dX1_isBetween_1 rfl ?_
  refine j_icmp_lt (y := yiX1_isBetween) 14 dX1_isBetween_2 (by decide) ⟨⟨by omega, by omega⟩, ⟨by omega, by omega⟩⟩ (fun c2 => ?_) (fun c2 => ?_)
  · refine j_iconst (y := yiX1_isBetween) dX1_isBetween_14 ?_
    subst hQ; exact j_zret (y := yiX1_isBetween) dX1_isBetween_15 rfl (by omega) (⟨rfl, by { unfold bz; split <;> omega }⟩)
  · refine j_iload_n (y := yiX1_isBetween) dX1_isBetween_5 rfl ?_
    refine j_iload_n (y := yiX1_isBetween) dX1_isBetween_6 rfl ?_
    refine j_icmp_gt (y := yiX1_isBetween) 14 dX1_isBetween_7 (by decide) ⟨⟨by omega, by omega⟩, ⟨by omega, by omega⟩⟩ (fun c7 => ?_) (fun c7 => ?_)
    · refine j_iconst (y := yiX1_isBetween) dX1_isBetween_14 ?_
      subst hQ; exact j_zret (y := yiX1_isBetween) dX1_isBetween_15 rfl (by omega) (⟨rfl, by { unfold bz; split <;> omega }⟩)
    · refine j_iconst (y := yiX1_isBetween) dX1_isBetween_10 ?_
      refine m_goto (y := yiX1_isBetween) 15 dX1_isBetween_11 (by decide) ?_
      subst hQ; exact j_zret (y := yiX1_isBetween) dX1_isBetween_15 rfl (by omega) (⟨rfl, by { unfold bz; split <;> omega }⟩)
theorem c_X1_require_1 (K : KT) (d : Nat) (h : MH) : Mt K yiX1_require d [vi 1] h (Rv fun h' => h = h') := by
  refine mt_ofQ (by decide) (Nat.le_of_ble_eq_true rfl) (fun Q hQ => ?_)
  show MW K yiX1_require d h 0 [some (vi 1)] [] Q
  refine mw_wf (fun hwf => ?_)
  refine j_iload_n (y := yiX1_require) dX1_require_0 rfl ?_
  refine j_if_ne (y := yiX1_require) 12 dX1_require_1 (by decide) ⟨by decide, by decide⟩ (fun _ => ?_) (fun c => absurd c (by decide))
  subst hQ; exact j_vret (y := yiX1_require) dX1_require_12 rfl rfl
theorem c_X1_require_0 (K : KT) (d : Nat) (h : MH) (hd : 6 ≤ d) (hz : h.1 + 1 ≤ kC K ∧ h.2.1 + 6 ≤ kS K) : Mt K yiX1_require d [vi 0] h (Rt RJ12 (ThH h)) := by
  refine mt_ofQ (by decide) (Nat.le_of_ble_eq_true rfl) (fun Q hQ => ?_)
  show MW K yiX1_require d h 0 [some (vi 0)] [] Q
  refine mw_wf (fun hwf => ?_)
  refine j_iload_n (y := yiX1_require) dX1_require_0 rfl ?_
  refine j_if_ne (y := yiX1_require) 12 dX1_require_1 (by decide) ⟨by decide, by decide⟩ (fun c => absurd c (by decide)) (fun _ => ?_)
  refine m_throw0 (y := yiX1_require) (E := RJ12) (names := [RJ11, RJ10]) dX1_require_4 dX1_require_7 dX1_require_8 dX1_require_11 (by decide) (by decide) q856 q137 atJ12 (fun x hx => nomatch hx) ⟨Nat.le_of_ble_eq_true rfl, by omega, by omega, by omega⟩ (fun nT uT t1 t2 t3 t4 => ?_)
  subst hQ; exact ⟨h.1, rfl, ⟨⟨t1, t2⟩, ⟨t3, t4⟩, rfl⟩⟩
theorem c_X1_requireState_1 (K : KT) (d : Nat) (h : MH) : Mt K yiX1_requireState d [vi 1] h (Rv fun h' => h = h') := by
  refine mt_ofQ (by decide) (Nat.le_of_ble_eq_true rfl) (fun Q hQ => ?_)
  show MW K yiX1_requireState d h 0 [some (vi 1)] [] Q
  refine mw_wf (fun hwf => ?_)
  refine j_iload_n (y := yiX1_requireState) dX1_requireState_0 rfl ?_
  refine j_if_ne (y := yiX1_requireState) 12 dX1_requireState_1 (by decide) ⟨by decide, by decide⟩ (fun _ => ?_) (fun c => absurd c (by decide))
  subst hQ; exact j_vret (y := yiX1_requireState) dX1_requireState_12 rfl rfl
theorem c_X1_requireState_0 (K : KT) (d : Nat) (h : MH) (hd : 6 ≤ d) (hz : h.1 + 1 ≤ kC K ∧ h.2.1 + 6 ≤ kS K) : Mt K yiX1_requireState d [vi 0] h (Rt RJ13 (ThH h)) := by
  refine mt_ofQ (by decide) (Nat.le_of_ble_eq_true rfl) (fun Q hQ => ?_)
  show MW K yiX1_requireState d h 0 [some (vi 0)] [] Q
  refine mw_wf (fun hwf => ?_)
  refine j_iload_n (y := yiX1_requireState) dX1_requireState_0 rfl ?_
  refine j_if_ne (y := yiX1_requireState) 12 dX1_requireState_1 (by decide) ⟨by decide, by decide⟩ (fun c => absurd c (by decide)) (fun _ => ?_)
  refine m_throw0 (y := yiX1_requireState) (E := RJ13) (names := [RJ11, RJ10]) dX1_requireState_4 dX1_requireState_7 dX1_requireState_8 dX1_requireState_11 (by decide) (by decide) q864 q138 atJ13 (fun x hx => nomatch hx) ⟨Nat.le_of_ble_eq_true rfl, by omega, by omega, by omega⟩ (fun nT uT t1 t2 t3 t4 => ?_)
  subst hQ; exact ⟨h.1, rfl, ⟨⟨t1, t2⟩, ⟨t3, t4⟩, rfl⟩⟩
theorem c_X1_requireThere_1 (K : KT) (d : Nat) (h : MH) : Mt K yiX1_requireThere d [vi 1] h (Rv fun h' => h = h') := by
  refine mt_ofQ (by decide) (Nat.le_of_ble_eq_true rfl) (fun Q hQ => ?_)
  show MW K yiX1_requireThere d h 0 [some (vi 1)] [] Q
  refine mw_wf (fun hwf => ?_)
  refine j_iload_n (y := yiX1_requireThere) dX1_requireThere_0 rfl ?_
  refine j_if_ne (y := yiX1_requireThere) 12 dX1_requireThere_1 (by decide) ⟨by decide, by decide⟩ (fun _ => ?_) (fun c => absurd c (by decide))
  subst hQ; exact j_vret (y := yiX1_requireThere) dX1_requireThere_12 rfl rfl
theorem c_X1_requireThere_0 (K : KT) (d : Nat) (h : MH) (hd : 6 ≤ d) (hz : h.1 + 1 ≤ kC K ∧ h.2.1 + 6 ≤ kS K) : Mt K yiX1_requireThere d [vi 0] h (Rt RJ17 (ThH h)) := by
  refine mt_ofQ (by decide) (Nat.le_of_ble_eq_true rfl) (fun Q hQ => ?_)
  show MW K yiX1_requireThere d h 0 [some (vi 0)] [] Q
  refine mw_wf (fun hwf => ?_)
  refine j_iload_n (y := yiX1_requireThere) dX1_requireThere_0 rfl ?_
  refine j_if_ne (y := yiX1_requireThere) 12 dX1_requireThere_1 (by decide) ⟨by decide, by decide⟩ (fun c => absurd c (by decide)) (fun _ => ?_)
  refine m_throw0 (y := yiX1_requireThere) (E := RJ17) (names := [RJ11, RJ10]) dX1_requireThere_4 dX1_requireThere_7 dX1_requireThere_8 dX1_requireThere_11 (by decide) (by decide) q925 q142 atJ17 (fun x hx => nomatch hx) ⟨Nat.le_of_ble_eq_true rfl, by omega, by omega, by omega⟩ (fun nT uT t1 t2 t3 t4 => ?_)
  subst hQ; exact ⟨h.1, rfl, ⟨⟨t1, t2⟩, ⟨t3, t4⟩, rfl⟩⟩
theorem c_X1_requireIndex_1 (K : KT) (d : Nat) (h : MH) : Mt K yiX1_requireIndex d [vi 1] h (Rv fun h' => h = h') := by
  refine mt_ofQ (by decide) (Nat.le_of_ble_eq_true rfl) (fun Q hQ => ?_)
  show MW K yiX1_requireIndex d h 0 [some (vi 1)] [] Q
  refine mw_wf (fun hwf => ?_)
  refine j_iload_n (y := yiX1_requireIndex) dX1_requireIndex_0 rfl ?_
  refine j_if_ne (y := yiX1_requireIndex) 12 dX1_requireIndex_1 (by decide) ⟨by decide, by decide⟩ (fun _ => ?_) (fun c => absurd c (by decide))
  subst hQ; exact j_vret (y := yiX1_requireIndex) dX1_requireIndex_12 rfl rfl
theorem c_X1_requireIndex_0 (K : KT) (d : Nat) (h : MH) (hd : 6 ≤ d) (hz : h.1 + 1 ≤ kC K ∧ h.2.1 + 6 ≤ kS K) : Mt K yiX1_requireIndex d [vi 0] h (Rt RJ14 (ThH h)) := by
  refine mt_ofQ (by decide) (Nat.le_of_ble_eq_true rfl) (fun Q hQ => ?_)
  show MW K yiX1_requireIndex d h 0 [some (vi 0)] [] Q
  refine mw_wf (fun hwf => ?_)
  refine j_iload_n (y := yiX1_requireIndex) dX1_requireIndex_0 rfl ?_
  refine j_if_ne (y := yiX1_requireIndex) 12 dX1_requireIndex_1 (by decide) ⟨by decide, by decide⟩ (fun c => absurd c (by decide)) (fun _ => ?_)
  refine m_throw0 (y := yiX1_requireIndex) (E := RJ14) (names := [RJ11, RJ10]) dX1_requireIndex_4 dX1_requireIndex_7 dX1_requireIndex_8 dX1_requireIndex_11 (by decide) (by decide) q896 q139 atJ14 (fun x hx => nomatch hx) ⟨Nat.le_of_ble_eq_true rfl, by omega, by omega, by omega⟩ (fun nT uT t1 t2 t3 t4 => ?_)
  subst hQ; exact ⟨h.1, rfl, ⟨⟨t1, t2⟩, ⟨t3, t4⟩, rfl⟩⟩
theorem c_X1_requireSupported_1 (K : KT) (d : Nat) (h : MH) : Mt K yiX1_requireSupported d [vi 1] h (Rv fun h' => h = h') := by
  refine mt_ofQ (by decide) (Nat.le_of_ble_eq_true rfl) (fun Q hQ => ?_)
  show MW K yiX1_requireSupported d h 0 [some (vi 1)] [] Q
  refine mw_wf (fun hwf => ?_)
  refine j_iload_n (y := yiX1_requireSupported) dX1_requireSupported_0 rfl ?_
  refine j_if_ne (y := yiX1_requireSupported) 12 dX1_requireSupported_1 (by decide) ⟨by decide, by decide⟩ (fun _ => ?_) (fun c => absurd c (by decide))
  subst hQ; exact j_vret (y := yiX1_requireSupported) dX1_requireSupported_12 rfl rfl
theorem c_X1_requireSupported_0 (K : KT) (d : Nat) (h : MH) (hd : 6 ≤ d) (hz : h.1 + 1 ≤ kC K ∧ h.2.1 + 6 ≤ kS K) : Mt K yiX1_requireSupported d [vi 0] h (Rt RJ31 (ThH h)) := by
  refine mt_ofQ (by decide) (Nat.le_of_ble_eq_true rfl) (fun Q hQ => ?_)
  show MW K yiX1_requireSupported d h 0 [some (vi 0)] [] Q
  refine mw_wf (fun hwf => ?_)
  refine j_iload_n (y := yiX1_requireSupported) dX1_requireSupported_0 rfl ?_
  refine j_if_ne (y := yiX1_requireSupported) 12 dX1_requireSupported_1 (by decide) ⟨by decide, by decide⟩ (fun c => absurd c (by decide)) (fun _ => ?_)
  refine m_throw0 (y := yiX1_requireSupported) (E := RJ31) (names := [RJ11, RJ10]) dX1_requireSupported_4 dX1_requireSupported_7 dX1_requireSupported_8 dX1_requireSupported_11 (by decide) (by decide) q1452 q162 atJ31 (fun x hx => nomatch hx) ⟨Nat.le_of_ble_eq_true rfl, by omega, by omega, by omega⟩ (fun nT uT t1 t2 t3 t4 => ?_)
  subst hQ; exact ⟨h.1, rfl, ⟨⟨t1, t2⟩, ⟨t3, t4⟩, rfl⟩⟩
theorem c_X1_isDay (K : KT) (d : Nat) (h : MH) (v : Int) (hd : 1 ≤ d) (hv : In v) : Mt K yiX1_isDay d [vi v] h (Rz fun r h' => h = h' ∧ bz (0 ≤ v ∧ v ≤ 27) = r) := by
  have := hv.1; have := hv.2
  refine mt_ofQ (by decide) (Nat.le_of_ble_eq_true rfl) (fun Q hQ => ?_)
  show MW K yiX1_isDay d h 0 [some (vi v)] [] Q
  refine mw_wf (fun hwf => ?_)
  refine j_iload_n (y := yiX1_isDay) dX1_isDay_0 rfl ?_
  refine j_iconst (y := yiX1_isDay) dX1_isDay_1 ?_
  refine j_bipush (y := yiX1_isDay) dX1_isDay_2 (by decide) ?_
  refine m_invS (y := yiX1_isDay) [(vi v), (vi 0), (vi 27)] dX1_isDay_4 q850 q851 q123 q852 (c_X1_isBetween K 0 h v 0 27 ⟨by omega, by omega⟩ ⟨by omega, by omega⟩ ⟨by omega, by omega⟩) pdX1_isBetween ⟨Nat.le_of_ble_eq_true rfl, by decide, by omega⟩ (kk_z fun r4 h4 q4 => ?_) kx_z
  obtain ⟨rfl, rfl⟩ := q4
  refine mw_top (x' := bz (0 ≤ v ∧ v ≤ 27)) rfl ?_
  subst hQ; exact j_zret (y := yiX1_isDay) dX1_isDay_7 rfl (bz01 _) (⟨rfl, rfl⟩)
theorem c_X1_isTime (K : KT) (d : Nat) (h : MH) (v : Int) (hd : 1 ≤ d) (hv : In v) : Mt K yiX1_isTime d [vi v] h (Rz fun r h' => h = h' ∧ bz (0 ≤ v ∧ v ≤ 2879) = r) := by
  have := hv.1; have := hv.2
  refine mt_ofQ (by decide) (Nat.le_of_ble_eq_true rfl) (fun Q hQ => ?_)
  show MW K yiX1_isTime d h 0 [some (vi v)] [] Q
  refine mw_wf (fun hwf => ?_)
  refine j_iload_n (y := yiX1_isTime) dX1_isTime_0 rfl ?_
  refine j_iconst (y := yiX1_isTime) dX1_isTime_1 ?_
  refine j_sipush (y := yiX1_isTime) dX1_isTime_2 (by decide) ?_
  refine m_invS (y := yiX1_isTime) [(vi v), (vi 0), (vi 2879)] dX1_isTime_5 q850 q851 q123 q852 (c_X1_isBetween K 0 h v 0 2879 ⟨by omega, by omega⟩ ⟨by omega, by omega⟩ ⟨by omega, by omega⟩) pdX1_isBetween ⟨Nat.le_of_ble_eq_true rfl, by decide, by omega⟩ (kk_z fun r5 h5 q5 => ?_) kx_z
  obtain ⟨rfl, rfl⟩ := q5
  refine mw_top (x' := bz (0 ≤ v ∧ v ≤ 2879)) rfl ?_
  subst hQ; exact j_zret (y := yiX1_isTime) dX1_isTime_8 rfl (bz01 _) (⟨rfl, rfl⟩)
theorem c_X1_isStop {K : KT} {d : Nat} {h : MH} {x ch wk sv tr lt ws tx : Nat} {n fl : Int} {kp : Value} (v : Int) (hd : 1 ≤ d) (hx : h.2.2 x = some (true, .inr (0, [.ref ch, .ref wk, vi n, .ref sv, .ref tr, .ref lt, .ref ws, .ref tx, vi fl, kp]))) (hn : 0 ≤ n ∧ n ≤ 12) (hv : In v) : Mt K yiX1_isStop d [.ref x, vi v] h (Rz fun r h' => h = h' ∧ bz (0 ≤ v ∧ v ≤ n - 1) = r) := by
  have := hv.1; have := hv.2
  refine mt_ofQ (by decide) (Nat.le_of_ble_eq_true rfl) (fun Q hQ => ?_)
  show MW K yiX1_isStop d h 0 [some (.ref x), some (vi v)] [] Q
  refine mw_wf (fun hwf => ?_)
  have l_hx := hwf _ _ hx
  refine j_iload_n (y := yiX1_isStop) dX1_isStop_0 rfl ?_
  refine j_iconst (y := yiX1_isStop) dX1_isStop_1 ?_
  refine m_aload_n (y := yiX1_isStop) dX1_isStop_2 rfl ?_
  refine m_getfS (y := yiX1_isStop) kc_0 2 (by decide) dX1_isStop_3 q300 hx rfl ?_
  refine j_iconst (y := yiX1_isStop) dX1_isStop_6 ?_
  refine j_isub (y := yiX1_isStop) dX1_isStop_7 ?_
  refine m_invS (y := yiX1_isStop) [(vi v), (vi 0), (vi (n - 1))] dX1_isStop_8 q850 q851 q123 q852 (c_X1_isBetween K 0 h v 0 (n - 1) ⟨by omega, by omega⟩ ⟨by omega, by omega⟩ ⟨by omega, by omega⟩) pdX1_isBetween ⟨Nat.le_of_ble_eq_true rfl, by decide, by omega⟩ (kk_z fun r8 h8 q8 => ?_) kx_z
  obtain ⟨rfl, rfl⟩ := q8
  refine mw_top (x' := bz (0 ≤ v ∧ v ≤ (n - 1))) rfl ?_
  subst hQ; exact j_zret (y := yiX1_isStop) dX1_isStop_11 rfl (bz01 _) (⟨rfl, rfl⟩)
theorem c_X1_told_1 (K : KT) (d : Nat) (h : MH) (v : Int) (hd : 1 ≤ d) (hv : In v) (hl : v < 1000000) : Mt K yiX1_told d [vi v] h (Rz fun r h' => h = h' ∧ v = r) := by
  have := hv.1; have := hv.2
  refine mt_ofQ (by decide) (Nat.le_of_ble_eq_true rfl) (fun Q hQ => ?_)
  show MW K yiX1_told d h 0 [some (vi v)] [] Q
  refine mw_wf (fun hwf => ?_)
  refine j_iload_n (y := yiX1_told) dX1_told_0 rfl ?_
  refine j_ldc (y := yiX1_told) (1000000) dX1_told_1 q920 (by decide) ?_
  refine j_icmp_ge (y := yiX1_told) 10 dX1_told_3 (by decide) ⟨⟨by omega, by omega⟩, ⟨by omega, by omega⟩⟩ (fun c3 => False.elim (by omega)) (fun c3 => ?_)
  refine j_iconst (y := yiX1_told) dX1_told_6 ?_
  refine m_goto (y := yiX1_told) 11 dX1_told_7 (by decide) ?_
  refine m_invS (y := yiX1_told) [(vi 1)] dX1_told_11 q922 q923 q123 q924 (c_X1_requireThere_1 K 0 h) pdX1_requireThere ⟨Nat.le_of_ble_eq_true rfl, by decide, by omega⟩ (kk_v fun h11 q11 => ?_) kx_v
  obtain rfl := q11
  refine j_iload_n (y := yiX1_told) dX1_told_14 rfl ?_
  subst hQ; exact j_iret (y := yiX1_told) dX1_told_15 rfl (⟨rfl, rfl⟩)
theorem c_X1_told_0 (K : KT) (d : Nat) (h : MH) (v : Int) (hd : 7 ≤ d) (hv : In v) (hl : ¬ v < 1000000) (hz : h.1 + 1 ≤ kC K ∧ h.2.1 + 6 ≤ kS K) : Mt K yiX1_told d [vi v] h (Rt RJ17 (ThH h)) := by
  have := hv.1; have := hv.2
  refine mt_ofQ (by decide) (Nat.le_of_ble_eq_true rfl) (fun Q hQ => ?_)
  show MW K yiX1_told d h 0 [some (vi v)] [] Q
  refine mw_wf (fun hwf => ?_)
  refine j_iload_n (y := yiX1_told) dX1_told_0 rfl ?_
  refine j_ldc (y := yiX1_told) (1000000) dX1_told_1 q920 (by decide) ?_
  refine j_icmp_ge (y := yiX1_told) 10 dX1_told_3 (by decide) ⟨⟨by omega, by omega⟩, ⟨by omega, by omega⟩⟩ (fun c3 => ?_) (fun c3 => False.elim (by omega))
  refine j_iconst (y := yiX1_told) dX1_told_10 ?_
  refine m_invS (y := yiX1_told) [(vi 0)] dX1_told_11 q922 q923 q123 q924 (c_X1_requireThere_0 K 6 h (by omega) ⟨by omega, by omega⟩) pdX1_requireThere ⟨Nat.le_of_ble_eq_true rfl, by decide, by omega⟩ kk_t (kx_t fun q11 h11 x11 => ?_)
  subst hQ; exact mx_ret rfl (⟨q11, rfl, x11⟩)
