/-! the twin's small methods -/
theorem c_isIn (K : KT) (d : Nat) (h : MH) (v lo hi : Int) (hv : In v) (hl : In lo) (hh : In hi) : Mt K yiX2_isIn d [vi v, vi lo, vi hi] h (Rz fun r h' => h' = h ∧ r = bz (lo ≤ v ∧ v ≤ hi)) := by
  have := hv.1; have := hv.2; have := hl.1; have := hl.2; have := hh.1; have := hh.2
  refine mt_ofQ (by decide) (Nat.le_of_ble_eq_true rfl) (fun Q hQ => ?_)
  show MW K yiX2_isIn d h 0 [some (vi v), some (vi lo), some (vi hi)] [] Q
  refine j_iload_n dX2_isIn_0 rfl ?_
  refine j_iload_n dX2_isIn_1 rfl ?_
  refine j_icmp_lt 14 dX2_isIn_2 (by decide) ⟨⟨by omega, by omega⟩, ⟨by omega, by omega⟩⟩ (fun c2 => ?_) (fun c2 => ?_)
  · refine j_iconst dX2_isIn_14 ?_
    subst hQ; exact j_zret dX2_isIn_15 rfl (by omega) (⟨rfl, by first | exact bz_t (by omega) | exact bz_f (by omega)⟩)
  · refine j_iload_n dX2_isIn_5 rfl ?_
    refine j_iload_n dX2_isIn_6 rfl ?_
    refine j_icmp_gt 14 dX2_isIn_7 (by decide) ⟨⟨by omega, by omega⟩, ⟨by omega, by omega⟩⟩ (fun c7 => ?_) (fun c7 => ?_)
    · refine j_iconst dX2_isIn_14 ?_
      subst hQ; exact j_zret dX2_isIn_15 rfl (by omega) (⟨rfl, by first | exact bz_t (by omega) | exact bz_f (by omega)⟩)
    · refine j_iconst dX2_isIn_10 ?_
      refine m_goto 15 dX2_isIn_11 (by decide) ?_
      subst hQ; exact j_zret dX2_isIn_15 rfl (by omega) (⟨rfl, by first | exact bz_t (by omega) | exact bz_f (by omega)⟩)
theorem c_thrown (K : KT) (d : Nat) (h : MH) (m : Nat) (sg : TS) : Mt K yiX2_thrown d [.ref m] (tov K h m sg) (Rz fun r h' => h' = tov K h m sg ∧ r = sg.1 0) := by
  refine mt_ofQ (by decide) (Nat.le_of_ble_eq_true rfl) (fun Q hQ => ?_)
  show MW K yiX2_thrown d (tov K h m (ovr sg [] [])) 0 [some (.ref m)] [] Q
  refine m_aload_n dX2_thrown_0 rfl ?_
  refine t_geti 0 (by decide) (sg.1 0) dX2_thrown_1 q3093 rfl ?_
  subst hQ; exact j_iret dX2_thrown_4 rfl (⟨rfl, rfl⟩)
theorem c_isThrown (K : KT) (d : Nat) (h : MH) (m : Nat) (sg : TS) (p : Prop) [Decidable p] (a : Int) : Mt K yiX2_isThrown d [.ref m, vi (bz p), vi a] (tov K h m sg) (Rz fun r h' => h' = tov K h m (ovr sg [(0, if p then a else 0)] []) ∧ r = bz p) := by
  refine mt_ofQ (by decide) (Nat.le_of_ble_eq_true rfl) (fun Q hQ => ?_)
  show MW K yiX2_isThrown d (tov K h m (ovr sg [] [])) 0 [some (.ref m), some (vi (bz p)), some (vi a)] [] Q
  refine m_aload_n dX2_isThrown_0 rfl ?_
  refine j_iload_n dX2_isThrown_1 rfl ?_
  refine j_bz_eq 9 dX2_isThrown_2 (by decide) (fun c2 => ?_) (fun c2 => ?_)
  · refine j_iconst dX2_isThrown_9 ?_
    refine t_puti 0 (by decide) [(0, 0)] dX2_isThrown_10 q3093 rfl rfl rfl rfl ?_
    refine j_iload_n dX2_isThrown_13 rfl ?_
    subst hQ; exact j_zret dX2_isThrown_14 rfl (bz01 _) (⟨by first | rw [if_pos c2] | rw [if_neg c2], rfl⟩)
  · refine j_iload_n dX2_isThrown_5 rfl ?_
    refine m_goto 10 dX2_isThrown_6 (by decide) ?_
    refine t_puti 0 (by decide) [(0, a)] dX2_isThrown_10 q3093 rfl rfl rfl rfl ?_
    refine j_iload_n dX2_isThrown_13 rfl ?_
    subst hQ; exact j_zret dX2_isThrown_14 rfl (bz01 _) (⟨by first | rw [if_pos c2] | rw [if_neg c2], rfl⟩)
theorem c_isThrown1 (K : KT) (d : Nat) (h : MH) (m : Nat) (sg : TS) (a : Int) : Mt K yiX2_isThrown d [.ref m, vi 1, vi a] (tov K h m sg) (Rz fun r h' => h' = tov K h m (ovr sg [(0, a)] []) ∧ r = 1) := c_isThrown K d h m sg True a
theorem c_isThrown0 (K : KT) (d : Nat) (h : MH) (m : Nat) (sg : TS) (a : Int) : Mt K yiX2_isThrown d [.ref m, vi 0, vi a] (tov K h m sg) (Rz fun r h' => h' = tov K h m (ovr sg [(0, 0)] []) ∧ r = 0) := c_isThrown K d h m sg False a
theorem c_isNoStop (K : KT) (d : Nat) (h : MH) (m : Nat) (sg : TS) (v : Int) (hd : 1 ≤ d) (hT : okF 1 (sg.1 1)) (hv : In v) : Mt K yiX2_isNoStop d [.ref m, vi v] (tov K h m sg) (Rz fun r h' => h' = tov K h m (ovr sg [(0, if ¬ (0 ≤ v ∧ v ≤ sg.1 1 - 1) then 1 else 0)] []) ∧ r = bz (¬ (0 ≤ v ∧ v ≤ sg.1 1 - 1))) := by
  have f1 := of1 hT; have := hv.1; have := hv.2
  refine mt_ofQ (by decide) (Nat.le_of_ble_eq_true rfl) (fun Q hQ => ?_)
  show MW K yiX2_isNoStop d (tov K h m (ovr sg [] [])) 0 [some (.ref m), some (vi v)] [] Q
  refine m_aload_n dX2_isNoStop_0 rfl ?_
  refine j_iload_n dX2_isNoStop_1 rfl ?_
  refine j_iconst dX2_isNoStop_2 ?_
  refine m_aload_n dX2_isNoStop_3 rfl ?_
  refine t_geti 1 (by decide) (sg.1 1) dX2_isNoStop_4 q3094 rfl ?_
  refine j_iconst dX2_isNoStop_7 ?_
  refine j_isub dX2_isNoStop_8 ?_
  refine m_invS [(vi v), (vi 0), (vi ((sg.1 1) - 1))] dX2_isNoStop_9 q3253 q3254 q133 q3255 (c_isIn K 0 _ _ _ _ ⟨by omega, by omega⟩ ⟨by omega, by omega⟩ ⟨by omega, by omega⟩) pdX2_isIn ⟨Nat.le_of_ble_eq_true rfl, by decide, by omega⟩ (kk_z fun r9 h9 q9 => ?_) kx_z
  obtain ⟨rfl, rfl⟩ := q9
  refine mw_top (x' := bz (0 ≤ v ∧ v ≤ ((sg.1 1) - 1))) rfl ?_
  refine j_bz_ne 19 dX2_isNoStop_12 (by decide) (fun c12 => ?_) (fun c12 => ?_)
  · refine j_iconst dX2_isNoStop_19 ?_
    refine j_iconst dX2_isNoStop_20 ?_
    refine t_inv [(vi 0), (vi 1)] dX2_isNoStop_21 q3256 q3258 qs76 q3259 rfl (c_isThrown0 K 0 h m _ _) pdX2_isThrown ⟨Nat.le_of_ble_eq_true rfl, by decide, by omega⟩ (kk_z fun r21 h21 q21 => ?_) kx_z
    obtain ⟨rfl, rfl⟩ := q21
    refine mw_tov (b := ovr sg [(0, 0)] []) (ovr_ovr _ _ _ _ _) ?_
    subst hQ; exact j_zret dX2_isNoStop_24 rfl (by omega) (⟨by first | rw [if_pos (by omega)] | rw [if_neg (by omega)], by first | exact bz_t (by omega) | exact bz_f (by omega)⟩)
  · refine j_iconst dX2_isNoStop_15 ?_
    refine m_goto 20 dX2_isNoStop_16 (by decide) ?_
    refine j_iconst dX2_isNoStop_20 ?_
    refine t_inv [(vi 1), (vi 1)] dX2_isNoStop_21 q3256 q3258 qs76 q3259 rfl (c_isThrown1 K 0 h m _ _) pdX2_isThrown ⟨Nat.le_of_ble_eq_true rfl, by decide, by omega⟩ (kk_z fun r21 h21 q21 => ?_) kx_z
    obtain ⟨rfl, rfl⟩ := q21
    refine mw_tov (b := ovr sg [(0, 1)] []) (ovr_ovr _ _ _ _ _) ?_
    subst hQ; exact j_zret dX2_isNoStop_24 rfl (by omega) (⟨by first | rw [if_pos (by omega)] | rw [if_neg (by omega)], by first | exact bz_t (by omega) | exact bz_f (by omega)⟩)
theorem c_isNoService (K : KT) (d : Nat) (h : MH) (m : Nat) (sg : TS) (v : Int) (hd : 1 ≤ d) (hT : okF 6 (sg.1 6)) (hv : In v) : Mt K yiX2_isNoService d [.ref m, vi v] (tov K h m sg) (Rz fun r h' => h' = tov K h m (ovr sg [(0, if ¬ (0 ≤ v ∧ v ≤ sg.1 6 - 1) then 1 else 0)] []) ∧ r = bz (¬ (0 ≤ v ∧ v ≤ sg.1 6 - 1))) := by
  have f1 := of6 hT; have := hv.1; have := hv.2
  refine mt_ofQ (by decide) (Nat.le_of_ble_eq_true rfl) (fun Q hQ => ?_)
  show MW K yiX2_isNoService d (tov K h m (ovr sg [] [])) 0 [some (.ref m), some (vi v)] [] Q
  refine m_aload_n dX2_isNoService_0 rfl ?_
  refine j_iload_n dX2_isNoService_1 rfl ?_
  refine j_iconst dX2_isNoService_2 ?_
  refine m_aload_n dX2_isNoService_3 rfl ?_
  refine t_geti 6 (by decide) (sg.1 6) dX2_isNoService_4 q3099 rfl ?_
  refine j_iconst dX2_isNoService_7 ?_
  refine j_isub dX2_isNoService_8 ?_
  refine m_invS [(vi v), (vi 0), (vi ((sg.1 6) - 1))] dX2_isNoService_9 q3253 q3254 q133 q3255 (c_isIn K 0 _ _ _ _ ⟨by omega, by omega⟩ ⟨by omega, by omega⟩ ⟨by omega, by omega⟩) pdX2_isIn ⟨Nat.le_of_ble_eq_true rfl, by decide, by omega⟩ (kk_z fun r9 h9 q9 => ?_) kx_z
  obtain ⟨rfl, rfl⟩ := q9
  refine mw_top (x' := bz (0 ≤ v ∧ v ≤ ((sg.1 6) - 1))) rfl ?_
  refine j_bz_ne 19 dX2_isNoService_12 (by decide) (fun c12 => ?_) (fun c12 => ?_)
  · refine j_iconst dX2_isNoService_19 ?_
    refine j_iconst dX2_isNoService_20 ?_
    refine t_inv [(vi 0), (vi 1)] dX2_isNoService_21 q3256 q3258 qs76 q3259 rfl (c_isThrown0 K 0 h m _ _) pdX2_isThrown ⟨Nat.le_of_ble_eq_true rfl, by decide, by omega⟩ (kk_z fun r21 h21 q21 => ?_) kx_z
    obtain ⟨rfl, rfl⟩ := q21
    refine mw_tov (b := ovr sg [(0, 0)] []) (ovr_ovr _ _ _ _ _) ?_
    subst hQ; exact j_zret dX2_isNoService_24 rfl (by omega) (⟨by first | rw [if_pos (by omega)] | rw [if_neg (by omega)], by first | exact bz_t (by omega) | exact bz_f (by omega)⟩)
  · refine j_iconst dX2_isNoService_15 ?_
    refine m_goto 20 dX2_isNoService_16 (by decide) ?_
    refine j_iconst dX2_isNoService_20 ?_
    refine t_inv [(vi 1), (vi 1)] dX2_isNoService_21 q3256 q3258 qs76 q3259 rfl (c_isThrown1 K 0 h m _ _) pdX2_isThrown ⟨Nat.le_of_ble_eq_true rfl, by decide, by omega⟩ (kk_z fun r21 h21 q21 => ?_) kx_z
    obtain ⟨rfl, rfl⟩ := q21
    refine mw_tov (b := ovr sg [(0, 1)] []) (ovr_ovr _ _ _ _ _) ?_
    subst hQ; exact j_zret dX2_isNoService_24 rfl (by omega) (⟨by first | rw [if_pos (by omega)] | rw [if_neg (by omega)], by first | exact bz_t (by omega) | exact bz_f (by omega)⟩)
theorem c_isNoTrip (K : KT) (d : Nat) (h : MH) (m : Nat) (sg : TS) (v : Int) (hd : 1 ≤ d) (hT : okF 8 (sg.1 8)) (hv : In v) : Mt K yiX2_isNoTrip d [.ref m, vi v] (tov K h m sg) (Rz fun r h' => h' = tov K h m (ovr sg [(0, if ¬ (0 ≤ v ∧ v ≤ sg.1 8 - 1) then 1 else 0)] []) ∧ r = bz (¬ (0 ≤ v ∧ v ≤ sg.1 8 - 1))) := by
  have f1 := of8 hT; have := hv.1; have := hv.2
  refine mt_ofQ (by decide) (Nat.le_of_ble_eq_true rfl) (fun Q hQ => ?_)
  show MW K yiX2_isNoTrip d (tov K h m (ovr sg [] [])) 0 [some (.ref m), some (vi v)] [] Q
  refine m_aload_n dX2_isNoTrip_0 rfl ?_
  refine j_iload_n dX2_isNoTrip_1 rfl ?_
  refine j_iconst dX2_isNoTrip_2 ?_
  refine m_aload_n dX2_isNoTrip_3 rfl ?_
  refine t_geti 8 (by decide) (sg.1 8) dX2_isNoTrip_4 q3101 rfl ?_
  refine j_iconst dX2_isNoTrip_7 ?_
  refine j_isub dX2_isNoTrip_8 ?_
  refine m_invS [(vi v), (vi 0), (vi ((sg.1 8) - 1))] dX2_isNoTrip_9 q3253 q3254 q133 q3255 (c_isIn K 0 _ _ _ _ ⟨by omega, by omega⟩ ⟨by omega, by omega⟩ ⟨by omega, by omega⟩) pdX2_isIn ⟨Nat.le_of_ble_eq_true rfl, by decide, by omega⟩ (kk_z fun r9 h9 q9 => ?_) kx_z
  obtain ⟨rfl, rfl⟩ := q9
  refine mw_top (x' := bz (0 ≤ v ∧ v ≤ ((sg.1 8) - 1))) rfl ?_
  refine j_bz_ne 19 dX2_isNoTrip_12 (by decide) (fun c12 => ?_) (fun c12 => ?_)
  · refine j_iconst dX2_isNoTrip_19 ?_
    refine j_iconst dX2_isNoTrip_20 ?_
    refine t_inv [(vi 0), (vi 1)] dX2_isNoTrip_21 q3256 q3258 qs76 q3259 rfl (c_isThrown0 K 0 h m _ _) pdX2_isThrown ⟨Nat.le_of_ble_eq_true rfl, by decide, by omega⟩ (kk_z fun r21 h21 q21 => ?_) kx_z
    obtain ⟨rfl, rfl⟩ := q21
    refine mw_tov (b := ovr sg [(0, 0)] []) (ovr_ovr _ _ _ _ _) ?_
    subst hQ; exact j_zret dX2_isNoTrip_24 rfl (by omega) (⟨by first | rw [if_pos (by omega)] | rw [if_neg (by omega)], by first | exact bz_t (by omega) | exact bz_f (by omega)⟩)
  · refine j_iconst dX2_isNoTrip_15 ?_
    refine m_goto 20 dX2_isNoTrip_16 (by decide) ?_
    refine j_iconst dX2_isNoTrip_20 ?_
    refine t_inv [(vi 1), (vi 1)] dX2_isNoTrip_21 q3256 q3258 qs76 q3259 rfl (c_isThrown1 K 0 h m _ _) pdX2_isThrown ⟨Nat.le_of_ble_eq_true rfl, by decide, by omega⟩ (kk_z fun r21 h21 q21 => ?_) kx_z
    obtain ⟨rfl, rfl⟩ := q21
    refine mw_tov (b := ovr sg [(0, 1)] []) (ovr_ovr _ _ _ _ _) ?_
    subst hQ; exact j_zret dX2_isNoTrip_24 rfl (by omega) (⟨by first | rw [if_pos (by omega)] | rw [if_neg (by omega)], by first | exact bz_t (by omega) | exact bz_f (by omega)⟩)
theorem c_isNoDay (K : KT) (d : Nat) (h : MH) (m : Nat) (sg : TS) (v a : Int) (hd : 1 ≤ d) (hv : In v) : Mt K yiX2_isNoDay d [.ref m, vi v, vi a] (tov K h m sg) (Rz fun r h' => h' = tov K h m (ovr sg [(0, if ¬ (0 ≤ v ∧ v ≤ 27) then a else 0)] []) ∧ r = bz (¬ (0 ≤ v ∧ v ≤ 27))) := by
  have := hv.1; have := hv.2
  refine mt_ofQ (by decide) (Nat.le_of_ble_eq_true rfl) (fun Q hQ => ?_)
  show MW K yiX2_isNoDay d (tov K h m (ovr sg [] [])) 0 [some (.ref m), some (vi v), some (vi a)] [] Q
  refine m_aload_n dX2_isNoDay_0 rfl ?_
  refine j_iload_n dX2_isNoDay_1 rfl ?_
  refine j_iconst dX2_isNoDay_2 ?_
  refine j_bipush dX2_isNoDay_3 (by decide) ?_
  refine m_invS [(vi v), (vi 0), (vi 27)] dX2_isNoDay_5 q3253 q3254 q133 q3255 (c_isIn K 0 _ _ _ _ ⟨by omega, by omega⟩ ⟨by omega, by omega⟩ ⟨by omega, by omega⟩) pdX2_isIn ⟨Nat.le_of_ble_eq_true rfl, by decide, by omega⟩ (kk_z fun r5 h5 q5 => ?_) kx_z
  obtain ⟨rfl, rfl⟩ := q5
  refine mw_top (x' := bz (0 ≤ v ∧ v ≤ 27)) rfl ?_
  refine j_bz_ne 15 dX2_isNoDay_8 (by decide) (fun c8 => ?_) (fun c8 => ?_)
  · refine j_iconst dX2_isNoDay_15 ?_
    refine j_iload_n dX2_isNoDay_16 rfl ?_
    refine t_inv [(vi 0), (vi a)] dX2_isNoDay_17 q3256 q3258 qs76 q3259 rfl (c_isThrown0 K 0 h m _ _) pdX2_isThrown ⟨Nat.le_of_ble_eq_true rfl, by decide, by omega⟩ (kk_z fun r17 h17 q17 => ?_) kx_z
    obtain ⟨rfl, rfl⟩ := q17
    refine mw_tov (b := ovr sg [(0, 0)] []) (ovr_ovr _ _ _ _ _) ?_
    subst hQ; exact j_zret dX2_isNoDay_20 rfl (by omega) (⟨by first | rw [if_pos (by omega)] | rw [if_neg (by omega)], by first | exact bz_t (by omega) | exact bz_f (by omega)⟩)
  · refine j_iconst dX2_isNoDay_11 ?_
    refine m_goto 16 dX2_isNoDay_12 (by decide) ?_
    refine j_iload_n dX2_isNoDay_16 rfl ?_
    refine t_inv [(vi 1), (vi a)] dX2_isNoDay_17 q3256 q3258 qs76 q3259 rfl (c_isThrown1 K 0 h m _ _) pdX2_isThrown ⟨Nat.le_of_ble_eq_true rfl, by decide, by omega⟩ (kk_z fun r17 h17 q17 => ?_) kx_z
    obtain ⟨rfl, rfl⟩ := q17
    refine mw_tov (b := ovr sg [(0, a)] []) (ovr_ovr _ _ _ _ _) ?_
    subst hQ; exact j_zret dX2_isNoDay_20 rfl (by omega) (⟨by first | rw [if_pos (by omega)] | rw [if_neg (by omega)], by first | exact bz_t (by omega) | exact bz_f (by omega)⟩)
theorem c_isNoCall (K : KT) (d : Nat) (h : MH) (m : Nat) (sg : TS) (v c : Int) (hd : 2 ≤ d) (hT : TB sg) (hv : In v) (hc : In c) : Mt K yiX2_isNoCall d [.ref m, vi v, vi c] (tov K h m sg) (Rz fun r h' => h' = tov K h m (ovr sg [(0, if ¬ (0 ≤ v ∧ v ≤ sg.1 8 - 1) ∨ ¬ (0 ≤ c ∧ c ≤ sg.2 10 v - 1) then 1 else 0)] []) ∧ r = bz (¬ (0 ≤ v ∧ v ≤ sg.1 8 - 1) ∨ ¬ (0 ≤ c ∧ c ≤ sg.2 10 v - 1))) := by
  have f8 := of8 (hT.1 8); have := hv.1; have := hv.2; have := hc.1; have := hc.2
  refine mt_ofQ (by decide) (Nat.le_of_ble_eq_true rfl) (fun Q hQ => ?_)
  show MW K yiX2_isNoCall d (tov K h m (ovr sg [] [])) 0 [some (.ref m), some (vi v), some (vi c)] [] Q
  refine m_aload_n dX2_isNoCall_0 rfl ?_
  refine j_iload_n dX2_isNoCall_1 rfl ?_
  refine t_inv [(vi v)] dX2_isNoCall_2 q3321 q3323 qs82 q3324 rfl (c_isNoTrip K 1 h m _ _ (by omega) (hT.1 8) ⟨by omega, by omega⟩) pdX2_isNoTrip ⟨Nat.le_of_ble_eq_true rfl, by decide, by omega⟩ (kk_z fun r2 h2 q2 => ?_) kx_z
  obtain ⟨rfl, rfl⟩ := q2
  refine mw_tov (b := ovr sg [(0, (if ¬ (0 ≤ v ∧ v ≤ (sg.1 8) - 1) then 1 else 0))] []) (ovr_ovr _ _ _ _ _) ?_
  refine mw_top (x' := bz (¬ (0 ≤ v ∧ v ≤ (sg.1 8) - 1))) rfl ?_
  refine j_bz_ne 37 dX2_isNoCall_5 (by decide) (fun c5 => ?_) (fun c5 => ?_)
  · refine mw_tov (b := ovr sg [(0, 1)] []) (by rw [if_pos c5]) ?_
    refine j_iconst dX2_isNoCall_37 ?_
    refine m_goto 42 dX2_isNoCall_38 (by decide) ?_
    subst hQ; exact j_zret dX2_isNoCall_42 rfl (by omega) (⟨by first | (rw [if_pos (by omega)]; done) | (rw [if_neg (by omega)]; done) | rw [if_pos (c := ¬ (0 ≤ v ∧ v ≤ sg.1 8 - 1)) (by omega), if_pos (by omega)], by first | exact bz_t (by omega) | exact bz_f (by omega)⟩)
  · refine mw_tov (b := ovr sg [(0, 0)] []) (by rw [if_neg c5]) ?_
    refine m_aload_n dX2_isNoCall_8 rfl ?_
    refine j_iload_n dX2_isNoCall_9 rfl ?_
    refine j_iconst dX2_isNoCall_10 ?_
    refine m_aload_n dX2_isNoCall_11 rfl ?_
    refine t_geta 10 6 (by decide) dX2_isNoCall_12 q3103 rfl ?_
    refine j_iload_n dX2_isNoCall_15 rfl ?_
    refine t_aldB 6 (by decide) (n := 24) (sg.2 10) dX2_isNoCall_16 rfl (Nat.le_of_ble_eq_true rfl) (oa10 (hT.2 10)) ⟨by omega, by omega⟩ (fun b16 => ?_)
    refine j_iconst dX2_isNoCall_17 ?_
    refine j_isub dX2_isNoCall_18 ?_
    refine m_invS [(vi c), (vi 0), (vi (((sg.2 10) v) - 1))] dX2_isNoCall_19 q3253 q3254 q133 q3255 (c_isIn K 0 _ _ _ _ ⟨by omega, by omega⟩ ⟨by omega, by omega⟩ ⟨by omega, by omega⟩) pdX2_isIn ⟨Nat.le_of_ble_eq_true rfl, by decide, by omega⟩ (kk_z fun r19 h19 q19 => ?_) kx_z
    obtain ⟨rfl, rfl⟩ := q19
    refine mw_top (x' := bz (0 ≤ c ∧ c ≤ (((sg.2 10) v) - 1))) rfl ?_
    refine j_bz_ne 29 dX2_isNoCall_22 (by decide) (fun c22 => ?_) (fun c22 => ?_)
    · refine j_iconst dX2_isNoCall_29 ?_
      refine j_iconst dX2_isNoCall_30 ?_
      refine t_inv [(vi 0), (vi 1)] dX2_isNoCall_31 q3256 q3258 qs76 q3259 rfl (c_isThrown0 K 0 h m _ _) pdX2_isThrown ⟨Nat.le_of_ble_eq_true rfl, by decide, by omega⟩ (kk_z fun r31 h31 q31 => ?_) kx_z
      obtain ⟨rfl, rfl⟩ := q31
      refine mw_tov (b := ovr sg [(0, 0)] []) (ovr_ovr _ _ _ _ _) ?_
      refine j_if_eq 41 dX2_isNoCall_34 (by decide) ⟨by decide, by decide⟩ (fun _ => ?_) (fun c => absurd c (by decide))
      refine j_iconst dX2_isNoCall_41 ?_
      subst hQ; exact j_zret dX2_isNoCall_42 rfl (by omega) (⟨by first | (rw [if_pos (by omega)]; done) | (rw [if_neg (by omega)]; done) | rw [if_pos (c := ¬ (0 ≤ v ∧ v ≤ sg.1 8 - 1)) (by omega), if_pos (by omega)], by first | exact bz_t (by omega) | exact bz_f (by omega)⟩)
    · refine j_iconst dX2_isNoCall_25 ?_
      refine m_goto 30 dX2_isNoCall_26 (by decide) ?_
      refine j_iconst dX2_isNoCall_30 ?_
      refine t_inv [(vi 1), (vi 1)] dX2_isNoCall_31 q3256 q3258 qs76 q3259 rfl (c_isThrown1 K 0 h m _ _) pdX2_isThrown ⟨Nat.le_of_ble_eq_true rfl, by decide, by omega⟩ (kk_z fun r31 h31 q31 => ?_) kx_z
      obtain ⟨rfl, rfl⟩ := q31
      refine mw_tov (b := ovr sg [(0, 1)] []) (ovr_ovr _ _ _ _ _) ?_
      refine j_if_eq 41 dX2_isNoCall_34 (by decide) ⟨by decide, by decide⟩ (fun c => absurd c (by decide)) (fun _ => ?_)
      refine j_iconst dX2_isNoCall_37 ?_
      refine m_goto 42 dX2_isNoCall_38 (by decide) ?_
      subst hQ; exact j_zret dX2_isNoCall_42 rfl (by omega) (⟨by first | (rw [if_pos (by omega)]; done) | (rw [if_neg (by omega)]; done) | rw [if_pos (c := ¬ (0 ≤ v ∧ v ≤ sg.1 8 - 1)) (by omega), if_pos (by omega)], by first | exact bz_t (by omega) | exact bz_f (by omega)⟩)
def wval (told : Int → Int) (cut a b : Int) : Int := if a = b then 0 else if told (12 * a + b) = 0 ∨ a = cut ∨ b = cut then 1000000 else told (12 * a + b)
def wini (n : Int) (told : Int → Int) (cut a b : Int) (old : Int → Int) : Int → Int := fun q => if 0 ≤ q ∧ (q / 12 < a ∨ (q / 12 = a ∧ q % 12 < b)) ∧ q % 12 < n then wval told cut (q / 12) (q % 12) else old q
theorem wini_step {n : Int} {told old : Int → Int} {cut a b : Int} (hb : 0 ≤ b ∧ b < n ∧ n ≤ 12) (ha : 0 ≤ a) {x : Int} (hx : x = wval told cut a b) : upz (wini n told cut a b old) (12 * a + b) x = wini n told cut a (b + 1) old := by
  funext q
  unfold upz wini
  by_cases h : q = 12 * a + b
  · have e1 : q / 12 = a := by omega
    have e2 : q % 12 = b := by omega
    rw [if_pos h, if_pos (by omega), e1, e2, hx]
  · rw [if_neg h]
    by_cases h2 : 0 ≤ q ∧ (q / 12 < a ∨ (q / 12 = a ∧ q % 12 < b)) ∧ q % 12 < n
    · rw [if_pos h2, if_pos (by omega)]
    · rw [if_neg h2, if_neg (by omega)]
theorem wini_next {n : Int} {told old : Int → Int} {cut a b : Int} (hb : n ≤ b) : wini n told cut a b old = wini n told cut (a + 1) 0 old := by
  funext q
  unfold wini
  by_cases h2 : 0 ≤ q ∧ (q / 12 < a ∨ (q / 12 = a ∧ q % 12 < b)) ∧ q % 12 < n
  · rw [if_pos h2, if_pos (by omega)]
  · rw [if_neg h2, if_neg (by omega)]
theorem wini_0 {n : Int} {told old : Int → Int} {cut : Int} : old = wini n told cut 0 0 old := by
  funext q
  unfold wini
  rw [if_neg (by omega)]
def fwS (k a b : Int) (f : Int → Int) : Int → Int := upz f (12 * a + b) (if f (12 * a + k) + f (12 * k + b) < f (12 * a + b) then f (12 * a + k) + f (12 * k + b) else f (12 * a + b))
def fwB (k a : Int) : Nat → (Int → Int) → Int → Int
  | 0, f => f
  | b + 1, f => fwS k a (b : Int) (fwB k a b f)
def fwA (n : Nat) (k : Int) : Nat → (Int → Int) → Int → Int
  | 0, f => f
  | a + 1, f => fwB k (a : Int) n (fwA n k a f)
def fwK (n : Nat) : Nat → (Int → Int) → Int → Int
  | 0, f => f
  | k + 1, f => fwA n (k : Int) n (fwK n k f)
theorem upz_self (f : Int → Int) (i : Int) : upz f i (f i) = f := by
  funext q; unfold upz; split <;> simp_all
theorem fwB_s {k a b : Int} {f : Int → Int} (hb : 0 ≤ b) : fwB k a (b + 1).toNat f = fwS k a b (fwB k a b.toNat f) := by
  have e : (b + 1).toNat = b.toNat + 1 := by omega
  rw [e]; show fwS k a (b.toNat : Int) _ = _; rw [show (b.toNat : Int) = b by omega]
theorem fwA_s {n : Nat} {k a : Int} {f : Int → Int} (ha : 0 ≤ a) : fwA n k (a + 1).toNat f = fwB k a n (fwA n k a.toNat f) := by
  have e : (a + 1).toNat = a.toNat + 1 := by omega
  rw [e]; show fwB k (a.toNat : Int) n _ = _; rw [show (a.toNat : Int) = a by omega]
theorem fwK_s {n : Nat} {k : Int} {f : Int → Int} (ha : 0 ≤ k) : fwK n (k + 1).toNat f = fwA n k n (fwK n k.toNat f) := by
  have e : (k + 1).toNat = k.toNat + 1 := by omega
  rw [e]; show fwA n (k.toNat : Int) n _ = _; rw [show (k.toNat : Int) = k by omega]
theorem ok4_fw {f : Int → Int} (h : okA 4 f) {k a b : Int} (hk : 0 ≤ k ∧ k < 12) (ha : 0 ≤ a ∧ a < 12) (hb : 0 ≤ b ∧ b < 12) : okA 4 (fwS k a b f) := by
  have h1 := oa4 h (12 * a + k) (by omega) (by omega)
  have h2 := oa4 h (12 * k + b) (by omega) (by omega)
  have h3 := oa4 h (12 * a + b) (by omega) (by omega)
  refine okA_upz h ?_
  show (0 : Int) ≤ _ ∧ _ ≤ (1000000 : Int)
  split <;> omega
theorem ok4_wini {n : Int} {told old : Int → Int} {cut a b : Int} (h : okA 4 old) (ht : okA 3 told) (ha : a ≤ 12) (hn : n ≤ 12) : okA 4 (wini n told cut a b old) := by
  intro q h0 h1
  unfold wini
  have h1' : q < 144 := h1
  split
  · next hc =>
    show (0 : Int) ≤ _ ∧ _ ≤ (1000000 : Int)
    unfold wval
    have := oa3 ht (12 * (q / 12) + q % 12) (by omega) (by omega)
    split
    · omega
    · split <;> omega
  · exact h q h0 h1
/-- the walks out of what was told -/
def wfull (sg : TS) (cut : Int) : Int → Int := fwK (sg.1 1).toNat (sg.1 1).toNat (wini (sg.1 1) (sg.2 3) cut (sg.1 1) 0 (sg.2 4))
theorem c_walks (K : KT) (d : Nat) (h : MH) (m : Nat) (sg : TS) (hT : TB sg) : Mt K yiX2_walks d [.ref m] (tov K h m sg) (Rv fun h' => h' = tov K h m (ovr sg [] [(4, wfull sg (sg.1 5))]) ∧ okA 4 (wfull sg (sg.1 5))) := by
  refine mt_ofQ (by decide) (Nat.le_of_ble_eq_true rfl) (fun Q hQ => ?_)
  show MW K yiX2_walks d (tov K h m (ovr sg [] [])) 0 [some (.ref m), none, none, none, none] [] Q
  have f1 := of1 (hT.1 1)
  have f5 := of5 (hT.1 5)
  refine j_iconst dX2_walks_0 ?_
  refine j_istore_n [some (.ref m), some (vi 0), none, none, none] dX2_walks_1 (by decide) rfl rfl ?_
  have L2 : ∀ (N : Nat) (a : Int) (g : Int → Int), (sg.1 1 - a).toNat = N → (0 ≤ a ∧ a ≤ sg.1 1) → (g = wini (sg.1 1) (sg.2 3) (sg.1 5) a 0 (sg.2 4)) → MW K yiX2_walks d (tov K h m (ovr sg [] [(4, g)])) 2 [some (.ref m), some (vi a), none, none, none] [] Q := by
    intro N
    induction N using Nat.strongRecOn with
    | _ N ih2 =>
    intro a g hN2 ha hg
    refine j_iload_n dX2_walks_2 rfl ?_
    refine m_aload_n dX2_walks_3 rfl ?_
    refine t_geti 1 (by decide) (sg.1 1) dX2_walks_4 q3094 rfl ?_
    refine j_icmp_ge 90 dX2_walks_7 (by decide) ⟨⟨by omega, by omega⟩, ⟨by omega, by omega⟩⟩ (fun c7 => ?_) (fun c7 => ?_)
    · refine j_iconst dX2_walks_90 ?_
      refine j_istore_n [some (.ref m), some (vi 0), none, none, none] dX2_walks_91 (by decide) rfl rfl ?_
      have L92 : ∀ (N : Nat) (k : Int) (g : Int → Int), (sg.1 1 - k).toNat = N → (0 ≤ k ∧ k ≤ sg.1 1) → (g = fwK (sg.1 1).toNat k.toNat (wini (sg.1 1) (sg.2 3) (sg.1 5) (sg.1 1) 0 (sg.2 4))) → (okA 4 g) → MW K yiX2_walks d (tov K h m (ovr sg [] [(4, g)])) 92 [some (.ref m), some (vi k), none, none, none] [] Q := by
        intro N
        induction N using Nat.strongRecOn with
        | _ N ih92 =>
        intro k g hN92 hk hg9 ho
        refine j_iload_n dX2_walks_92 rfl ?_
        refine m_aload_n dX2_walks_93 rfl ?_
        refine t_geti 1 (by decide) (sg.1 1) dX2_walks_94 q3094 rfl ?_
        refine j_icmp_ge 192 dX2_walks_97 (by decide) ⟨⟨by omega, by omega⟩, ⟨by omega, by omega⟩⟩ (fun c97 => ?_) (fun c97 => ?_)
        · subst hQ; exact j_vret dX2_walks_192 rfl (⟨by rw [hg9, show k = sg.1 1 by omega]; rfl, by have e : wfull sg (sg.1 5) = g := by { rw [hg9, show k = sg.1 1 by omega]; rfl }; rw [e]; exact ho⟩)
        · refine j_iconst dX2_walks_100 ?_
          refine j_istore_n [some (.ref m), some (vi k), some (vi 0), none, none] dX2_walks_101 (by decide) rfl rfl ?_
          have L102 : ∀ (N : Nat) (a : Int) (ga : Int → Int), (sg.1 1 - a).toNat = N → (0 ≤ a ∧ a ≤ sg.1 1) → (ga = fwA (sg.1 1).toNat k a.toNat g) → (okA 4 ga) → MW K yiX2_walks d (tov K h m (ovr sg [] [(4, ga)])) 102 [some (.ref m), some (vi k), some (vi a), none, none] [] Q := by
            intro N
            induction N using Nat.strongRecOn with
            | _ N ih102 =>
            intro a ga hN102 ha hga hoa
            refine j_iload_n dX2_walks_102 rfl ?_
            refine m_aload_n dX2_walks_103 rfl ?_
            refine t_geti 1 (by decide) (sg.1 1) dX2_walks_104 q3094 rfl ?_
            refine j_icmp_ge 186 dX2_walks_107 (by decide) ⟨⟨by omega, by omega⟩, ⟨by omega, by omega⟩⟩ (fun c107 => ?_) (fun c107 => ?_)
            · refine j_iinc [some (.ref m), some (vi (k + 1)), some (vi a), none, none] dX2_walks_186 rfl (by decide) rfl rfl ?_
              refine m_goto 92 dX2_walks_189 (by decide) ?_
              refine mw_forget 2 ?_
              exact ih92 _ (by omega) _ _ rfl (by omega) (by rw [hga, hg9, fwK_s (by omega), show a = sg.1 1 by omega]) hoa
            · refine j_iconst dX2_walks_110 ?_
              refine j_istore_n [some (.ref m), some (vi k), some (vi a), some (vi 0), none] dX2_walks_111 (by decide) rfl rfl ?_
              have L112 : ∀ (N : Nat) (b : Int) (gb : Int → Int), (sg.1 1 - b).toNat = N → (0 ≤ b ∧ b ≤ sg.1 1) → (gb = fwB k a b.toNat ga) → (okA 4 gb) → MW K yiX2_walks d (tov K h m (ovr sg [] [(4, gb)])) 112 [some (.ref m), some (vi k), some (vi a), some (vi b), none] [] Q := by
                intro N
                induction N using Nat.strongRecOn with
                | _ N ih112 =>
                intro b gb hN112 hb hgb hob
                refine j_iload_n dX2_walks_112 rfl ?_
                refine m_aload_n dX2_walks_113 rfl ?_
                refine t_geti 1 (by decide) (sg.1 1) dX2_walks_114 q3094 rfl ?_
                refine j_icmp_ge 180 dX2_walks_117 (by decide) ⟨⟨by omega, by omega⟩, ⟨by omega, by omega⟩⟩ (fun c117 => ?_) (fun c117 => ?_)
                · refine j_iinc [some (.ref m), some (vi k), some (vi (a + 1)), some (vi b), none] dX2_walks_180 rfl (by decide) rfl rfl ?_
                  refine m_goto 102 dX2_walks_183 (by decide) ?_
                  refine mw_forget 3 ?_
                  exact ih102 _ (by omega) _ _ rfl (by omega) (by rw [hgb, hga, fwA_s (by omega), show b = sg.1 1 by omega]) hob
                · refine m_aload_n dX2_walks_120 rfl ?_
                  refine t_geta 4 3 (by decide) dX2_walks_121 q3097 rfl ?_
                  refine j_bipush dX2_walks_124 (by decide) ?_
                  refine j_iload_n dX2_walks_126 rfl ?_
                  refine j_imul dX2_walks_127 ?_
                  refine j_iload_n dX2_walks_128 rfl ?_
                  refine j_iadd dX2_walks_129 ?_
                  refine t_aldB 3 (by decide) (n := 144) gb dX2_walks_130 rfl (Nat.le_of_ble_eq_true rfl) (oa4 hob) ⟨by omega, by omega⟩ (fun b130 => ?_)
                  refine m_aload_n dX2_walks_131 rfl ?_
                  refine t_geta 4 3 (by decide) dX2_walks_132 q3097 rfl ?_
                  refine j_bipush dX2_walks_135 (by decide) ?_
                  refine j_iload_n dX2_walks_137 rfl ?_
                  refine j_imul dX2_walks_138 ?_
                  refine j_iload_n dX2_walks_139 rfl ?_
                  refine j_iadd dX2_walks_140 ?_
                  refine t_aldB 3 (by decide) (n := 144) gb dX2_walks_141 rfl (Nat.le_of_ble_eq_true rfl) (oa4 hob) ⟨by omega, by omega⟩ (fun b141 => ?_)
                  refine j_iadd dX2_walks_142 ?_
                  refine j_istore [some (.ref m), some (vi k), some (vi a), some (vi b), some (vi ((gb ((12 * a) + k)) + (gb ((12 * k) + b))))] dX2_walks_143 (by decide) rfl rfl ?_
                  refine j_iload dX2_walks_145 rfl ?_
                  refine m_aload_n dX2_walks_147 rfl ?_
                  refine t_geta 4 3 (by decide) dX2_walks_148 q3097 rfl ?_
                  refine j_bipush dX2_walks_151 (by decide) ?_
                  refine j_iload_n dX2_walks_153 rfl ?_
                  refine j_imul dX2_walks_154 ?_
                  refine j_iload_n dX2_walks_155 rfl ?_
                  refine j_iadd dX2_walks_156 ?_
                  refine t_aldB 3 (by decide) (n := 144) gb dX2_walks_157 rfl (Nat.le_of_ble_eq_true rfl) (oa4 hob) ⟨by omega, by omega⟩ (fun b157 => ?_)
                  refine j_icmp_ge 174 dX2_walks_158 (by decide) ⟨⟨by omega, by omega⟩, ⟨by omega, by omega⟩⟩ (fun c158 => ?_) (fun c158 => ?_)
                  · refine j_iinc [some (.ref m), some (vi k), some (vi a), some (vi (b + 1)), some (vi ((gb ((12 * a) + k)) + (gb ((12 * k) + b))))] dX2_walks_174 rfl (by decide) rfl rfl ?_
                    refine m_goto 112 dX2_walks_177 (by decide) ?_
                    refine mw_forget 4 ?_
                    exact ih112 _ (by omega) _ _ rfl (by omega) (by rw [fwB_s (by omega), ← hgb]; unfold fwS; first | rw [if_pos (by omega)] | rw [if_neg (by omega), upz_self]) (by have h9 := ok4_fw hob (k := k) (a := a) (b := b) (by omega) (by omega) (by omega); unfold fwS at h9; first | (rw [if_pos (by omega)] at h9; exact h9) | exact hob)
                  · refine m_aload_n dX2_walks_161 rfl ?_
                    refine t_geta 4 3 (by decide) dX2_walks_162 q3097 rfl ?_
                    refine j_bipush dX2_walks_165 (by decide) ?_
                    refine j_iload_n dX2_walks_167 rfl ?_
                    refine j_imul dX2_walks_168 ?_
                    refine j_iload_n dX2_walks_169 rfl ?_
                    refine j_iadd dX2_walks_170 ?_
                    refine j_iload dX2_walks_171 rfl ?_
                    refine t_ast 3 (by decide) (n := 144) gb [(4, (upz gb ((12 * a) + b) ((gb ((12 * a) + k)) + (gb ((12 * k) + b)))))] dX2_walks_173 rfl (Nat.le_of_ble_eq_true rfl) ⟨by omega, by omega⟩ rfl rfl ?_
                    refine j_iinc [some (.ref m), some (vi k), some (vi a), some (vi (b + 1)), some (vi ((gb ((12 * a) + k)) + (gb ((12 * k) + b))))] dX2_walks_174 rfl (by decide) rfl rfl ?_
                    refine m_goto 112 dX2_walks_177 (by decide) ?_
                    refine mw_forget 4 ?_
                    exact ih112 _ (by omega) _ _ rfl (by omega) (by rw [fwB_s (by omega), ← hgb]; unfold fwS; first | rw [if_pos (by omega)] | rw [if_neg (by omega), upz_self]) (by have h9 := ok4_fw hob (k := k) (a := a) (b := b) (by omega) (by omega) (by omega); unfold fwS at h9; first | (rw [if_pos (by omega)] at h9; exact h9) | exact hob)
              exact L112 _ _ _ rfl (by omega) rfl hoa
          exact L102 _ _ _ rfl (by omega) rfl ho
      exact L92 _ _ _ rfl (by omega) (by rw [hg]; rw [show a = sg.1 1 by omega]; rfl) (by rw [hg]; exact ok4_wini (hT.2 4) (hT.2 3) (by omega) (by omega))
    · refine j_iconst dX2_walks_10 ?_
      refine j_istore_n [some (.ref m), some (vi a), some (vi 0), none, none] dX2_walks_11 (by decide) rfl rfl ?_
      have L12 : ∀ (N : Nat) (b : Int) (g2 : Int → Int), (sg.1 1 - b).toNat = N → (0 ≤ b ∧ b ≤ sg.1 1) → (g2 = wini (sg.1 1) (sg.2 3) (sg.1 5) a b (sg.2 4)) → MW K yiX2_walks d (tov K h m (ovr sg [] [(4, g2)])) 12 [some (.ref m), some (vi a), some (vi b), none, none] [] Q := by
        intro N
        induction N using Nat.strongRecOn with
        | _ N ih12 =>
        intro b g2 hN12 hb hg2
        refine j_iload_n dX2_walks_12 rfl ?_
        refine m_aload_n dX2_walks_13 rfl ?_
        refine t_geti 1 (by decide) (sg.1 1) dX2_walks_14 q3094 rfl ?_
        refine j_icmp_ge 84 dX2_walks_17 (by decide) ⟨⟨by omega, by omega⟩, ⟨by omega, by omega⟩⟩ (fun c17 => ?_) (fun c17 => ?_)
        · refine j_iinc [some (.ref m), some (vi (a + 1)), some (vi b), none, none] dX2_walks_84 rfl (by decide) rfl rfl ?_
          refine m_goto 2 dX2_walks_87 (by decide) ?_
          refine mw_forget 2 ?_
          exact ih2 _ (by omega) _ _ rfl (by omega) (hg2.trans (wini_next (by omega)))
        · refine m_aload_n dX2_walks_20 rfl ?_
          refine t_geta 3 2 (by decide) dX2_walks_21 q3096 rfl ?_
          refine j_bipush dX2_walks_24 (by decide) ?_
          refine j_iload_n dX2_walks_26 rfl ?_
          refine j_imul dX2_walks_27 ?_
          refine j_iload_n dX2_walks_28 rfl ?_
          refine j_iadd dX2_walks_29 ?_
          refine t_aldB 2 (by decide) (n := 144) (sg.2 3) dX2_walks_30 rfl (Nat.le_of_ble_eq_true rfl) (oa3 (hT.2 3)) ⟨by omega, by omega⟩ (fun b30 => ?_)
          refine j_istore_n [some (.ref m), some (vi a), some (vi b), some (vi ((sg.2 3) ((12 * a) + b))), none] dX2_walks_31 (by decide) rfl rfl ?_
          refine m_aload_n dX2_walks_32 rfl ?_
          refine t_geta 4 3 (by decide) dX2_walks_33 q3097 rfl ?_
          refine j_bipush dX2_walks_36 (by decide) ?_
          refine j_iload_n dX2_walks_38 rfl ?_
          refine j_imul dX2_walks_39 ?_
          refine j_iload_n dX2_walks_40 rfl ?_
          refine j_iadd dX2_walks_41 ?_
          refine j_iload_n dX2_walks_42 rfl ?_
          refine j_iload_n dX2_walks_43 rfl ?_
          refine j_icmp_ne 51 dX2_walks_44 (by decide) ⟨⟨by omega, by omega⟩, ⟨by omega, by omega⟩⟩ (fun c44 => ?_) (fun c44 => ?_)
          · refine j_iload_n dX2_walks_51 rfl ?_
            refine j_if_eq 71 dX2_walks_52 (by decide) ⟨by omega, by omega⟩ (fun c52 => ?_) (fun c52 => ?_)
            · refine j_ldc (1000000) dX2_walks_71 q3264 (by decide) ?_
              refine m_goto 77 dX2_walks_73 (by decide) ?_
              refine t_ast 3 (by decide) (n := 144) g2 [(4, (upz g2 ((12 * a) + b) 1000000))] dX2_walks_77 rfl (Nat.le_of_ble_eq_true rfl) ⟨by omega, by omega⟩ rfl rfl ?_
              refine j_iinc [some (.ref m), some (vi a), some (vi (b + 1)), some (vi ((sg.2 3) ((12 * a) + b))), none] dX2_walks_78 rfl (by decide) rfl rfl ?_
              refine m_goto 12 dX2_walks_81 (by decide) ?_
              refine mw_forget 3 ?_
              exact ih12 _ (by omega) _ _ rfl (by omega) (by rw [hg2]; exact wini_step (by omega) (by omega) (by unfold wval; split <;> first | omega | (split <;> omega)))
            · refine j_iload_n dX2_walks_55 rfl ?_
              refine m_aload_n dX2_walks_56 rfl ?_
              refine t_geti 5 (by decide) (sg.1 5) dX2_walks_57 q3098 rfl ?_
              refine j_icmp_eq 71 dX2_walks_60 (by decide) ⟨⟨by omega, by omega⟩, ⟨by omega, by omega⟩⟩ (fun c60 => ?_) (fun c60 => ?_)
              · refine j_ldc (1000000) dX2_walks_71 q3264 (by decide) ?_
                refine m_goto 77 dX2_walks_73 (by decide) ?_
                refine t_ast 3 (by decide) (n := 144) g2 [(4, (upz g2 ((12 * a) + b) 1000000))] dX2_walks_77 rfl (Nat.le_of_ble_eq_true rfl) ⟨by omega, by omega⟩ rfl rfl ?_
                refine j_iinc [some (.ref m), some (vi a), some (vi (b + 1)), some (vi ((sg.2 3) ((12 * a) + b))), none] dX2_walks_78 rfl (by decide) rfl rfl ?_
                refine m_goto 12 dX2_walks_81 (by decide) ?_
                refine mw_forget 3 ?_
                exact ih12 _ (by omega) _ _ rfl (by omega) (by rw [hg2]; exact wini_step (by omega) (by omega) (by unfold wval; split <;> first | omega | (split <;> omega)))
              · refine j_iload_n dX2_walks_63 rfl ?_
                refine m_aload_n dX2_walks_64 rfl ?_
                refine t_geti 5 (by decide) (sg.1 5) dX2_walks_65 q3098 rfl ?_
                refine j_icmp_ne 76 dX2_walks_68 (by decide) ⟨⟨by omega, by omega⟩, ⟨by omega, by omega⟩⟩ (fun c68 => ?_) (fun c68 => ?_)
                · refine j_iload_n dX2_walks_76 rfl ?_
                  refine t_ast 3 (by decide) (n := 144) g2 [(4, (upz g2 ((12 * a) + b) ((sg.2 3) ((12 * a) + b))))] dX2_walks_77 rfl (Nat.le_of_ble_eq_true rfl) ⟨by omega, by omega⟩ rfl rfl ?_
                  refine j_iinc [some (.ref m), some (vi a), some (vi (b + 1)), some (vi ((sg.2 3) ((12 * a) + b))), none] dX2_walks_78 rfl (by decide) rfl rfl ?_
                  refine m_goto 12 dX2_walks_81 (by decide) ?_
                  refine mw_forget 3 ?_
                  exact ih12 _ (by omega) _ _ rfl (by omega) (by rw [hg2]; exact wini_step (by omega) (by omega) (by unfold wval; split <;> first | omega | (split <;> omega)))
                · refine j_ldc (1000000) dX2_walks_71 q3264 (by decide) ?_
                  refine m_goto 77 dX2_walks_73 (by decide) ?_
                  refine t_ast 3 (by decide) (n := 144) g2 [(4, (upz g2 ((12 * a) + b) 1000000))] dX2_walks_77 rfl (Nat.le_of_ble_eq_true rfl) ⟨by omega, by omega⟩ rfl rfl ?_
                  refine j_iinc [some (.ref m), some (vi a), some (vi (b + 1)), some (vi ((sg.2 3) ((12 * a) + b))), none] dX2_walks_78 rfl (by decide) rfl rfl ?_
                  refine m_goto 12 dX2_walks_81 (by decide) ?_
                  refine mw_forget 3 ?_
                  exact ih12 _ (by omega) _ _ rfl (by omega) (by rw [hg2]; exact wini_step (by omega) (by omega) (by unfold wval; split <;> first | omega | (split <;> omega)))
          · refine j_iconst dX2_walks_47 ?_
            refine m_goto 77 dX2_walks_48 (by decide) ?_
            refine t_ast 3 (by decide) (n := 144) g2 [(4, (upz g2 ((12 * a) + b) 0))] dX2_walks_77 rfl (Nat.le_of_ble_eq_true rfl) ⟨by omega, by omega⟩ rfl rfl ?_
            refine j_iinc [some (.ref m), some (vi a), some (vi (b + 1)), some (vi ((sg.2 3) ((12 * a) + b))), none] dX2_walks_78 rfl (by decide) rfl rfl ?_
            refine m_goto 12 dX2_walks_81 (by decide) ?_
            refine mw_forget 3 ?_
            exact ih12 _ (by omega) _ _ rfl (by omega) (by rw [hg2]; exact wini_step (by omega) (by omega) (by unfold wval; split <;> first | omega | (split <;> omega)))
      exact L12 _ _ _ rfl (by omega) hg
  refine mw_tov (b := ovr sg [] [(4, (sg.2 4))]) (ovr_addA _ _ _ 4) ?_
  exact L2 _ _ _ rfl (by omega) wini_0
