/-! the twin: pairs told, what waiting costs -/
theorem lvL_te {a b : TS} (h : tt a = tt b) {fr l : Int} (hl : lvL a fr l) : lvL b fr l := by
  have h1 : lvL (tt a) fr l := hl
  rw [h] at h1; exact h1
theorem PrP.te {a b : TS} (h : tt a = tt b) {fr to pm : Int} {lv cm : Int → Int} (hp : PrP a fr to pm lv cm) : PrP b fr to pm lv cm :=
  ⟨hp.1, ⟨fun i q1 q2 => ⟨lvL_te h (hp.2.1.1 i q1 q2).1, (hp.2.1.1 i q1 q2).2.1.te h, (hp.2.1.1 i q1 q2).2.2⟩, hp.2.1.2⟩, fun l q1 c q2 q3 => hp.2.2 l (lvL_te h.symm q1) c (q2.te h.symm) q3⟩
theorem c_pairs (K : KT) (d : Nat) (h : MH) (m : Nat) (sg : TS) (fr to day : Int) (hd : 6 ≤ d) (hF : WF sg) (h1 : In fr) (h2 : In to) (h3 : In day) : Mt K yiX2_pairs d [.ref m, vi fr, vi to, vi day] (tov K h m sg) (Rz (Qy K h m sg (fun th v => (¬ ((0 ≤ fr ∧ fr ≤ sg.1 1 - 1) ∧ (0 ≤ to ∧ to ≤ sg.1 1 - 1)) ∧ th = 1) ∨ (((0 ≤ fr ∧ fr ≤ sg.1 1 - 1) ∧ (0 ≤ to ∧ to ≤ sg.1 1 - 1)) ∧ ¬ (fr ≠ to ∧ 0 ≤ day ∧ day ≤ 27) ∧ th = 2) ∨ (((0 ≤ fr ∧ fr ≤ sg.1 1 - 1) ∧ (0 ≤ to ∧ to ≤ sg.1 1 - 1)) ∧ (fr ≠ to ∧ 0 ≤ day ∧ day ≤ 27) ∧ th = 0 ∧ ∃ pm lv cm, PrP (sd sg day) fr to pm lv cm ∧ v = pm)))) := by
  have hT := hF.1
  have := h1.1; have := h1.2; have := h2.1; have := h2.2; have := h3.1; have := h3.2; have f1 := of1 (hT.1 1)
  refine mt_ofQ (by decide) (Nat.le_of_ble_eq_true rfl) (fun Q hQ => ?_)
  show MW K yiX2_pairs d (tov K h m (ovr sg [] [])) 0 [some (.ref m), some (vi fr), some (vi to), some (vi day)] [] Q
  have f33 := of33 (hT.1 33)
  refine m_aload_n dX2_pairs_0 rfl ?_
  refine j_iload_n dX2_pairs_1 rfl ?_
  refine t_inv [(vi fr)] dX2_pairs_2 q3269 q3271 qs78 q3272 rfl (c_isNoStop K 1 h m _ _ (by omega) (hT.1 1) ⟨by omega, by omega⟩) pdX2_isNoStop ⟨Nat.le_of_ble_eq_true rfl, by decide, by omega⟩ (kk_z fun r2 h2 q2 => ?_) kx_z
  obtain ⟨rfl, rfl⟩ := q2
  refine mw_tov (b := ovr sg [(0, (if ¬ (0 ≤ fr ∧ fr ≤ (sg.1 1) - 1) then 1 else 0))] []) (ovr_ovr _ _ _ _ _) ?_
  refine mw_top (x' := bz (¬ (0 ≤ fr ∧ fr ≤ (sg.1 1) - 1))) rfl ?_
  refine j_bz_ne 44 dX2_pairs_5 (by decide) (fun c5 => ?_) (fun c5 => ?_)
  · refine mw_tov (b := ovr sg [(0, 1)] []) (by rw [if_pos c5]) ?_
    refine j_iconst dX2_pairs_44 ?_
    subst hQ; exact j_iret dX2_pairs_45 rfl (⟨_, rfl, (Scr.ovr sg rfl rfl), (hT.ovr (fa1 (mf0 (v := 1) ⟨by first | decide | omega | (split <;> omega) | assumption, by first | decide | omega | (split <;> omega) | assumption⟩) fa0) fa0), by first | exact Or.inl ⟨by omega, rfl⟩ | exact Or.inr (Or.inl ⟨by omega, by omega, rfl⟩)⟩)
  · refine mw_tov (b := ovr sg [(0, 0)] []) (by rw [if_neg c5]) ?_
    refine m_aload_n dX2_pairs_8 rfl ?_
    refine j_iload_n dX2_pairs_9 rfl ?_
    refine t_inv [(vi to)] dX2_pairs_10 q3269 q3271 qs78 q3272 rfl (c_isNoStop K 1 h m _ _ (by omega) (hT.1 1) ⟨by omega, by omega⟩) pdX2_isNoStop ⟨Nat.le_of_ble_eq_true rfl, by decide, by omega⟩ (kk_z fun r10 h10 q10 => ?_) kx_z
    obtain ⟨rfl, rfl⟩ := q10
    refine mw_tov (b := ovr sg [(0, (if ¬ (0 ≤ to ∧ to ≤ (sg.1 1) - 1) then 1 else 0))] []) (ovr_ovr _ _ _ _ _) ?_
    refine mw_top (x' := bz (¬ (0 ≤ to ∧ to ≤ (sg.1 1) - 1))) rfl ?_
    refine j_bz_ne 44 dX2_pairs_13 (by decide) (fun c13 => ?_) (fun c13 => ?_)
    · refine mw_tov (b := ovr sg [(0, 1)] []) (by rw [if_pos c13]) ?_
      refine j_iconst dX2_pairs_44 ?_
      subst hQ; exact j_iret dX2_pairs_45 rfl (⟨_, rfl, (Scr.ovr sg rfl rfl), (hT.ovr (fa1 (mf0 (v := 1) ⟨by first | decide | omega | (split <;> omega) | assumption, by first | decide | omega | (split <;> omega) | assumption⟩) fa0) fa0), by first | exact Or.inl ⟨by omega, rfl⟩ | exact Or.inr (Or.inl ⟨by omega, by omega, rfl⟩)⟩)
    · refine mw_tov (b := ovr sg [(0, 0)] []) (by rw [if_neg c13]) ?_
      refine m_aload_n dX2_pairs_16 rfl ?_
      refine j_iload_n dX2_pairs_17 rfl ?_
      refine j_iload_n dX2_pairs_18 rfl ?_
      refine j_icmp_eq 32 dX2_pairs_19 (by decide) ⟨⟨by omega, by omega⟩, ⟨by omega, by omega⟩⟩ (fun c19 => ?_) (fun c19 => ?_)
      · refine j_iconst dX2_pairs_32 ?_
        refine m_goto 37 dX2_pairs_33 (by decide) ?_
        refine j_iconst dX2_pairs_37 ?_
        refine t_inv [(vi 1), (vi 2)] dX2_pairs_38 q3256 q3258 qs76 q3259 rfl (c_isThrown1 K 0 h m _ _) pdX2_isThrown ⟨Nat.le_of_ble_eq_true rfl, by decide, by omega⟩ (kk_z fun r38 h38 q38 => ?_) kx_z
        obtain ⟨rfl, rfl⟩ := q38
        refine mw_tov (b := ovr sg [(0, 2)] []) (ovr_ovr _ _ _ _ _) ?_
        refine j_if_eq 46 dX2_pairs_41 (by decide) ⟨by decide, by decide⟩ (fun c => absurd c (by decide)) (fun _ => ?_)
        refine j_iconst dX2_pairs_44 ?_
        subst hQ; exact j_iret dX2_pairs_45 rfl (⟨_, rfl, (Scr.ovr sg rfl rfl), (hT.ovr (fa1 (mf0 (v := 2) ⟨by first | decide | omega | (split <;> omega) | assumption, by first | decide | omega | (split <;> omega) | assumption⟩) fa0) fa0), by first | exact Or.inl ⟨by omega, rfl⟩ | exact Or.inr (Or.inl ⟨by omega, by omega, rfl⟩)⟩)
      · refine j_iload_n dX2_pairs_22 rfl ?_
        refine j_iconst dX2_pairs_23 ?_
        refine j_bipush dX2_pairs_24 (by decide) ?_
        refine m_invS [(vi day), (vi 0), (vi 27)] dX2_pairs_26 q3253 q3254 q133 q3255 (c_isIn K 0 _ _ _ _ ⟨by omega, by omega⟩ ⟨by omega, by omega⟩ ⟨by omega, by omega⟩) pdX2_isIn ⟨Nat.le_of_ble_eq_true rfl, by decide, by omega⟩ (kk_z fun r26 h26 q26 => ?_) kx_z
        obtain ⟨rfl, rfl⟩ := q26
        refine mw_top (x' := bz (0 ≤ day ∧ day ≤ 27)) rfl ?_
        refine j_bz_ne 36 dX2_pairs_29 (by decide) (fun c29 => ?_) (fun c29 => ?_)
        · refine j_iconst dX2_pairs_36 ?_
          refine j_iconst dX2_pairs_37 ?_
          refine t_inv [(vi 0), (vi 2)] dX2_pairs_38 q3256 q3258 qs76 q3259 rfl (c_isThrown0 K 0 h m _ _) pdX2_isThrown ⟨Nat.le_of_ble_eq_true rfl, by decide, by omega⟩ (kk_z fun r38 h38 q38 => ?_) kx_z
          obtain ⟨rfl, rfl⟩ := q38
          refine mw_tov (b := ovr sg [(0, 0)] []) (ovr_ovr _ _ _ _ _) ?_
          refine j_if_eq 46 dX2_pairs_41 (by decide) ⟨by decide, by decide⟩ (fun _ => ?_) (fun c => absurd c (by decide))
          refine m_aload_n dX2_pairs_46 rfl ?_
          refine j_iload_n dX2_pairs_47 rfl ?_
          refine j_iload_n dX2_pairs_48 rfl ?_
          refine j_iload_n dX2_pairs_49 rfl ?_
          refine t_inv [(vi fr), (vi to), (vi day)] dX2_pairs_50 q3534 q3536 qs110 q3537 rfl (c_tellPairs K 5 h m _ _ _ _ (by omega) ⟨(hT.ovr (fa1 (mf0 (v := 0) ⟨by first | decide | omega | (split <;> omega) | assumption, by first | decide | omega | (split <;> omega) | assumption⟩) fa0) fa0), hF.2.1, hF.2.2.1, hF.2.2.2⟩ ⟨by omega, by omega⟩ ⟨by omega, show to < (sg.1 1) by omega⟩ ⟨by omega, by omega⟩) pdX2_tellPairs ⟨Nat.le_of_ble_eq_true rfl, by decide, by omega⟩ (kk_v fun h50 q50 => ?_) kx_v
          obtain ⟨x50, pm50, f50, r50, lv50, cm50, rfl, g50, o50, p50, u50, w50, z50⟩ := q50
          refine mw_tov (b := ovr sg [(0, 0), (22, day), (25, x50), (33, pm50)] [(23, f50), (24, r50), (34, lv50), (35, cm50)]) (ovr_ovr _ _ _ _ _) ?_
          have hpb := z50.1
          refine m_aload_n dX2_pairs_53 rfl ?_
          refine t_geti 33 (by decide) pm50 dX2_pairs_54 q3126 rfl ?_
          subst hQ; exact j_iret dX2_pairs_57 rfl (⟨_, rfl, (Scr.ovr sg rfl rfl), (hT.ovr (fa1 (mf0 (v := 0) ⟨by first | decide | omega | (split <;> omega) | assumption, by first | decide | omega | (split <;> omega) | assumption⟩) (fa1 (mf22 (v := day) ⟨by first | decide | omega | (split <;> omega) | assumption, by first | decide | omega | (split <;> omega) | assumption⟩) (fa1 (mf25 (v := x50) ⟨by first | decide | omega | (split <;> omega) | assumption, by first | decide | omega | (split <;> omega) | assumption⟩) (fa1 (mf33 (v := pm50) ⟨by first | decide | omega | (split <;> omega) | assumption, by first | decide | omega | (split <;> omega) | assumption⟩) fa0)))) (fa1 o50 (fa1 p50 (fa1 u50 (fa1 w50 fa0))))), Or.inr (Or.inr ⟨by omega, by omega, rfl, pm50, lv50, cm50, PrP.te (a := sd (ovr sg [(0, 0)] []) day) (b := sd sg day) rfl z50, rfl⟩)⟩)
        · refine j_iconst dX2_pairs_32 ?_
          refine m_goto 37 dX2_pairs_33 (by decide) ?_
          refine j_iconst dX2_pairs_37 ?_
          refine t_inv [(vi 1), (vi 2)] dX2_pairs_38 q3256 q3258 qs76 q3259 rfl (c_isThrown1 K 0 h m _ _) pdX2_isThrown ⟨Nat.le_of_ble_eq_true rfl, by decide, by omega⟩ (kk_z fun r38 h38 q38 => ?_) kx_z
          obtain ⟨rfl, rfl⟩ := q38
          refine mw_tov (b := ovr sg [(0, 2)] []) (ovr_ovr _ _ _ _ _) ?_
          refine j_if_eq 46 dX2_pairs_41 (by decide) ⟨by decide, by decide⟩ (fun c => absurd c (by decide)) (fun _ => ?_)
          refine j_iconst dX2_pairs_44 ?_
          subst hQ; exact j_iret dX2_pairs_45 rfl (⟨_, rfl, (Scr.ovr sg rfl rfl), (hT.ovr (fa1 (mf0 (v := 2) ⟨by first | decide | omega | (split <;> omega) | assumption, by first | decide | omega | (split <;> omega) | assumption⟩) fa0) fa0), by first | exact Or.inl ⟨by omega, rfl⟩ | exact Or.inr (Or.inl ⟨by omega, by omega, rfl⟩)⟩)
theorem c_pair (K : KT) (d : Nat) (h : MH) (m : Nat) (sg : TS) (fr to day ix : Int) (p : Prop) [Decidable p] (hd : 6 ≤ d) (hF : WF sg) (h1 : In fr) (h2 : In to) (h3 : In day) (h4 : In ix) : Mt K yiX2_pair d [.ref m, vi fr, vi to, vi day, vi ix, vi (bz p)] (tov K h m sg) (Rz (Qy K h m sg (fun th v => (¬ ((0 ≤ fr ∧ fr ≤ sg.1 1 - 1) ∧ (0 ≤ to ∧ to ≤ sg.1 1 - 1)) ∧ th = 1) ∨ (((0 ≤ fr ∧ fr ≤ sg.1 1 - 1) ∧ (0 ≤ to ∧ to ≤ sg.1 1 - 1)) ∧ ¬ (fr ≠ to ∧ 0 ≤ day ∧ day ≤ 27) ∧ th = 2) ∨ (((0 ≤ fr ∧ fr ≤ sg.1 1 - 1) ∧ (0 ≤ to ∧ to ≤ sg.1 1 - 1)) ∧ (fr ≠ to ∧ 0 ≤ day ∧ day ≤ 27) ∧ ∃ pm lv cm, PrP (sd sg day) fr to pm lv cm ∧ ((¬ (0 ≤ ix ∧ ix ≤ pm - 1) ∧ th = 3) ∨ ((0 ≤ ix ∧ ix ≤ pm - 1) ∧ th = 0 ∧ v = (if p then cm (pm - 1 - ix) else lv (pm - 1 - ix)))))))) := by
  have hT := hF.1
  have := h1.1; have := h1.2; have := h2.1; have := h2.2; have := h3.1; have := h3.2; have := h4.1; have := h4.2; have f1 := of1 (hT.1 1)
  refine mt_ofQ (by decide) (Nat.le_of_ble_eq_true rfl) (fun Q hQ => ?_)
  show MW K yiX2_pair d (tov K h m (ovr sg [] [])) 0 [some (.ref m), some (vi fr), some (vi to), some (vi day), some (vi ix), some (vi (bz p))] [] Q
  have f33 := of33 (hT.1 33)
  refine m_aload_n dX2_pair_0 rfl ?_
  refine j_iload_n dX2_pair_1 rfl ?_
  refine t_inv [(vi fr)] dX2_pair_2 q3269 q3271 qs78 q3272 rfl (c_isNoStop K 1 h m _ _ (by omega) (hT.1 1) ⟨by omega, by omega⟩) pdX2_isNoStop ⟨Nat.le_of_ble_eq_true rfl, by decide, by omega⟩ (kk_z fun r2 h2 q2 => ?_) kx_z
  obtain ⟨rfl, rfl⟩ := q2
  refine mw_tov (b := ovr sg [(0, (if ¬ (0 ≤ fr ∧ fr ≤ (sg.1 1) - 1) then 1 else 0))] []) (ovr_ovr _ _ _ _ _) ?_
  refine mw_top (x' := bz (¬ (0 ≤ fr ∧ fr ≤ (sg.1 1) - 1))) rfl ?_
  refine j_bz_ne 44 dX2_pair_5 (by decide) (fun c5 => ?_) (fun c5 => ?_)
  · refine mw_tov (b := ovr sg [(0, 1)] []) (by rw [if_pos c5]) ?_
    refine j_iconst dX2_pair_44 ?_
    subst hQ; exact j_iret dX2_pair_45 rfl (⟨_, rfl, (Scr.ovr sg rfl rfl), (hT.ovr (fa1 (mf0 (v := 1) ⟨by first | decide | omega | (split <;> omega) | assumption, by first | decide | omega | (split <;> omega) | assumption⟩) fa0) fa0), by first | exact Or.inl ⟨by omega, rfl⟩ | exact Or.inr (Or.inl ⟨by omega, by omega, rfl⟩)⟩)
  · refine mw_tov (b := ovr sg [(0, 0)] []) (by rw [if_neg c5]) ?_
    refine m_aload_n dX2_pair_8 rfl ?_
    refine j_iload_n dX2_pair_9 rfl ?_
    refine t_inv [(vi to)] dX2_pair_10 q3269 q3271 qs78 q3272 rfl (c_isNoStop K 1 h m _ _ (by omega) (hT.1 1) ⟨by omega, by omega⟩) pdX2_isNoStop ⟨Nat.le_of_ble_eq_true rfl, by decide, by omega⟩ (kk_z fun r10 h10 q10 => ?_) kx_z
    obtain ⟨rfl, rfl⟩ := q10
    refine mw_tov (b := ovr sg [(0, (if ¬ (0 ≤ to ∧ to ≤ (sg.1 1) - 1) then 1 else 0))] []) (ovr_ovr _ _ _ _ _) ?_
    refine mw_top (x' := bz (¬ (0 ≤ to ∧ to ≤ (sg.1 1) - 1))) rfl ?_
    refine j_bz_ne 44 dX2_pair_13 (by decide) (fun c13 => ?_) (fun c13 => ?_)
    · refine mw_tov (b := ovr sg [(0, 1)] []) (by rw [if_pos c13]) ?_
      refine j_iconst dX2_pair_44 ?_
      subst hQ; exact j_iret dX2_pair_45 rfl (⟨_, rfl, (Scr.ovr sg rfl rfl), (hT.ovr (fa1 (mf0 (v := 1) ⟨by first | decide | omega | (split <;> omega) | assumption, by first | decide | omega | (split <;> omega) | assumption⟩) fa0) fa0), by first | exact Or.inl ⟨by omega, rfl⟩ | exact Or.inr (Or.inl ⟨by omega, by omega, rfl⟩)⟩)
    · refine mw_tov (b := ovr sg [(0, 0)] []) (by rw [if_neg c13]) ?_
      refine m_aload_n dX2_pair_16 rfl ?_
      refine j_iload_n dX2_pair_17 rfl ?_
      refine j_iload_n dX2_pair_18 rfl ?_
      refine j_icmp_eq 32 dX2_pair_19 (by decide) ⟨⟨by omega, by omega⟩, ⟨by omega, by omega⟩⟩ (fun c19 => ?_) (fun c19 => ?_)
      · refine j_iconst dX2_pair_32 ?_
        refine m_goto 37 dX2_pair_33 (by decide) ?_
        refine j_iconst dX2_pair_37 ?_
        refine t_inv [(vi 1), (vi 2)] dX2_pair_38 q3256 q3258 qs76 q3259 rfl (c_isThrown1 K 0 h m _ _) pdX2_isThrown ⟨Nat.le_of_ble_eq_true rfl, by decide, by omega⟩ (kk_z fun r38 h38 q38 => ?_) kx_z
        obtain ⟨rfl, rfl⟩ := q38
        refine mw_tov (b := ovr sg [(0, 2)] []) (ovr_ovr _ _ _ _ _) ?_
        refine j_if_eq 46 dX2_pair_41 (by decide) ⟨by decide, by decide⟩ (fun c => absurd c (by decide)) (fun _ => ?_)
        refine j_iconst dX2_pair_44 ?_
        subst hQ; exact j_iret dX2_pair_45 rfl (⟨_, rfl, (Scr.ovr sg rfl rfl), (hT.ovr (fa1 (mf0 (v := 2) ⟨by first | decide | omega | (split <;> omega) | assumption, by first | decide | omega | (split <;> omega) | assumption⟩) fa0) fa0), by first | exact Or.inl ⟨by omega, rfl⟩ | exact Or.inr (Or.inl ⟨by omega, by omega, rfl⟩)⟩)
      · refine j_iload_n dX2_pair_22 rfl ?_
        refine j_iconst dX2_pair_23 ?_
        refine j_bipush dX2_pair_24 (by decide) ?_
        refine m_invS [(vi day), (vi 0), (vi 27)] dX2_pair_26 q3253 q3254 q133 q3255 (c_isIn K 0 _ _ _ _ ⟨by omega, by omega⟩ ⟨by omega, by omega⟩ ⟨by omega, by omega⟩) pdX2_isIn ⟨Nat.le_of_ble_eq_true rfl, by decide, by omega⟩ (kk_z fun r26 h26 q26 => ?_) kx_z
        obtain ⟨rfl, rfl⟩ := q26
        refine mw_top (x' := bz (0 ≤ day ∧ day ≤ 27)) rfl ?_
        refine j_bz_ne 36 dX2_pair_29 (by decide) (fun c29 => ?_) (fun c29 => ?_)
        · refine j_iconst dX2_pair_36 ?_
          refine j_iconst dX2_pair_37 ?_
          refine t_inv [(vi 0), (vi 2)] dX2_pair_38 q3256 q3258 qs76 q3259 rfl (c_isThrown0 K 0 h m _ _) pdX2_isThrown ⟨Nat.le_of_ble_eq_true rfl, by decide, by omega⟩ (kk_z fun r38 h38 q38 => ?_) kx_z
          obtain ⟨rfl, rfl⟩ := q38
          refine mw_tov (b := ovr sg [(0, 0)] []) (ovr_ovr _ _ _ _ _) ?_
          refine j_if_eq 46 dX2_pair_41 (by decide) ⟨by decide, by decide⟩ (fun _ => ?_) (fun c => absurd c (by decide))
          refine m_aload_n dX2_pair_46 rfl ?_
          refine j_iload_n dX2_pair_47 rfl ?_
          refine j_iload_n dX2_pair_48 rfl ?_
          refine j_iload_n dX2_pair_49 rfl ?_
          refine t_inv [(vi fr), (vi to), (vi day)] dX2_pair_50 q3534 q3536 qs110 q3537 rfl (c_tellPairs K 5 h m _ _ _ _ (by omega) ⟨(hT.ovr (fa1 (mf0 (v := 0) ⟨by first | decide | omega | (split <;> omega) | assumption, by first | decide | omega | (split <;> omega) | assumption⟩) fa0) fa0), hF.2.1, hF.2.2.1, hF.2.2.2⟩ ⟨by omega, by omega⟩ ⟨by omega, show to < (sg.1 1) by omega⟩ ⟨by omega, by omega⟩) pdX2_tellPairs ⟨Nat.le_of_ble_eq_true rfl, by decide, by omega⟩ (kk_v fun h50 q50 => ?_) kx_v
          obtain ⟨x50, pm50, f50, r50, lv50, cm50, rfl, g50, o50, p50, u50, w50, z50⟩ := q50
          refine mw_tov (b := ovr sg [(0, 0), (22, day), (25, x50), (33, pm50)] [(23, f50), (24, r50), (34, lv50), (35, cm50)]) (ovr_ovr _ _ _ _ _) ?_
          have hpb := z50.1
          refine m_aload_n dX2_pair_53 rfl ?_
          refine j_iload dX2_pair_54 rfl ?_
          refine j_iconst dX2_pair_56 ?_
          refine m_aload_n dX2_pair_57 rfl ?_
          refine t_geti 33 (by decide) pm50 dX2_pair_58 q3126 rfl ?_
          refine j_iconst dX2_pair_61 ?_
          refine j_isub dX2_pair_62 ?_
          refine m_invS [(vi ix), (vi 0), (vi (pm50 - 1))] dX2_pair_63 q3253 q3254 q133 q3255 (c_isIn K 0 _ _ _ _ ⟨by omega, by omega⟩ ⟨by omega, by omega⟩ ⟨by omega, by omega⟩) pdX2_isIn ⟨Nat.le_of_ble_eq_true rfl, by decide, by omega⟩ (kk_z fun r63 h63 q63 => ?_) kx_z
          obtain ⟨rfl, rfl⟩ := q63
          refine mw_top (x' := bz (0 ≤ ix ∧ ix ≤ (pm50 - 1))) rfl ?_
          refine j_bz_ne 73 dX2_pair_66 (by decide) (fun c66 => ?_) (fun c66 => ?_)
          · refine j_iconst dX2_pair_73 ?_
            refine j_iconst dX2_pair_74 ?_
            refine t_inv [(vi 0), (vi 3)] dX2_pair_75 q3256 q3258 qs76 q3259 rfl (c_isThrown0 K 0 h m _ _) pdX2_isThrown ⟨Nat.le_of_ble_eq_true rfl, by decide, by omega⟩ (kk_z fun r75 h75 q75 => ?_) kx_z
            obtain ⟨rfl, rfl⟩ := q75
            refine mw_tov (b := ovr sg [(0, 0), (22, day), (25, x50), (33, pm50)] [(23, f50), (24, r50), (34, lv50), (35, cm50)]) (ovr_ovr _ _ _ _ _) ?_
            refine j_if_eq 83 dX2_pair_78 (by decide) ⟨by decide, by decide⟩ (fun _ => ?_) (fun c => absurd c (by decide))
            refine j_iload dX2_pair_83 rfl ?_
            refine j_bz_eq 105 dX2_pair_85 (by decide) (fun c85 => ?_) (fun c85 => ?_)
            · refine m_aload_n dX2_pair_105 rfl ?_
              refine t_geta 34 22 (by decide) dX2_pair_106 q3127 rfl ?_
              refine m_aload_n dX2_pair_109 rfl ?_
              refine t_geti 33 (by decide) pm50 dX2_pair_110 q3126 rfl ?_
              refine j_iconst dX2_pair_113 ?_
              refine j_isub dX2_pair_114 ?_
              refine j_iload dX2_pair_115 rfl ?_
              refine j_isub dX2_pair_117 ?_
              refine t_aldB 22 (by decide) (n := 600) lv50 dX2_pair_118 rfl (Nat.le_of_ble_eq_true rfl) (oa34 u50) ⟨by omega, by omega⟩ (fun b118 => ?_)
              subst hQ; exact j_iret dX2_pair_119 rfl (⟨_, rfl, (Scr.ovr sg rfl rfl), (hT.ovr (fa1 (mf0 (v := 0) ⟨by first | decide | omega | (split <;> omega) | assumption, by first | decide | omega | (split <;> omega) | assumption⟩) (fa1 (mf22 (v := day) ⟨by first | decide | omega | (split <;> omega) | assumption, by first | decide | omega | (split <;> omega) | assumption⟩) (fa1 (mf25 (v := x50) ⟨by first | decide | omega | (split <;> omega) | assumption, by first | decide | omega | (split <;> omega) | assumption⟩) (fa1 (mf33 (v := pm50) ⟨by first | decide | omega | (split <;> omega) | assumption, by first | decide | omega | (split <;> omega) | assumption⟩) fa0)))) (fa1 o50 (fa1 p50 (fa1 u50 (fa1 w50 fa0))))), Or.inr (Or.inr ⟨by omega, by omega, pm50, lv50, cm50, PrP.te (a := sd (ovr sg [(0, 0)] []) day) (b := sd sg day) rfl z50, by first | exact Or.inl ⟨by omega, rfl⟩ | exact Or.inr ⟨by omega, rfl, by first | rw [if_pos (by assumption)] | rw [if_neg (by assumption)]⟩⟩)⟩)
            · refine m_aload_n dX2_pair_88 rfl ?_
              refine t_geta 35 23 (by decide) dX2_pair_89 q3128 rfl ?_
              refine m_aload_n dX2_pair_92 rfl ?_
              refine t_geti 33 (by decide) pm50 dX2_pair_93 q3126 rfl ?_
              refine j_iconst dX2_pair_96 ?_
              refine j_isub dX2_pair_97 ?_
              refine j_iload dX2_pair_98 rfl ?_
              refine j_isub dX2_pair_100 ?_
              refine t_aldB 23 (by decide) (n := 600) cm50 dX2_pair_101 rfl (Nat.le_of_ble_eq_true rfl) (oa35 w50) ⟨by omega, by omega⟩ (fun b101 => ?_)
              refine m_goto 119 dX2_pair_102 (by decide) ?_
              subst hQ; exact j_iret dX2_pair_119 rfl (⟨_, rfl, (Scr.ovr sg rfl rfl), (hT.ovr (fa1 (mf0 (v := 0) ⟨by first | decide | omega | (split <;> omega) | assumption, by first | decide | omega | (split <;> omega) | assumption⟩) (fa1 (mf22 (v := day) ⟨by first | decide | omega | (split <;> omega) | assumption, by first | decide | omega | (split <;> omega) | assumption⟩) (fa1 (mf25 (v := x50) ⟨by first | decide | omega | (split <;> omega) | assumption, by first | decide | omega | (split <;> omega) | assumption⟩) (fa1 (mf33 (v := pm50) ⟨by first | decide | omega | (split <;> omega) | assumption, by first | decide | omega | (split <;> omega) | assumption⟩) fa0)))) (fa1 o50 (fa1 p50 (fa1 u50 (fa1 w50 fa0))))), Or.inr (Or.inr ⟨by omega, by omega, pm50, lv50, cm50, PrP.te (a := sd (ovr sg [(0, 0)] []) day) (b := sd sg day) rfl z50, by first | exact Or.inl ⟨by omega, rfl⟩ | exact Or.inr ⟨by omega, rfl, by first | rw [if_pos (by assumption)] | rw [if_neg (by assumption)]⟩⟩)⟩)
          · refine j_iconst dX2_pair_69 ?_
            refine m_goto 74 dX2_pair_70 (by decide) ?_
            refine j_iconst dX2_pair_74 ?_
            refine t_inv [(vi 1), (vi 3)] dX2_pair_75 q3256 q3258 qs76 q3259 rfl (c_isThrown1 K 0 h m _ _) pdX2_isThrown ⟨Nat.le_of_ble_eq_true rfl, by decide, by omega⟩ (kk_z fun r75 h75 q75 => ?_) kx_z
            obtain ⟨rfl, rfl⟩ := q75
            refine mw_tov (b := ovr sg [(0, 3), (22, day), (25, x50), (33, pm50)] [(23, f50), (24, r50), (34, lv50), (35, cm50)]) (ovr_ovr _ _ _ _ _) ?_
            refine j_if_eq 83 dX2_pair_78 (by decide) ⟨by decide, by decide⟩ (fun c => absurd c (by decide)) (fun _ => ?_)
            refine j_iconst dX2_pair_81 ?_
            subst hQ; exact j_iret dX2_pair_82 rfl (⟨_, rfl, (Scr.ovr sg rfl rfl), (hT.ovr (fa1 (mf0 (v := 3) ⟨by first | decide | omega | (split <;> omega) | assumption, by first | decide | omega | (split <;> omega) | assumption⟩) (fa1 (mf22 (v := day) ⟨by first | decide | omega | (split <;> omega) | assumption, by first | decide | omega | (split <;> omega) | assumption⟩) (fa1 (mf25 (v := x50) ⟨by first | decide | omega | (split <;> omega) | assumption, by first | decide | omega | (split <;> omega) | assumption⟩) (fa1 (mf33 (v := pm50) ⟨by first | decide | omega | (split <;> omega) | assumption, by first | decide | omega | (split <;> omega) | assumption⟩) fa0)))) (fa1 o50 (fa1 p50 (fa1 u50 (fa1 w50 fa0))))), Or.inr (Or.inr ⟨by omega, by omega, pm50, lv50, cm50, PrP.te (a := sd (ovr sg [(0, 0)] []) day) (b := sd sg day) rfl z50, by first | exact Or.inl ⟨by omega, rfl⟩ | exact Or.inr ⟨by omega, rfl, by first | rw [if_pos (by assumption)] | rw [if_neg (by assumption)]⟩⟩)⟩)
        · refine j_iconst dX2_pair_32 ?_
          refine m_goto 37 dX2_pair_33 (by decide) ?_
          refine j_iconst dX2_pair_37 ?_
          refine t_inv [(vi 1), (vi 2)] dX2_pair_38 q3256 q3258 qs76 q3259 rfl (c_isThrown1 K 0 h m _ _) pdX2_isThrown ⟨Nat.le_of_ble_eq_true rfl, by decide, by omega⟩ (kk_z fun r38 h38 q38 => ?_) kx_z
          obtain ⟨rfl, rfl⟩ := q38
          refine mw_tov (b := ovr sg [(0, 2)] []) (ovr_ovr _ _ _ _ _) ?_
          refine j_if_eq 46 dX2_pair_41 (by decide) ⟨by decide, by decide⟩ (fun c => absurd c (by decide)) (fun _ => ?_)
          refine j_iconst dX2_pair_44 ?_
          subst hQ; exact j_iret dX2_pair_45 rfl (⟨_, rfl, (Scr.ovr sg rfl rfl), (hT.ovr (fa1 (mf0 (v := 2) ⟨by first | decide | omega | (split <;> omega) | assumption, by first | decide | omega | (split <;> omega) | assumption⟩) fa0) fa0), by first | exact Or.inl ⟨by omega, rfl⟩ | exact Or.inr (Or.inl ⟨by omega, by omega, rfl⟩)⟩)
/-! what waiting costs -/
abbrev rnP (sg : TS) (day t : Int) : Prop := sg.2 7 (28 * sg.2 9 t + day) ≠ 0
/-- a call of a trip that runs -/
def vlQ (sg : TS) (day t c : Int) : Prop := (0 ≤ t ∧ t < sg.1 8) ∧ (0 ≤ c ∧ c < sg.2 10 t) ∧ rnP sg day t
/-- what waits must be -/
def gdW (sg : TS) (day mask : Int) (W : Int → Int) : Prop := (∀ t c, vlQ sg day t c → latOf sg day t c ≤ W (8 * t + c)) ∧ (∀ t c, vlQ sg day t c → 1 ≤ c → W (8 * t + c - 1) ≤ W (8 * t + c)) ∧ ∀ w, 0 ≤ w → w < sg.1 36 → mask / 2 ^ w.toNat % 2 = 1 → rnP sg day (sg.2 37 w) → rnP sg day (sg.2 39 w) → missB sg W w ≤ W (8 * sg.2 39 w + sg.2 40 w)
def leW (sg : TS) (day : Int) (W W' : Int → Int) : Prop := ∀ t c, vlQ sg day t c → W (8 * t + c) ≤ W' (8 * t + c)
/-- wishes are of calls that are there -/
def wsOk (sg : TS) : Prop := ∀ w, 0 ≤ w → w < sg.1 36 → (0 ≤ sg.2 37 w ∧ sg.2 37 w < sg.1 8) ∧ (1 ≤ sg.2 38 w ∧ sg.2 38 w < sg.2 10 (sg.2 37 w)) ∧ (0 ≤ sg.2 39 w ∧ sg.2 39 w < sg.1 8) ∧ (0 ≤ sg.2 40 w ∧ sg.2 40 w < sg.2 10 (sg.2 39 w))
def CoI (sg : TS) (day mask : Int) (W : Int → Int) : Prop := okA 42 W ∧ (∀ t c, vlQ sg day t c → latOf sg day t c ≤ W (8 * t + c) ∧ W (8 * t + c) ≤ 240) ∧ ∀ W', gdW sg day mask W' → leW sg day W W'
def smW (sg : TS) (day : Int) (W : Int → Int) : Nat := smN (fun q => if (q : Int) / 8 < sg.1 8 ∧ (q : Int) % 8 < sg.2 10 ((q : Int) / 8) ∧ rnP sg day ((q : Int) / 8) then (240 - W (q : Int)).toNat else 0) 192
theorem CoI.up {sg : TS} {day mask : Int} {W : Int → Int} (h : CoI sg day mask W) (hT : TB sg) {t c q x : Int} (hv : vlQ sg day t c) (hq : q = 8 * t + c) (hx : W q < x ∧ x ≤ 240) (hl : ∀ W', gdW sg day mask W' → x ≤ W' q) : CoI sg day mask (upz W q x) ∧ smW sg day (upz W q x) < smW sg day W := by
  obtain ⟨h1, h2, h3⟩ := h
  obtain ⟨⟨v1, v2⟩, ⟨v3, v4⟩, v5⟩ := id hv
  have n1 := of8 (hT.1 8)
  have n2 := oa10 (hT.2 10) t v1 (by omega)
  have h0 := oa42 h1 q (by omega) (by omega)
  refine ⟨⟨mu42 h1 (by omega), fun t' c' g => ?_, fun W' g t' c' g2 => ?_⟩, ?_⟩
  · have := h2 t' c' g
    unfold upz
    split
    · next e => rw [e] at this; omega
    · exact this
  · have := h3 W' g t' c' g2
    unfold upz
    split
    · next e => rw [e]; exact hl W' g
    · exact this
  · have e1 : ((q.toNat : Nat) : Int) = q := by omega
    have e2 : q / 8 = t := by omega
    have e3 : q % 8 = c := by omega
    refine smN_lt (j := q.toNat) (fun k hk => ?_) (by omega) ?_
    · split
      · unfold upz; split
        · next e => rw [e]; omega
        · exact Nat.le_refl _
      · exact Nat.le_refl _
    · rw [e1, e2, e3, if_pos ⟨v2, v4, v5⟩, if_pos ⟨v2, v4, v5⟩, upz_at]; omega
theorem missB_le {sg : TS} {day : Int} {W W' : Int → Int} {w : Int} (hw : wsOk sg) (h : leW sg day W W') (h0 : 0 ≤ w ∧ w < sg.1 36) (hr : rnP sg day (sg.2 37 w)) : missB sg W w ≤ missB sg W' w := by
  obtain ⟨a, b, c, d⟩ := hw w h0.1 h0.2
  have := h (sg.2 37 w) (sg.2 38 w - 1) ⟨a, ⟨by omega, by omega⟩, hr⟩
  rw [show 8 * sg.2 37 w + (sg.2 38 w - 1) = 8 * sg.2 37 w + sg.2 38 w - 1 by omega] at this
  unfold missB; omega
/-- pass over the trips -/
def adT (sg : TS) (day : Int) (W : Int → Int) (t c : Int) : Prop := ∀ t' c', vlQ sg day t' c' → 1 ≤ c' → (t' < t ∨ (t' = t ∧ c' < c)) → W (8 * t' + c' - 1) ≤ W (8 * t' + c')
def adW (sg : TS) (day mask : Int) (W : Int → Int) (n : Int) : Prop := ∀ w, 0 ≤ w → w < n → mask / 2 ^ w.toNat % 2 = 1 → rnP sg day (sg.2 37 w) → rnP sg day (sg.2 39 w) → missB sg W w ≤ W (8 * sg.2 39 w + sg.2 40 w)
def PsI (sg : TS) (day : Int) (W : Int → Int) (g : Int) (W2 : Int → Int) (Z : Prop) : Prop := (g = 0 ∧ W2 = W ∧ Z) ∨ (g = 1 ∧ smW sg day W2 < smW sg day W)
theorem PsI.imp {sg : TS} {day g : Int} {W W2 : Int → Int} {Z Z' : Prop} (h : PsI sg day W g W2 Z) (hz : Z → Z') : PsI sg day W g W2 Z' := h.elim (fun ⟨a, b, c⟩ => Or.inl ⟨a, b, hz c⟩) Or.inr
theorem PsI.chg {sg : TS} {day g : Int} {W W2 W3 : Int → Int} {Z Z' : Prop} (h : PsI sg day W g W2 Z) (hs : smW sg day W3 < smW sg day W2) : PsI sg day W 1 W3 Z' := by
  rcases h with ⟨a, b, c⟩ | ⟨a, b⟩
  · subst b; exact Or.inr ⟨rfl, hs⟩
  · exact Or.inr ⟨rfl, by omega⟩
theorem PsI.keep {sg : TS} {day g : Int} {W W2 : Int → Int} {Z Z' : Prop} (h : PsI sg day W g W2 Z) (hz : Z → W2 = W → Z') : PsI sg day W g W2 Z' := by
  rcases h with ⟨a, b, c⟩ | h
  · exact Or.inl ⟨a, b, hz c b⟩
  · exact Or.inr h
def cstT (sg : TS) (day : Int) (W : Int → Int) : Nat → Int
  | 0 => 0
  | t + 1 => cstT sg day W t + (if rnP sg day (t : Int) ∧ 1 < sg.2 10 (t : Int) then W (8 * (t : Int) + sg.2 10 (t : Int) - 2) else 0)
theorem cstT_s {sg : TS} {day t : Int} {W : Int → Int} (ht : 0 ≤ t) : cstT sg day W (t + 1).toNat = cstT sg day W t.toNat + (if rnP sg day t ∧ 1 < sg.2 10 t then W (8 * t + sg.2 10 t - 2) else 0) := by
  have e : (t + 1).toNat = t.toNat + 1 := by omega
  rw [e]; show cstT sg day W t.toNat + (if rnP sg day (t.toNat : Int) ∧ 1 < sg.2 10 (t.toNat : Int) then W (8 * (t.toNat : Int) + sg.2 10 (t.toNat : Int) - 2) else 0) = _
  rw [show (t.toNat : Int) = t by omega]
/-- a wish that isn't held and is missed -/
def msP (sg : TS) (day mask : Int) (W : Int → Int) (w : Int) : Prop := mask / 2 ^ w.toNat % 2 = 0 ∧ (rnP sg day (sg.2 37 w) ∧ rnP sg day (sg.2 39 w)) ∧ W (8 * sg.2 39 w + sg.2 40 w) < missB sg W w
def cstW (sg : TS) (day mask : Int) (W : Int → Int) (b : Int) : Nat → Int
  | 0 => b
  | w + 1 => cstW sg day mask W b w + (if mask / 2 ^ w % 2 = 0 ∧ (rnP sg day (sg.2 37 (w : Int)) ∧ rnP sg day (sg.2 39 (w : Int))) ∧ W (8 * sg.2 39 (w : Int) + sg.2 40 (w : Int)) < missB sg W (w : Int) then 60 * sg.2 41 (w : Int) else 0)
theorem cstW_s {sg : TS} {day mask b w : Int} {W : Int → Int} (hw : 0 ≤ w) : cstW sg day mask W b (w + 1).toNat = cstW sg day mask W b w.toNat + (if mask / 2 ^ w.toNat % 2 = 0 ∧ (rnP sg day (sg.2 37 w) ∧ rnP sg day (sg.2 39 w)) ∧ W (8 * sg.2 39 w + sg.2 40 w) < missB sg W w then 60 * sg.2 41 w else 0) := by
  have e : (w + 1).toNat = w.toNat + 1 := by omega
  rw [e]
  have e2 : ((w.toNat : Nat) : Int) = w := by omega
  show cstW sg day mask W b w.toNat + (if mask / 2 ^ w.toNat % 2 = 0 ∧ (rnP sg day (sg.2 37 (w.toNat : Int)) ∧ rnP sg day (sg.2 39 (w.toNat : Int))) ∧ W (8 * sg.2 39 (w.toNat : Int) + sg.2 40 (w.toNat : Int)) < missB sg W (w.toNat : Int) then 60 * sg.2 41 (w.toNat : Int) else 0) = _
  rw [e2]
def costP (sg : TS) (day mask v : Int) : Prop := (v = -1 ∧ ∀ W', gdW sg day mask W' → ∃ t c, vlQ sg day t c ∧ 240 < W' (8 * t + c)) ∨ ∃ W, gdW sg day mask W ∧ (∀ W', gdW sg day mask W' → leW sg day W W') ∧ (∀ t c, vlQ sg day t c → W (8 * t + c) ≤ 240) ∧ (0 ≤ v ∧ v ≤ 50000) ∧ v = cstW sg day mask W (cstT sg day W (sg.1 8).toNat) (sg.1 36).toNat
theorem missB_b {sg : TS} {W : Int → Int} {w : Int} (hT : TB sg) (hw : wsOk sg) (h0 : 0 ≤ w ∧ w < sg.1 36) (hW : 0 ≤ W (8 * sg.2 37 w + sg.2 38 w - 1) ∧ W (8 * sg.2 37 w + sg.2 38 w - 1) ≤ 240) : -2879 ≤ missB sg W w ∧ missB sg W w ≤ 3149 := by
  obtain ⟨a, b, c, d⟩ := hw w h0.1 h0.2
  have f8 := of8 (hT.1 8)
  have n1 := oa10 (hT.2 10) (sg.2 37 w) a.1 (by omega)
  have n2 := oa10 (hT.2 10) (sg.2 39 w) c.1 (by omega)
  have z1 := oa12 (hT.2 12) (8 * sg.2 37 w + sg.2 38 w) (by omega) (by omega)
  have z2 := oa11 (hT.2 11) (8 * sg.2 37 w + sg.2 38 w) (by omega) (by omega)
  have z3 := oa2 (hT.2 2) (sg.2 11 (8 * sg.2 37 w + sg.2 38 w)) (by omega) (by omega)
  have z4 := oa13 (hT.2 13) (8 * sg.2 39 w + sg.2 40 w) (by omega) (by omega)
  unfold missB; omega
