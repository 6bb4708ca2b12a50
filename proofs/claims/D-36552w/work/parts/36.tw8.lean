/-! the twin: runs, changes, wishes, rides told, wall, figures -/
theorem c_runs (K : KT) (d : Nat) (h : MH) (m : Nat) (sg : TS) (t : Int) (y : Int) (hd : 0 ≤ d) (hT : TB sg) (i_t : In t) (i_y : In y) (ht : 0 ≤ t ∧ t < 24) (hy : 0 ≤ y ∧ y ≤ 27) : Mt K yiX2_runs d [.ref m, vi t, vi y] (tov K h m sg) (Rz fun v h' => h' = tov K h m sg ∧ v = sg.2 7 (28 * sg.2 9 t + y) ∧ (0 ≤ v ∧ v ≤ 1)) := by
  have := i_t.1; have := i_t.2; have := i_y.1; have := i_y.2
  refine mt_ofQ (by decide) (Nat.le_of_ble_eq_true rfl) (fun Q hQ => ?_)
  show MW K yiX2_runs d (tov K h m (ovr sg [] [])) 0 [some (.ref m), some (vi t), some (vi y)] [] Q
  refine m_aload_n dX2_runs_0 rfl ?_
  refine t_geta 7 4 (by decide) dX2_runs_1 q3100 rfl ?_
  refine j_bipush dX2_runs_4 (by decide) ?_
  refine m_aload_n dX2_runs_6 rfl ?_
  refine t_geta 9 5 (by decide) dX2_runs_7 q3102 rfl ?_
  refine j_iload_n dX2_runs_10 rfl ?_
  refine t_aldB 5 (by decide) (n := 24) (sg.2 9) dX2_runs_11 rfl (Nat.le_of_ble_eq_true rfl) (oa9 (hT.2 9)) ⟨by omega, by omega⟩ (fun b11 => ?_)
  refine j_imul dX2_runs_12 ?_
  refine j_iload_n dX2_runs_13 rfl ?_
  refine j_iadd dX2_runs_14 ?_
  refine t_zldB (sg.2 7) dX2_runs_15 rfl (oa7 (hT.2 7)) ⟨by omega, by omega⟩ (fun b15 => ?_)
  subst hQ; exact j_zret dX2_runs_16 rfl (by omega) (⟨rfl, rfl, ⟨by omega, by omega⟩⟩)
theorem c_isChangeWrong (K : KT) (d : Nat) (h : MH) (m : Nat) (sg : TS) (t : Int) (c : Int) (o : Int) (oc : Int) (hd : 0 ≤ d) (hT : TB sg) (i_t : In t) (i_c : In c) (i_o : In o) (i_oc : In oc) (ht : 0 ≤ o ∧ o < 24) : Mt K yiX2_isChangeWrong d [.ref m, vi t, vi c, vi o, vi oc] (tov K h m sg) (Rz fun v h' => h' = tov K h m sg ∧ v = bz (t = o ∨ c = 0 ∨ oc = sg.2 10 o - 1)) := by
  have := i_t.1; have := i_t.2; have := i_c.1; have := i_c.2; have := i_o.1; have := i_o.2; have := i_oc.1; have := i_oc.2
  refine mt_ofQ (by decide) (Nat.le_of_ble_eq_true rfl) (fun Q hQ => ?_)
  show MW K yiX2_isChangeWrong d (tov K h m (ovr sg [] [])) 0 [some (.ref m), some (vi t), some (vi c), some (vi o), some (vi oc)] [] Q
  refine j_iload_n dX2_isChangeWrong_0 rfl ?_
  refine j_iload_n dX2_isChangeWrong_1 rfl ?_
  refine j_icmp_eq 22 dX2_isChangeWrong_2 (by decide) ⟨⟨by omega, by omega⟩, ⟨by omega, by omega⟩⟩ (fun c2 => ?_) (fun c2 => ?_)
  · refine j_iconst dX2_isChangeWrong_22 ?_
    refine m_goto 27 dX2_isChangeWrong_23 (by decide) ?_
    subst hQ; exact j_zret dX2_isChangeWrong_27 rfl (by omega) (⟨rfl, by first | exact bz_t (by omega) | exact bz_f (by omega)⟩)
  · refine j_iload_n dX2_isChangeWrong_5 rfl ?_
    refine j_if_eq 22 dX2_isChangeWrong_6 (by decide) ⟨by omega, by omega⟩ (fun c6 => ?_) (fun c6 => ?_)
    · refine j_iconst dX2_isChangeWrong_22 ?_
      refine m_goto 27 dX2_isChangeWrong_23 (by decide) ?_
      subst hQ; exact j_zret dX2_isChangeWrong_27 rfl (by omega) (⟨rfl, by first | exact bz_t (by omega) | exact bz_f (by omega)⟩)
    · refine j_iload dX2_isChangeWrong_9 rfl ?_
      refine m_aload_n dX2_isChangeWrong_11 rfl ?_
      refine t_geta 10 6 (by decide) dX2_isChangeWrong_12 q3103 rfl ?_
      refine j_iload_n dX2_isChangeWrong_15 rfl ?_
      refine t_aldB 6 (by decide) (n := 24) (sg.2 10) dX2_isChangeWrong_16 rfl (Nat.le_of_ble_eq_true rfl) (oa10 (hT.2 10)) ⟨by omega, by omega⟩ (fun b16 => ?_)
      refine j_iconst dX2_isChangeWrong_17 ?_
      refine j_isub dX2_isChangeWrong_18 ?_
      refine j_icmp_ne 26 dX2_isChangeWrong_19 (by decide) ⟨⟨by omega, by omega⟩, ⟨by omega, by omega⟩⟩ (fun c19 => ?_) (fun c19 => ?_)
      · refine j_iconst dX2_isChangeWrong_26 ?_
        subst hQ; exact j_zret dX2_isChangeWrong_27 rfl (by omega) (⟨rfl, by first | exact bz_t (by omega) | exact bz_f (by omega)⟩)
      · refine j_iconst dX2_isChangeWrong_22 ?_
        refine m_goto 27 dX2_isChangeWrong_23 (by decide) ?_
        subst hQ; exact j_zret dX2_isChangeWrong_27 rfl (by omega) (⟨rfl, by first | exact bz_t (by omega) | exact bz_f (by omega)⟩)
theorem c_holds (K : KT) (d : Nat) (h : MH) (m : Nat) (sg : TS) (y : Int) (t : Int) (c : Int) (o : Int) (oc : Int) (hd : 4 ≤ d) (hT : TB sg) (i_y : In y) (i_t : In t) (i_c : In c) (i_o : In o) (i_oc : In oc)  : Mt K yiX2_holds d [.ref m, vi y, vi t, vi c, vi o, vi oc] (tov K h m sg) (Rz fun v h' => (¬ (((0 ≤ t ∧ t ≤ sg.1 8 - 1) ∧ (0 ≤ c ∧ c ≤ sg.2 10 t - 1)) ∧ ((0 ≤ o ∧ o ≤ sg.1 8 - 1) ∧ (0 ≤ oc ∧ oc ≤ sg.2 10 o - 1))) ∧ h' = tov K h m (ovr sg [(0, 1)] [])) ∨ ((((0 ≤ t ∧ t ≤ sg.1 8 - 1) ∧ (0 ≤ c ∧ c ≤ sg.2 10 t - 1)) ∧ ((0 ≤ o ∧ o ≤ sg.1 8 - 1) ∧ (0 ≤ oc ∧ oc ≤ sg.2 10 o - 1))) ∧ ¬ ((0 ≤ y ∧ y ≤ 27) ∧ t ≠ o ∧ c ≠ 0 ∧ oc ≠ sg.2 10 o - 1) ∧ h' = tov K h m (ovr sg [(0, 2)] [])) ∨ ((((0 ≤ t ∧ t ≤ sg.1 8 - 1) ∧ (0 ≤ c ∧ c ≤ sg.2 10 t - 1)) ∧ ((0 ≤ o ∧ o ≤ sg.1 8 - 1) ∧ (0 ≤ oc ∧ oc ≤ sg.2 10 o - 1))) ∧ ((0 ≤ y ∧ y ≤ 27) ∧ t ≠ o ∧ c ≠ 0 ∧ oc ≠ sg.2 10 o - 1) ∧ (sg.2 7 (28 * sg.2 9 t + y) = 0 ∨ sg.2 7 (28 * sg.2 9 o + y) = 0) ∧ h' = tov K h m (ovr sg [(0, 3)] [])) ∨ ((((0 ≤ t ∧ t ≤ sg.1 8 - 1) ∧ (0 ≤ c ∧ c ≤ sg.2 10 t - 1)) ∧ ((0 ≤ o ∧ o ≤ sg.1 8 - 1) ∧ (0 ≤ oc ∧ oc ≤ sg.2 10 o - 1))) ∧ ((0 ≤ y ∧ y ≤ 27) ∧ t ≠ o ∧ c ≠ 0 ∧ oc ≠ sg.2 10 o - 1) ∧ (sg.2 7 (28 * sg.2 9 t + y) ≠ 0 ∧ sg.2 7 (28 * sg.2 9 o + y) ≠ 0) ∧ 1000000 ≤ sg.2 4 (12 * sg.2 11 (8 * t + c) + sg.2 11 (8 * o + oc)) ∧ h' = tov K h m (ovr sg [(0, 4), (22, y)] [])) ∨ ((((0 ≤ t ∧ t ≤ sg.1 8 - 1) ∧ (0 ≤ c ∧ c ≤ sg.2 10 t - 1)) ∧ ((0 ≤ o ∧ o ≤ sg.1 8 - 1) ∧ (0 ≤ oc ∧ oc ≤ sg.2 10 o - 1))) ∧ ((0 ≤ y ∧ y ≤ 27) ∧ t ≠ o ∧ c ≠ 0 ∧ oc ≠ sg.2 10 o - 1) ∧ (sg.2 7 (28 * sg.2 9 t + y) ≠ 0 ∧ sg.2 7 (28 * sg.2 9 o + y) ≠ 0) ∧ sg.2 4 (12 * sg.2 11 (8 * t + c) + sg.2 11 (8 * o + oc)) < 1000000 ∧ h' = tov K h m (ovr sg [(0, 0), (22, y)] []) ∧ v = bz (cmI (sd sg y) (24 + t) c + (if sg.2 11 (8 * t + c) = sg.2 11 (8 * o + oc) then (sd sg y).2 2 (sg.2 11 (8 * t + c)) else (sd sg y).2 4 (12 * sg.2 11 (8 * t + c) + sg.2 11 (8 * o + oc))) ≤ lvI (sd sg y) (24 + o) oc))) := by
  have := i_y.1; have := i_y.2; have := i_t.1; have := i_t.2; have := i_c.1; have := i_c.2; have := i_o.1; have := i_o.2; have := i_oc.1; have := i_oc.2
  have f8 := of8 (hT.1 8)
  have b10 := oa10 (hT.2 10) t
  have b10o := oa10 (hT.2 10) o
  have hTs := fun (g : 0 ≤ y ∧ y ≤ 27) => hT.sd g
  refine mt_ofQ (by decide) (Nat.le_of_ble_eq_true rfl) (fun Q hQ => ?_)
  show MW K yiX2_holds d (tov K h m (ovr sg [] [])) 0 [some (.ref m), some (vi y), some (vi t), some (vi c), some (vi o), some (vi oc), none, none, none] [] Q
  refine m_aload_n dX2_holds_0 rfl ?_
  refine j_iload_n dX2_holds_1 rfl ?_
  refine j_iload_n dX2_holds_2 rfl ?_
  refine t_inv [(vi t), (vi c)] dX2_holds_3 q3337 q3339 qs83 q3340 rfl (c_isNoCall K 2 h m _ _ _ (by omega) hT ⟨by omega, by omega⟩ ⟨by omega, by omega⟩) pdX2_isNoCall ⟨Nat.le_of_ble_eq_true rfl, by decide, by omega⟩ (kk_z fun r3 h3 q3 => ?_) kx_z
  obtain ⟨rfl, rfl⟩ := q3
  refine mw_tov (b := ovr sg [(0, (if ¬ (0 ≤ t ∧ t ≤ (sg.1 8) - 1) ∨ ¬ (0 ≤ c ∧ c ≤ (sg.2 10) t - 1) then 1 else 0))] []) (ovr_ovr _ _ _ _ _) ?_
  refine mw_top (x' := bz (¬ (0 ≤ t ∧ t ≤ (sg.1 8) - 1) ∨ ¬ (0 ≤ c ∧ c ≤ (sg.2 10) t - 1))) rfl ?_
  refine j_bz_ne 88 dX2_holds_6 (by decide) (fun c6 => ?_) (fun c6 => ?_)
  · refine mw_tov (b := ovr sg [(0, 1)] []) (by rw [if_pos c6]) ?_
    refine j_iconst dX2_holds_88 ?_
    subst hQ; exact j_zret dX2_holds_89 rfl (by omega) (by first | exact Or.inl ⟨(by first | omega | rfl | assumption), (by first | omega | rfl | assumption)⟩ | exact Or.inr (Or.inl ⟨(by first | omega | rfl | assumption), (by first | omega | rfl | assumption), (by first | omega | rfl | assumption)⟩) | exact Or.inr (Or.inr (Or.inl ⟨(by first | omega | rfl | assumption), (by first | omega | rfl | assumption), (by first | omega | rfl | assumption), (by first | omega | rfl | assumption)⟩)) | exact Or.inr (Or.inr (Or.inr (Or.inl ⟨(by first | omega | rfl | assumption), (by first | omega | rfl | assumption), (by first | omega | rfl | assumption), (by first | omega | rfl | assumption), (by first | omega | rfl | assumption)⟩))) | exact Or.inr (Or.inr (Or.inr (Or.inr (⟨(by first | omega | rfl | assumption), (by first | omega | rfl | assumption), (by first | omega | rfl | assumption), (by first | omega | rfl | assumption), (by first | omega | rfl | assumption), (by first | omega | rfl | assumption)⟩)))))
  · refine mw_tov (b := ovr sg [(0, 0)] []) (by rw [if_neg c6]) ?_
    refine m_aload_n dX2_holds_9 rfl ?_
    refine j_iload dX2_holds_10 rfl ?_
    refine j_iload dX2_holds_12 rfl ?_
    refine t_inv [(vi o), (vi oc)] dX2_holds_14 q3337 q3339 qs83 q3340 rfl (c_isNoCall K 2 h m _ _ _ (by omega) (hT.ovr (fa1 (mf0 (v := 0) ⟨by first | decide | omega | (split <;> omega) | assumption, by first | decide | omega | (split <;> omega) | assumption⟩) fa0) fa0) ⟨by omega, by omega⟩ ⟨by omega, by omega⟩) pdX2_isNoCall ⟨Nat.le_of_ble_eq_true rfl, by decide, by omega⟩ (kk_z fun r14 h14 q14 => ?_) kx_z
    obtain ⟨rfl, rfl⟩ := q14
    refine mw_tov (b := ovr sg [(0, (if ¬ (0 ≤ o ∧ o ≤ (sg.1 8) - 1) ∨ ¬ (0 ≤ oc ∧ oc ≤ (sg.2 10) o - 1) then 1 else 0))] []) (ovr_ovr _ _ _ _ _) ?_
    refine mw_top (x' := bz (¬ (0 ≤ o ∧ o ≤ (sg.1 8) - 1) ∨ ¬ (0 ≤ oc ∧ oc ≤ (sg.2 10) o - 1))) rfl ?_
    refine j_bz_ne 88 dX2_holds_17 (by decide) (fun c17 => ?_) (fun c17 => ?_)
    · refine mw_tov (b := ovr sg [(0, 1)] []) (by rw [if_pos c17]) ?_
      refine j_iconst dX2_holds_88 ?_
      subst hQ; exact j_zret dX2_holds_89 rfl (by omega) (by first | exact Or.inl ⟨(by first | omega | rfl | assumption), (by first | omega | rfl | assumption)⟩ | exact Or.inr (Or.inl ⟨(by first | omega | rfl | assumption), (by first | omega | rfl | assumption), (by first | omega | rfl | assumption)⟩) | exact Or.inr (Or.inr (Or.inl ⟨(by first | omega | rfl | assumption), (by first | omega | rfl | assumption), (by first | omega | rfl | assumption), (by first | omega | rfl | assumption)⟩)) | exact Or.inr (Or.inr (Or.inr (Or.inl ⟨(by first | omega | rfl | assumption), (by first | omega | rfl | assumption), (by first | omega | rfl | assumption), (by first | omega | rfl | assumption), (by first | omega | rfl | assumption)⟩))) | exact Or.inr (Or.inr (Or.inr (Or.inr (⟨(by first | omega | rfl | assumption), (by first | omega | rfl | assumption), (by first | omega | rfl | assumption), (by first | omega | rfl | assumption), (by first | omega | rfl | assumption), (by first | omega | rfl | assumption)⟩)))))
    · refine mw_tov (b := ovr sg [(0, 0)] []) (by rw [if_neg c17]) ?_
      refine m_aload_n dX2_holds_20 rfl ?_
      refine j_iload_n dX2_holds_21 rfl ?_
      refine j_iconst dX2_holds_22 ?_
      refine j_bipush dX2_holds_23 (by decide) ?_
      refine m_invS [(vi y), (vi 0), (vi 27)] dX2_holds_25 q3253 q3254 q133 q3255 (c_isIn K 0 _ _ _ _ ⟨by omega, by omega⟩ ⟨by omega, by omega⟩ ⟨by omega, by omega⟩) pdX2_isIn ⟨Nat.le_of_ble_eq_true rfl, by decide, by omega⟩ (kk_z fun r25 h25 q25 => ?_) kx_z
      obtain ⟨rfl, rfl⟩ := q25
      refine mw_top (x' := bz (0 ≤ y ∧ y ≤ 27)) rfl ?_
      refine j_bz_eq 44 dX2_holds_28 (by decide) (fun c28 => ?_) (fun c28 => ?_)
      · refine j_iconst dX2_holds_44 ?_
        refine m_goto 49 dX2_holds_45 (by decide) ?_
        refine j_iconst dX2_holds_49 ?_
        refine t_inv [(vi 1), (vi 2)] dX2_holds_50 q3256 q3258 qs76 q3259 rfl (c_isThrown1 K 0 h m _ _) pdX2_isThrown ⟨Nat.le_of_ble_eq_true rfl, by decide, by omega⟩ (kk_z fun r50 h50 q50 => ?_) kx_z
        obtain ⟨rfl, rfl⟩ := q50
        refine mw_tov (b := ovr sg [(0, 2)] []) (ovr_ovr _ _ _ _ _) ?_
        refine j_if_ne 88 dX2_holds_53 (by decide) ⟨by decide, by decide⟩ (fun _ => ?_) (fun c => absurd c (by decide))
        refine j_iconst dX2_holds_88 ?_
        subst hQ; exact j_zret dX2_holds_89 rfl (by omega) (by first | exact Or.inl ⟨(by first | omega | rfl | assumption), (by first | omega | rfl | assumption)⟩ | exact Or.inr (Or.inl ⟨(by first | omega | rfl | assumption), (by first | omega | rfl | assumption), (by first | omega | rfl | assumption)⟩) | exact Or.inr (Or.inr (Or.inl ⟨(by first | omega | rfl | assumption), (by first | omega | rfl | assumption), (by first | omega | rfl | assumption), (by first | omega | rfl | assumption)⟩)) | exact Or.inr (Or.inr (Or.inr (Or.inl ⟨(by first | omega | rfl | assumption), (by first | omega | rfl | assumption), (by first | omega | rfl | assumption), (by first | omega | rfl | assumption), (by first | omega | rfl | assumption)⟩))) | exact Or.inr (Or.inr (Or.inr (Or.inr (⟨(by first | omega | rfl | assumption), (by first | omega | rfl | assumption), (by first | omega | rfl | assumption), (by first | omega | rfl | assumption), (by first | omega | rfl | assumption), (by first | omega | rfl | assumption)⟩)))))
      · refine m_aload_n dX2_holds_31 rfl ?_
        refine j_iload_n dX2_holds_32 rfl ?_
        refine j_iload_n dX2_holds_33 rfl ?_
        refine j_iload dX2_holds_34 rfl ?_
        refine j_iload dX2_holds_36 rfl ?_
        refine t_inv [(vi t), (vi c), (vi o), (vi oc)] dX2_holds_38 q3554 q3556 qs113 q3557 rfl (c_isChangeWrong K 0 h m _ _ _ _ _ (by omega) (hT.ovr (fa1 (mf0 (v := 0) ⟨by first | decide | omega | (split <;> omega) | assumption, by first | decide | omega | (split <;> omega) | assumption⟩) fa0) fa0) ⟨by omega, by omega⟩ ⟨by omega, by omega⟩ ⟨by omega, by omega⟩ ⟨by omega, by omega⟩ ⟨by omega, by omega⟩) pdX2_isChangeWrong ⟨Nat.le_of_ble_eq_true rfl, by decide, by omega⟩ (kk_z fun r38 h38 q38 => ?_) kx_z
        obtain ⟨rfl, rfl⟩ := q38
        refine mw_top (x' := bz (t = o ∨ c = 0 ∨ oc = (sg.2 10) o - 1)) rfl ?_
        refine j_bz_eq 48 dX2_holds_41 (by decide) (fun c41 => ?_) (fun c41 => ?_)
        · refine j_iconst dX2_holds_48 ?_
          refine j_iconst dX2_holds_49 ?_
          refine t_inv [(vi 0), (vi 2)] dX2_holds_50 q3256 q3258 qs76 q3259 rfl (c_isThrown0 K 0 h m _ _) pdX2_isThrown ⟨Nat.le_of_ble_eq_true rfl, by decide, by omega⟩ (kk_z fun r50 h50 q50 => ?_) kx_z
          obtain ⟨rfl, rfl⟩ := q50
          refine mw_tov (b := ovr sg [(0, 0)] []) (ovr_ovr _ _ _ _ _) ?_
          refine j_if_ne 88 dX2_holds_53 (by decide) ⟨by decide, by decide⟩ (fun c => absurd c (by decide)) (fun _ => ?_)
          refine m_aload_n dX2_holds_56 rfl ?_
          refine m_aload_n dX2_holds_57 rfl ?_
          refine j_iload_n dX2_holds_58 rfl ?_
          refine j_iload_n dX2_holds_59 rfl ?_
          refine t_inv [(vi t), (vi y)] dX2_holds_60 q3558 q3560 qs114 q3561 rfl (c_runs K 0 h m _ _ _ (by omega) (hT.ovr (fa1 (mf0 (v := 0) ⟨by first | decide | omega | (split <;> omega) | assumption, by first | decide | omega | (split <;> omega) | assumption⟩) fa0) fa0) ⟨by omega, by omega⟩ ⟨by omega, by omega⟩ ⟨by omega, by omega⟩ ⟨by omega, by omega⟩) pdX2_runs ⟨Nat.le_of_ble_eq_true rfl, by decide, by omega⟩ (kk_z fun r60 h60 q60 => ?_) kx_z
          obtain ⟨rfl, rfl, b60⟩ := q60
          refine mw_top (x' := ((sg.2 7) (28 * (sg.2 9) t + y))) rfl ?_
          change 0 ≤ ((sg.2 7) (28 * (sg.2 9) t + y)) ∧ ((sg.2 7) (28 * (sg.2 9) t + y)) ≤ 1 at b60
          refine j_if_eq 76 dX2_holds_63 (by decide) ⟨by omega, by omega⟩ (fun c63 => ?_) (fun c63 => ?_)
          · refine j_iconst dX2_holds_76 ?_
            refine m_goto 81 dX2_holds_77 (by decide) ?_
            refine j_iconst dX2_holds_81 ?_
            refine t_inv [(vi 1), (vi 3)] dX2_holds_82 q3256 q3258 qs76 q3259 rfl (c_isThrown1 K 0 h m _ _) pdX2_isThrown ⟨Nat.le_of_ble_eq_true rfl, by decide, by omega⟩ (kk_z fun r82 h82 q82 => ?_) kx_z
            obtain ⟨rfl, rfl⟩ := q82
            refine mw_tov (b := ovr sg [(0, 3)] []) (ovr_ovr _ _ _ _ _) ?_
            refine j_if_eq 90 dX2_holds_85 (by decide) ⟨by decide, by decide⟩ (fun c => absurd c (by decide)) (fun _ => ?_)
            refine j_iconst dX2_holds_88 ?_
            subst hQ; exact j_zret dX2_holds_89 rfl (by omega) (by first | exact Or.inl ⟨(by first | omega | rfl | assumption), (by first | omega | rfl | assumption)⟩ | exact Or.inr (Or.inl ⟨(by first | omega | rfl | assumption), (by first | omega | rfl | assumption), (by first | omega | rfl | assumption)⟩) | exact Or.inr (Or.inr (Or.inl ⟨(by first | omega | rfl | assumption), (by first | omega | rfl | assumption), (by first | omega | rfl | assumption), (by first | omega | rfl | assumption)⟩)) | exact Or.inr (Or.inr (Or.inr (Or.inl ⟨(by first | omega | rfl | assumption), (by first | omega | rfl | assumption), (by first | omega | rfl | assumption), (by first | omega | rfl | assumption), (by first | omega | rfl | assumption)⟩))) | exact Or.inr (Or.inr (Or.inr (Or.inr (⟨(by first | omega | rfl | assumption), (by first | omega | rfl | assumption), (by first | omega | rfl | assumption), (by first | omega | rfl | assumption), (by first | omega | rfl | assumption), (by first | omega | rfl | assumption)⟩)))))
          · refine m_aload_n dX2_holds_66 rfl ?_
            refine j_iload dX2_holds_67 rfl ?_
            refine j_iload_n dX2_holds_69 rfl ?_
            refine t_inv [(vi o), (vi y)] dX2_holds_70 q3558 q3560 qs114 q3561 rfl (c_runs K 0 h m _ _ _ (by omega) (hT.ovr (fa1 (mf0 (v := 0) ⟨by first | decide | omega | (split <;> omega) | assumption, by first | decide | omega | (split <;> omega) | assumption⟩) fa0) fa0) ⟨by omega, by omega⟩ ⟨by omega, by omega⟩ ⟨by omega, by omega⟩ ⟨by omega, by omega⟩) pdX2_runs ⟨Nat.le_of_ble_eq_true rfl, by decide, by omega⟩ (kk_z fun r70 h70 q70 => ?_) kx_z
            obtain ⟨rfl, rfl, b70⟩ := q70
            refine mw_top (x' := ((sg.2 7) (28 * (sg.2 9) o + y))) rfl ?_
            change 0 ≤ ((sg.2 7) (28 * (sg.2 9) o + y)) ∧ ((sg.2 7) (28 * (sg.2 9) o + y)) ≤ 1 at b70
            refine j_if_ne 80 dX2_holds_73 (by decide) ⟨by omega, by omega⟩ (fun c73 => ?_) (fun c73 => ?_)
            · refine j_iconst dX2_holds_80 ?_
              refine j_iconst dX2_holds_81 ?_
              refine t_inv [(vi 0), (vi 3)] dX2_holds_82 q3256 q3258 qs76 q3259 rfl (c_isThrown0 K 0 h m _ _) pdX2_isThrown ⟨Nat.le_of_ble_eq_true rfl, by decide, by omega⟩ (kk_z fun r82 h82 q82 => ?_) kx_z
              obtain ⟨rfl, rfl⟩ := q82
              refine mw_tov (b := ovr sg [(0, 0)] []) (ovr_ovr _ _ _ _ _) ?_
              refine j_if_eq 90 dX2_holds_85 (by decide) ⟨by decide, by decide⟩ (fun _ => ?_) (fun c => absurd c (by decide))
              refine m_aload_n dX2_holds_90 rfl ?_
              refine j_iload_n dX2_holds_91 rfl ?_
              refine t_puti 22 (by decide) [(0, 0), (22, y)] dX2_holds_92 q3115 rfl rfl rfl rfl ?_
              refine m_aload_n dX2_holds_95 rfl ?_
              refine t_geta 11 7 (by decide) dX2_holds_96 q3104 rfl ?_
              refine j_bipush dX2_holds_99 (by decide) ?_
              refine j_iload_n dX2_holds_101 rfl ?_
              refine j_imul dX2_holds_102 ?_
              refine j_iload_n dX2_holds_103 rfl ?_
              refine j_iadd dX2_holds_104 ?_
              refine t_aldB 7 (by decide) (n := 192) (sg.2 11) dX2_holds_105 rfl (Nat.le_of_ble_eq_true rfl) (oa11 (hT.2 11)) ⟨by omega, by omega⟩ (fun b105 => ?_)
              refine j_istore [some (.ref m), some (vi y), some (vi t), some (vi c), some (vi o), some (vi oc), some (vi ((sg.2 11) ((8 * t) + c))), none, none] dX2_holds_106 (by decide) rfl rfl ?_
              refine m_aload_n dX2_holds_108 rfl ?_
              refine t_geta 11 7 (by decide) dX2_holds_109 q3104 rfl ?_
              refine j_bipush dX2_holds_112 (by decide) ?_
              refine j_iload dX2_holds_114 rfl ?_
              refine j_imul dX2_holds_116 ?_
              refine j_iload dX2_holds_117 rfl ?_
              refine j_iadd dX2_holds_119 ?_
              refine t_aldB 7 (by decide) (n := 192) (sg.2 11) dX2_holds_120 rfl (Nat.le_of_ble_eq_true rfl) (oa11 (hT.2 11)) ⟨by omega, by omega⟩ (fun b120 => ?_)
              refine j_istore [some (.ref m), some (vi y), some (vi t), some (vi c), some (vi o), some (vi oc), some (vi ((sg.2 11) ((8 * t) + c))), some (vi ((sg.2 11) ((8 * o) + oc))), none] dX2_holds_121 (by decide) rfl rfl ?_
              refine m_aload_n dX2_holds_123 rfl ?_
              refine m_aload_n dX2_holds_124 rfl ?_
              refine t_geta 4 3 (by decide) dX2_holds_125 q3097 rfl ?_
              refine j_bipush dX2_holds_128 (by decide) ?_
              refine j_iload dX2_holds_130 rfl ?_
              refine j_imul dX2_holds_132 ?_
              refine j_iload dX2_holds_133 rfl ?_
              refine j_iadd dX2_holds_135 ?_
              refine t_aldB 3 (by decide) (n := 144) (sg.2 4) dX2_holds_136 rfl (Nat.le_of_ble_eq_true rfl) (oa4 (hT.2 4)) ⟨by omega, by omega⟩ (fun b136 => ?_)
              refine j_ldc (1000000) dX2_holds_137 q3264 (by decide) ?_
              refine j_icmp_lt 146 dX2_holds_139 (by decide) ⟨⟨by omega, by omega⟩, ⟨by omega, by omega⟩⟩ (fun c139 => ?_) (fun c139 => ?_)
              · refine j_iconst dX2_holds_146 ?_
                refine j_iconst dX2_holds_147 ?_
                refine t_inv [(vi 0), (vi 4)] dX2_holds_148 q3256 q3258 qs76 q3259 rfl (c_isThrown0 K 0 h m _ _) pdX2_isThrown ⟨Nat.le_of_ble_eq_true rfl, by decide, by omega⟩ (kk_z fun r148 h148 q148 => ?_) kx_z
                obtain ⟨rfl, rfl⟩ := q148
                refine mw_tov (b := ovr sg [(0, 0), (22, y)] []) (ovr_ovr _ _ _ _ _) ?_
                have hT1 := hTs (by omega)
                refine j_if_eq 156 dX2_holds_151 (by decide) ⟨by decide, by decide⟩ (fun _ => ?_) (fun c => absurd c (by decide))
                refine mw_tov (b := ovr (sd sg y) [(0, 0)] []) (ovr_ovr sg [(22, y)] [(0, 0)] [] []).symm ?_
                have bc := cmI_b hT1 (r := 24 + t) (c := c) ⟨by omega, by omega⟩ ⟨by omega, by omega⟩
                have bl := lvI_b hT1 (r := 24 + o) (c := oc) ⟨by omega, by omega⟩ ⟨by omega, by omega⟩
                refine j_iload dX2_holds_156 rfl ?_
                refine j_iload dX2_holds_158 rfl ?_
                refine j_icmp_ne 173 dX2_holds_160 (by decide) ⟨⟨by omega, by omega⟩, ⟨by omega, by omega⟩⟩ (fun c160 => ?_) (fun c160 => ?_)
                · refine m_aload_n dX2_holds_173 rfl ?_
                  refine t_geta 4 3 (by decide) dX2_holds_174 q3097 rfl ?_
                  refine j_bipush dX2_holds_177 (by decide) ?_
                  refine j_iload dX2_holds_179 rfl ?_
                  refine j_imul dX2_holds_181 ?_
                  refine j_iload dX2_holds_182 rfl ?_
                  refine j_iadd dX2_holds_184 ?_
                  refine t_aldB 3 (by decide) (n := 144) ((sd sg y).2 4) dX2_holds_185 rfl (Nat.le_of_ble_eq_true rfl) (oa4 (hT1.2 4)) ⟨by omega, by omega⟩ (fun b185 => ?_)
                  refine j_istore [some (.ref m), some (vi y), some (vi t), some (vi c), some (vi o), some (vi oc), some (vi ((sg.2 11) ((8 * t) + c))), some (vi ((sg.2 11) ((8 * o) + oc))), some (vi (((sd sg y).2 4) ((12 * ((sg.2 11) ((8 * t) + c))) + ((sg.2 11) ((8 * o) + oc)))))] dX2_holds_186 (by decide) rfl rfl ?_
                  refine m_aload_n dX2_holds_188 rfl ?_
                  refine j_bipush dX2_holds_189 (by decide) ?_
                  refine j_iload_n dX2_holds_191 rfl ?_
                  refine j_iadd dX2_holds_192 ?_
                  refine j_iload_n dX2_holds_193 rfl ?_
                  refine t_inv [(vi (24 + t)), (vi c)] dX2_holds_194 q3445 q3447 qs99 q3448 rfl (c_comesAt K 2 h m _ _ _ (by omega) (hT1.ovr (fa1 (mf0 (v := 0) ⟨by first | decide | omega | (split <;> omega) | assumption, by first | decide | omega | (split <;> omega) | assumption⟩) fa0) fa0) ⟨by omega, by omega⟩ ⟨by omega, by omega⟩) pdX2_comesAt ⟨Nat.le_of_ble_eq_true rfl, by decide, by omega⟩ (kk_z fun r194 h194 q194 => ?_) kx_z
                  obtain ⟨rfl, rfl⟩ := q194
                  refine mw_top (x' := cmI (sd sg y) (24 + t) c) rfl ?_
                  refine j_iload dX2_holds_197 rfl ?_
                  refine j_iadd dX2_holds_199 ?_
                  refine m_aload_n dX2_holds_200 rfl ?_
                  refine j_bipush dX2_holds_201 (by decide) ?_
                  refine j_iload dX2_holds_203 rfl ?_
                  refine j_iadd dX2_holds_205 ?_
                  refine j_iload dX2_holds_206 rfl ?_
                  refine t_inv [(vi (24 + o)), (vi oc)] dX2_holds_208 q3453 q3455 qs101 q3456 rfl (c_leavesAt K 2 h m _ _ _ (by omega) (hT1.ovr (fa1 (mf0 (v := 0) ⟨by first | decide | omega | (split <;> omega) | assumption, by first | decide | omega | (split <;> omega) | assumption⟩) fa0) fa0) ⟨by omega, by omega⟩ ⟨by omega, by omega⟩) pdX2_leavesAt ⟨Nat.le_of_ble_eq_true rfl, by decide, by omega⟩ (kk_z fun r208 h208 q208 => ?_) kx_z
                  obtain ⟨rfl, rfl⟩ := q208
                  refine mw_top (x' := lvI (sd sg y) (24 + o) oc) rfl ?_
                  refine j_icmp_gt 218 dX2_holds_211 (by decide) ⟨⟨by omega, by omega⟩, ⟨by omega, by omega⟩⟩ (fun c211 => ?_) (fun c211 => ?_)
                  · refine j_iconst dX2_holds_218 ?_
                    subst hQ; exact j_zret dX2_holds_219 rfl (by omega) (Or.inr (Or.inr (Or.inr (Or.inr ⟨by omega, by omega, by omega, by omega, congrArg (tov K h m) (ovr_ovr sg [(22, y)] [(0, 0)] [] []), by first | (rw [if_pos (by omega)]; first | exact bz_t (by omega) | exact bz_f (by omega)) | (rw [if_neg (by omega)]; first | exact bz_t (by omega) | exact bz_f (by omega))⟩))))
                  · refine j_iconst dX2_holds_214 ?_
                    refine m_goto 219 dX2_holds_215 (by decide) ?_
                    subst hQ; exact j_zret dX2_holds_219 rfl (by omega) (Or.inr (Or.inr (Or.inr (Or.inr ⟨by omega, by omega, by omega, by omega, congrArg (tov K h m) (ovr_ovr sg [(22, y)] [(0, 0)] [] []), by first | (rw [if_pos (by omega)]; first | exact bz_t (by omega) | exact bz_f (by omega)) | (rw [if_neg (by omega)]; first | exact bz_t (by omega) | exact bz_f (by omega))⟩))))
                · refine m_aload_n dX2_holds_163 rfl ?_
                  refine t_geta 2 1 (by decide) dX2_holds_164 q3095 rfl ?_
                  refine j_iload dX2_holds_167 rfl ?_
                  refine t_aldB 1 (by decide) (n := 12) ((sd sg y).2 2) dX2_holds_169 rfl (Nat.le_of_ble_eq_true rfl) (oa2 (hT1.2 2)) ⟨by omega, by omega⟩ (fun b169 => ?_)
                  refine m_goto 186 dX2_holds_170 (by decide) ?_
                  refine j_istore [some (.ref m), some (vi y), some (vi t), some (vi c), some (vi o), some (vi oc), some (vi ((sg.2 11) ((8 * t) + c))), some (vi ((sg.2 11) ((8 * o) + oc))), some (vi (((sd sg y).2 2) ((sg.2 11) ((8 * t) + c))))] dX2_holds_186 (by decide) rfl rfl ?_
                  refine m_aload_n dX2_holds_188 rfl ?_
                  refine j_bipush dX2_holds_189 (by decide) ?_
                  refine j_iload_n dX2_holds_191 rfl ?_
                  refine j_iadd dX2_holds_192 ?_
                  refine j_iload_n dX2_holds_193 rfl ?_
                  refine t_inv [(vi (24 + t)), (vi c)] dX2_holds_194 q3445 q3447 qs99 q3448 rfl (c_comesAt K 2 h m _ _ _ (by omega) (hT1.ovr (fa1 (mf0 (v := 0) ⟨by first | decide | omega | (split <;> omega) | assumption, by first | decide | omega | (split <;> omega) | assumption⟩) fa0) fa0) ⟨by omega, by omega⟩ ⟨by omega, by omega⟩) pdX2_comesAt ⟨Nat.le_of_ble_eq_true rfl, by decide, by omega⟩ (kk_z fun r194 h194 q194 => ?_) kx_z
                  obtain ⟨rfl, rfl⟩ := q194
                  refine mw_top (x' := cmI (sd sg y) (24 + t) c) rfl ?_
                  refine j_iload dX2_holds_197 rfl ?_
                  refine j_iadd dX2_holds_199 ?_
                  refine m_aload_n dX2_holds_200 rfl ?_
                  refine j_bipush dX2_holds_201 (by decide) ?_
                  refine j_iload dX2_holds_203 rfl ?_
                  refine j_iadd dX2_holds_205 ?_
                  refine j_iload dX2_holds_206 rfl ?_
                  refine t_inv [(vi (24 + o)), (vi oc)] dX2_holds_208 q3453 q3455 qs101 q3456 rfl (c_leavesAt K 2 h m _ _ _ (by omega) (hT1.ovr (fa1 (mf0 (v := 0) ⟨by first | decide | omega | (split <;> omega) | assumption, by first | decide | omega | (split <;> omega) | assumption⟩) fa0) fa0) ⟨by omega, by omega⟩ ⟨by omega, by omega⟩) pdX2_leavesAt ⟨Nat.le_of_ble_eq_true rfl, by decide, by omega⟩ (kk_z fun r208 h208 q208 => ?_) kx_z
                  obtain ⟨rfl, rfl⟩ := q208
                  refine mw_top (x' := lvI (sd sg y) (24 + o) oc) rfl ?_
                  refine j_icmp_gt 218 dX2_holds_211 (by decide) ⟨⟨by omega, by omega⟩, ⟨by omega, by omega⟩⟩ (fun c211 => ?_) (fun c211 => ?_)
                  · refine j_iconst dX2_holds_218 ?_
                    subst hQ; exact j_zret dX2_holds_219 rfl (by omega) (Or.inr (Or.inr (Or.inr (Or.inr ⟨by omega, by omega, by omega, by omega, congrArg (tov K h m) (ovr_ovr sg [(22, y)] [(0, 0)] [] []), by first | (rw [if_pos (by omega)]; first | exact bz_t (by omega) | exact bz_f (by omega)) | (rw [if_neg (by omega)]; first | exact bz_t (by omega) | exact bz_f (by omega))⟩))))
                  · refine j_iconst dX2_holds_214 ?_
                    refine m_goto 219 dX2_holds_215 (by decide) ?_
                    subst hQ; exact j_zret dX2_holds_219 rfl (by omega) (Or.inr (Or.inr (Or.inr (Or.inr ⟨by omega, by omega, by omega, by omega, congrArg (tov K h m) (ovr_ovr sg [(22, y)] [(0, 0)] [] []), by first | (rw [if_pos (by omega)]; first | exact bz_t (by omega) | exact bz_f (by omega)) | (rw [if_neg (by omega)]; first | exact bz_t (by omega) | exact bz_f (by omega))⟩))))
              · refine j_iconst dX2_holds_142 ?_
                refine m_goto 147 dX2_holds_143 (by decide) ?_
                refine j_iconst dX2_holds_147 ?_
                refine t_inv [(vi 1), (vi 4)] dX2_holds_148 q3256 q3258 qs76 q3259 rfl (c_isThrown1 K 0 h m _ _) pdX2_isThrown ⟨Nat.le_of_ble_eq_true rfl, by decide, by omega⟩ (kk_z fun r148 h148 q148 => ?_) kx_z
                obtain ⟨rfl, rfl⟩ := q148
                refine mw_tov (b := ovr sg [(0, 4), (22, y)] []) (ovr_ovr _ _ _ _ _) ?_
                have hT1 := hTs (by omega)
                refine j_if_eq 156 dX2_holds_151 (by decide) ⟨by decide, by decide⟩ (fun c => absurd c (by decide)) (fun _ => ?_)
                refine j_iconst dX2_holds_154 ?_
                subst hQ; exact j_zret dX2_holds_155 rfl (by omega) (by first | exact Or.inl ⟨(by first | omega | rfl | assumption), (by first | omega | rfl | assumption)⟩ | exact Or.inr (Or.inl ⟨(by first | omega | rfl | assumption), (by first | omega | rfl | assumption), (by first | omega | rfl | assumption)⟩) | exact Or.inr (Or.inr (Or.inl ⟨(by first | omega | rfl | assumption), (by first | omega | rfl | assumption), (by first | omega | rfl | assumption), (by first | omega | rfl | assumption)⟩)) | exact Or.inr (Or.inr (Or.inr (Or.inl ⟨(by first | omega | rfl | assumption), (by first | omega | rfl | assumption), (by first | omega | rfl | assumption), (by first | omega | rfl | assumption), (by first | omega | rfl | assumption)⟩))) | exact Or.inr (Or.inr (Or.inr (Or.inr (⟨(by first | omega | rfl | assumption), (by first | omega | rfl | assumption), (by first | omega | rfl | assumption), (by first | omega | rfl | assumption), (by first | omega | rfl | assumption), (by first | omega | rfl | assumption)⟩)))))
            · refine j_iconst dX2_holds_76 ?_
              refine m_goto 81 dX2_holds_77 (by decide) ?_
              refine j_iconst dX2_holds_81 ?_
              refine t_inv [(vi 1), (vi 3)] dX2_holds_82 q3256 q3258 qs76 q3259 rfl (c_isThrown1 K 0 h m _ _) pdX2_isThrown ⟨Nat.le_of_ble_eq_true rfl, by decide, by omega⟩ (kk_z fun r82 h82 q82 => ?_) kx_z
              obtain ⟨rfl, rfl⟩ := q82
              refine mw_tov (b := ovr sg [(0, 3)] []) (ovr_ovr _ _ _ _ _) ?_
              refine j_if_eq 90 dX2_holds_85 (by decide) ⟨by decide, by decide⟩ (fun c => absurd c (by decide)) (fun _ => ?_)
              refine j_iconst dX2_holds_88 ?_
              subst hQ; exact j_zret dX2_holds_89 rfl (by omega) (by first | exact Or.inl ⟨(by first | omega | rfl | assumption), (by first | omega | rfl | assumption)⟩ | exact Or.inr (Or.inl ⟨(by first | omega | rfl | assumption), (by first | omega | rfl | assumption), (by first | omega | rfl | assumption)⟩) | exact Or.inr (Or.inr (Or.inl ⟨(by first | omega | rfl | assumption), (by first | omega | rfl | assumption), (by first | omega | rfl | assumption), (by first | omega | rfl | assumption)⟩)) | exact Or.inr (Or.inr (Or.inr (Or.inl ⟨(by first | omega | rfl | assumption), (by first | omega | rfl | assumption), (by first | omega | rfl | assumption), (by first | omega | rfl | assumption), (by first | omega | rfl | assumption)⟩))) | exact Or.inr (Or.inr (Or.inr (Or.inr (⟨(by first | omega | rfl | assumption), (by first | omega | rfl | assumption), (by first | omega | rfl | assumption), (by first | omega | rfl | assumption), (by first | omega | rfl | assumption), (by first | omega | rfl | assumption)⟩)))))
        · refine j_iconst dX2_holds_44 ?_
          refine m_goto 49 dX2_holds_45 (by decide) ?_
          refine j_iconst dX2_holds_49 ?_
          refine t_inv [(vi 1), (vi 2)] dX2_holds_50 q3256 q3258 qs76 q3259 rfl (c_isThrown1 K 0 h m _ _) pdX2_isThrown ⟨Nat.le_of_ble_eq_true rfl, by decide, by omega⟩ (kk_z fun r50 h50 q50 => ?_) kx_z
          obtain ⟨rfl, rfl⟩ := q50
          refine mw_tov (b := ovr sg [(0, 2)] []) (ovr_ovr _ _ _ _ _) ?_
          refine j_if_ne 88 dX2_holds_53 (by decide) ⟨by decide, by decide⟩ (fun _ => ?_) (fun c => absurd c (by decide))
          refine j_iconst dX2_holds_88 ?_
          subst hQ; exact j_zret dX2_holds_89 rfl (by omega) (by first | exact Or.inl ⟨(by first | omega | rfl | assumption), (by first | omega | rfl | assumption)⟩ | exact Or.inr (Or.inl ⟨(by first | omega | rfl | assumption), (by first | omega | rfl | assumption), (by first | omega | rfl | assumption)⟩) | exact Or.inr (Or.inr (Or.inl ⟨(by first | omega | rfl | assumption), (by first | omega | rfl | assumption), (by first | omega | rfl | assumption), (by first | omega | rfl | assumption)⟩)) | exact Or.inr (Or.inr (Or.inr (Or.inl ⟨(by first | omega | rfl | assumption), (by first | omega | rfl | assumption), (by first | omega | rfl | assumption), (by first | omega | rfl | assumption), (by first | omega | rfl | assumption)⟩))) | exact Or.inr (Or.inr (Or.inr (Or.inr (⟨(by first | omega | rfl | assumption), (by first | omega | rfl | assumption), (by first | omega | rfl | assumption), (by first | omega | rfl | assumption), (by first | omega | rfl | assumption), (by first | omega | rfl | assumption)⟩)))))
theorem c_wish (K : KT) (d : Nat) (h : MH) (m : Nat) (sg : TS) (t : Int) (c : Int) (o : Int) (oc : Int) (n : Int) (hd : 4 ≤ d) (hT : TB sg) (i_t : In t) (i_c : In c) (i_o : In o) (i_oc : In oc) (i_n : In n)  : Mt K yiX2_wish d [.ref m, vi t, vi c, vi o, vi oc, vi n] (tov K h m sg) (Rz fun v h' => (¬ (((0 ≤ t ∧ t ≤ sg.1 8 - 1) ∧ (0 ≤ c ∧ c ≤ sg.2 10 t - 1)) ∧ ((0 ≤ o ∧ o ≤ sg.1 8 - 1) ∧ (0 ≤ oc ∧ oc ≤ sg.2 10 o - 1))) ∧ h' = tov K h m (ovr sg [(0, 1)] [])) ∨ ((((0 ≤ t ∧ t ≤ sg.1 8 - 1) ∧ (0 ≤ c ∧ c ≤ sg.2 10 t - 1)) ∧ ((0 ≤ o ∧ o ≤ sg.1 8 - 1) ∧ (0 ≤ oc ∧ oc ≤ sg.2 10 o - 1))) ∧ ¬ ((1 ≤ n ∧ n ≤ 99) ∧ t ≠ o ∧ c ≠ 0 ∧ oc ≠ sg.2 10 o - 1) ∧ h' = tov K h m (ovr sg [(0, 2)] [])) ∨ ((((0 ≤ t ∧ t ≤ sg.1 8 - 1) ∧ (0 ≤ c ∧ c ≤ sg.2 10 t - 1)) ∧ ((0 ≤ o ∧ o ≤ sg.1 8 - 1) ∧ (0 ≤ oc ∧ oc ≤ sg.2 10 o - 1))) ∧ ((1 ≤ n ∧ n ≤ 99) ∧ t ≠ o ∧ c ≠ 0 ∧ oc ≠ sg.2 10 o - 1) ∧ sg.2 11 (8 * t + c) ≠ sg.2 11 (8 * o + oc) ∧ h' = tov K h m (ovr sg [(0, 3)] [])) ∨ ((((0 ≤ t ∧ t ≤ sg.1 8 - 1) ∧ (0 ≤ c ∧ c ≤ sg.2 10 t - 1)) ∧ ((0 ≤ o ∧ o ≤ sg.1 8 - 1) ∧ (0 ≤ oc ∧ oc ≤ sg.2 10 o - 1))) ∧ ((1 ≤ n ∧ n ≤ 99) ∧ t ≠ o ∧ c ≠ 0 ∧ oc ≠ sg.2 10 o - 1) ∧ sg.2 11 (8 * t + c) = sg.2 11 (8 * o + oc) ∧ sg.1 36 = 6 ∧ h' = tov K h m (ovr sg [(0, 4)] [])) ∨ ((((0 ≤ t ∧ t ≤ sg.1 8 - 1) ∧ (0 ≤ c ∧ c ≤ sg.2 10 t - 1)) ∧ ((0 ≤ o ∧ o ≤ sg.1 8 - 1) ∧ (0 ≤ oc ∧ oc ≤ sg.2 10 o - 1))) ∧ ((1 ≤ n ∧ n ≤ 99) ∧ t ≠ o ∧ c ≠ 0 ∧ oc ≠ sg.2 10 o - 1) ∧ sg.2 11 (8 * t + c) = sg.2 11 (8 * o + oc) ∧ sg.1 36 < 6 ∧ h' = tov K h m (ovr sg [(0, 0), (36, sg.1 36 + 1)] [(37, upz (sg.2 37) (sg.1 36) t), (38, upz (sg.2 38) (sg.1 36) c), (39, upz (sg.2 39) (sg.1 36) o), (40, upz (sg.2 40) (sg.1 36) oc), (41, upz (sg.2 41) (sg.1 36) n)]) ∧ v = sg.1 36)) := by
  have := i_t.1; have := i_t.2; have := i_c.1; have := i_c.2; have := i_o.1; have := i_o.2; have := i_oc.1; have := i_oc.2; have := i_n.1; have := i_n.2
  have f8 := of8 (hT.1 8)
  have f36 := of36 (hT.1 36)
  have b10 := oa10 (hT.2 10) t
  have b10o := oa10 (hT.2 10) o
  refine mt_ofQ (by decide) (Nat.le_of_ble_eq_true rfl) (fun Q hQ => ?_)
  show MW K yiX2_wish d (tov K h m (ovr sg [] [])) 0 [some (.ref m), some (vi t), some (vi c), some (vi o), some (vi oc), some (vi n)] [] Q
  have f36 := of36 (hT.1 36)
  refine m_aload_n dX2_wish_0 rfl ?_
  refine j_iload_n dX2_wish_1 rfl ?_
  refine j_iload_n dX2_wish_2 rfl ?_
  refine t_inv [(vi t), (vi c)] dX2_wish_3 q3337 q3339 qs83 q3340 rfl (c_isNoCall K 2 h m _ _ _ (by omega) hT ⟨by omega, by omega⟩ ⟨by omega, by omega⟩) pdX2_isNoCall ⟨Nat.le_of_ble_eq_true rfl, by decide, by omega⟩ (kk_z fun r3 h3 q3 => ?_) kx_z
  obtain ⟨rfl, rfl⟩ := q3
  refine mw_tov (b := ovr sg [(0, (if ¬ (0 ≤ t ∧ t ≤ (sg.1 8) - 1) ∨ ¬ (0 ≤ c ∧ c ≤ (sg.2 10) t - 1) then 1 else 0))] []) (ovr_ovr _ _ _ _ _) ?_
  refine mw_top (x' := bz (¬ (0 ≤ t ∧ t ≤ (sg.1 8) - 1) ∨ ¬ (0 ≤ c ∧ c ≤ (sg.2 10) t - 1))) rfl ?_
  refine j_bz_ne 55 dX2_wish_6 (by decide) (fun c6 => ?_) (fun c6 => ?_)
  · refine mw_tov (b := ovr sg [(0, 1)] []) (by rw [if_pos c6]) ?_
    refine j_iconst dX2_wish_55 ?_
    subst hQ; exact j_iret dX2_wish_56 rfl (by first | exact Or.inl ⟨(by first | omega | rfl | assumption), (by first | omega | rfl | assumption)⟩ | exact Or.inr (Or.inl ⟨(by first | omega | rfl | assumption), (by first | omega | rfl | assumption), (by first | omega | rfl | assumption)⟩) | exact Or.inr (Or.inr (Or.inl ⟨(by first | omega | rfl | assumption), (by first | omega | rfl | assumption), (by first | omega | rfl | assumption), (by first | omega | rfl | assumption)⟩)) | exact Or.inr (Or.inr (Or.inr (Or.inl ⟨(by first | omega | rfl | assumption), (by first | omega | rfl | assumption), (by first | omega | rfl | assumption), (by first | omega | rfl | assumption), (by first | omega | rfl | assumption)⟩))) | exact Or.inr (Or.inr (Or.inr (Or.inr (⟨(by first | omega | rfl | assumption), (by first | omega | rfl | assumption), (by first | omega | rfl | assumption), (by first | omega | rfl | assumption), (by first | omega | rfl | assumption), (by first | omega | rfl | assumption)⟩)))))
  · refine mw_tov (b := ovr sg [(0, 0)] []) (by rw [if_neg c6]) ?_
    refine m_aload_n dX2_wish_9 rfl ?_
    refine j_iload_n dX2_wish_10 rfl ?_
    refine j_iload dX2_wish_11 rfl ?_
    refine t_inv [(vi o), (vi oc)] dX2_wish_13 q3337 q3339 qs83 q3340 rfl (c_isNoCall K 2 h m _ _ _ (by omega) (hT.ovr (fa1 (mf0 (v := 0) ⟨by first | decide | omega | (split <;> omega) | assumption, by first | decide | omega | (split <;> omega) | assumption⟩) fa0) fa0) ⟨by omega, by omega⟩ ⟨by omega, by omega⟩) pdX2_isNoCall ⟨Nat.le_of_ble_eq_true rfl, by decide, by omega⟩ (kk_z fun r13 h13 q13 => ?_) kx_z
    obtain ⟨rfl, rfl⟩ := q13
    refine mw_tov (b := ovr sg [(0, (if ¬ (0 ≤ o ∧ o ≤ (sg.1 8) - 1) ∨ ¬ (0 ≤ oc ∧ oc ≤ (sg.2 10) o - 1) then 1 else 0))] []) (ovr_ovr _ _ _ _ _) ?_
    refine mw_top (x' := bz (¬ (0 ≤ o ∧ o ≤ (sg.1 8) - 1) ∨ ¬ (0 ≤ oc ∧ oc ≤ (sg.2 10) o - 1))) rfl ?_
    refine j_bz_ne 55 dX2_wish_16 (by decide) (fun c16 => ?_) (fun c16 => ?_)
    · refine mw_tov (b := ovr sg [(0, 1)] []) (by rw [if_pos c16]) ?_
      refine j_iconst dX2_wish_55 ?_
      subst hQ; exact j_iret dX2_wish_56 rfl (by first | exact Or.inl ⟨(by first | omega | rfl | assumption), (by first | omega | rfl | assumption)⟩ | exact Or.inr (Or.inl ⟨(by first | omega | rfl | assumption), (by first | omega | rfl | assumption), (by first | omega | rfl | assumption)⟩) | exact Or.inr (Or.inr (Or.inl ⟨(by first | omega | rfl | assumption), (by first | omega | rfl | assumption), (by first | omega | rfl | assumption), (by first | omega | rfl | assumption)⟩)) | exact Or.inr (Or.inr (Or.inr (Or.inl ⟨(by first | omega | rfl | assumption), (by first | omega | rfl | assumption), (by first | omega | rfl | assumption), (by first | omega | rfl | assumption), (by first | omega | rfl | assumption)⟩))) | exact Or.inr (Or.inr (Or.inr (Or.inr (⟨(by first | omega | rfl | assumption), (by first | omega | rfl | assumption), (by first | omega | rfl | assumption), (by first | omega | rfl | assumption), (by first | omega | rfl | assumption), (by first | omega | rfl | assumption)⟩)))))
    · refine mw_tov (b := ovr sg [(0, 0)] []) (by rw [if_neg c16]) ?_
      refine m_aload_n dX2_wish_19 rfl ?_
      refine m_aload_n dX2_wish_20 rfl ?_
      refine j_iload_n dX2_wish_21 rfl ?_
      refine j_iload_n dX2_wish_22 rfl ?_
      refine j_iload_n dX2_wish_23 rfl ?_
      refine j_iload dX2_wish_24 rfl ?_
      refine t_inv [(vi t), (vi c), (vi o), (vi oc)] dX2_wish_26 q3554 q3556 qs113 q3557 rfl (c_isChangeWrong K 0 h m _ _ _ _ _ (by omega) (hT.ovr (fa1 (mf0 (v := 0) ⟨by first | decide | omega | (split <;> omega) | assumption, by first | decide | omega | (split <;> omega) | assumption⟩) fa0) fa0) ⟨by omega, by omega⟩ ⟨by omega, by omega⟩ ⟨by omega, by omega⟩ ⟨by omega, by omega⟩ ⟨by omega, by omega⟩) pdX2_isChangeWrong ⟨Nat.le_of_ble_eq_true rfl, by decide, by omega⟩ (kk_z fun r26 h26 q26 => ?_) kx_z
      obtain ⟨rfl, rfl⟩ := q26
      refine mw_top (x' := bz (t = o ∨ c = 0 ∨ oc = (sg.2 10) o - 1)) rfl ?_
      refine j_bz_ne 43 dX2_wish_29 (by decide) (fun c29 => ?_) (fun c29 => ?_)
      · refine j_iconst dX2_wish_43 ?_
        refine m_goto 48 dX2_wish_44 (by decide) ?_
        refine j_iconst dX2_wish_48 ?_
        refine t_inv [(vi 1), (vi 2)] dX2_wish_49 q3256 q3258 qs76 q3259 rfl (c_isThrown1 K 0 h m _ _) pdX2_isThrown ⟨Nat.le_of_ble_eq_true rfl, by decide, by omega⟩ (kk_z fun r49 h49 q49 => ?_) kx_z
        obtain ⟨rfl, rfl⟩ := q49
        refine mw_tov (b := ovr sg [(0, 2)] []) (ovr_ovr _ _ _ _ _) ?_
        refine j_if_eq 57 dX2_wish_52 (by decide) ⟨by decide, by decide⟩ (fun c => absurd c (by decide)) (fun _ => ?_)
        refine j_iconst dX2_wish_55 ?_
        subst hQ; exact j_iret dX2_wish_56 rfl (by first | exact Or.inl ⟨(by first | omega | rfl | assumption), (by first | omega | rfl | assumption)⟩ | exact Or.inr (Or.inl ⟨(by first | omega | rfl | assumption), (by first | omega | rfl | assumption), (by first | omega | rfl | assumption)⟩) | exact Or.inr (Or.inr (Or.inl ⟨(by first | omega | rfl | assumption), (by first | omega | rfl | assumption), (by first | omega | rfl | assumption), (by first | omega | rfl | assumption)⟩)) | exact Or.inr (Or.inr (Or.inr (Or.inl ⟨(by first | omega | rfl | assumption), (by first | omega | rfl | assumption), (by first | omega | rfl | assumption), (by first | omega | rfl | assumption), (by first | omega | rfl | assumption)⟩))) | exact Or.inr (Or.inr (Or.inr (Or.inr (⟨(by first | omega | rfl | assumption), (by first | omega | rfl | assumption), (by first | omega | rfl | assumption), (by first | omega | rfl | assumption), (by first | omega | rfl | assumption), (by first | omega | rfl | assumption)⟩)))))
      · refine j_iload dX2_wish_32 rfl ?_
        refine j_iconst dX2_wish_34 ?_
        refine j_bipush dX2_wish_35 (by decide) ?_
        refine m_invS [(vi n), (vi 1), (vi 99)] dX2_wish_37 q3253 q3254 q133 q3255 (c_isIn K 0 _ _ _ _ ⟨by omega, by omega⟩ ⟨by omega, by omega⟩ ⟨by omega, by omega⟩) pdX2_isIn ⟨Nat.le_of_ble_eq_true rfl, by decide, by omega⟩ (kk_z fun r37 h37 q37 => ?_) kx_z
        obtain ⟨rfl, rfl⟩ := q37
        refine mw_top (x' := bz (1 ≤ n ∧ n ≤ 99)) rfl ?_
        refine j_bz_ne 47 dX2_wish_40 (by decide) (fun c40 => ?_) (fun c40 => ?_)
        · refine j_iconst dX2_wish_47 ?_
          refine j_iconst dX2_wish_48 ?_
          refine t_inv [(vi 0), (vi 2)] dX2_wish_49 q3256 q3258 qs76 q3259 rfl (c_isThrown0 K 0 h m _ _) pdX2_isThrown ⟨Nat.le_of_ble_eq_true rfl, by decide, by omega⟩ (kk_z fun r49 h49 q49 => ?_) kx_z
          obtain ⟨rfl, rfl⟩ := q49
          refine mw_tov (b := ovr sg [(0, 0)] []) (ovr_ovr _ _ _ _ _) ?_
          refine j_if_eq 57 dX2_wish_52 (by decide) ⟨by decide, by decide⟩ (fun _ => ?_) (fun c => absurd c (by decide))
          refine m_aload_n dX2_wish_57 rfl ?_
          refine m_aload_n dX2_wish_58 rfl ?_
          refine t_geta 11 7 (by decide) dX2_wish_59 q3104 rfl ?_
          refine j_bipush dX2_wish_62 (by decide) ?_
          refine j_iload_n dX2_wish_64 rfl ?_
          refine j_imul dX2_wish_65 ?_
          refine j_iload_n dX2_wish_66 rfl ?_
          refine j_iadd dX2_wish_67 ?_
          refine t_aldB 7 (by decide) (n := 192) (sg.2 11) dX2_wish_68 rfl (Nat.le_of_ble_eq_true rfl) (oa11 (hT.2 11)) ⟨by omega, by omega⟩ (fun b68 => ?_)
          refine m_aload_n dX2_wish_69 rfl ?_
          refine t_geta 11 7 (by decide) dX2_wish_70 q3104 rfl ?_
          refine j_bipush dX2_wish_73 (by decide) ?_
          refine j_iload_n dX2_wish_75 rfl ?_
          refine j_imul dX2_wish_76 ?_
          refine j_iload dX2_wish_77 rfl ?_
          refine j_iadd dX2_wish_79 ?_
          refine t_aldB 7 (by decide) (n := 192) (sg.2 11) dX2_wish_80 rfl (Nat.le_of_ble_eq_true rfl) (oa11 (hT.2 11)) ⟨by omega, by omega⟩ (fun b80 => ?_)
          refine j_icmp_eq 88 dX2_wish_81 (by decide) ⟨⟨by omega, by omega⟩, ⟨by omega, by omega⟩⟩ (fun c81 => ?_) (fun c81 => ?_)
          · refine j_iconst dX2_wish_88 ?_
            refine j_iconst dX2_wish_89 ?_
            refine t_inv [(vi 0), (vi 3)] dX2_wish_90 q3256 q3258 qs76 q3259 rfl (c_isThrown0 K 0 h m _ _) pdX2_isThrown ⟨Nat.le_of_ble_eq_true rfl, by decide, by omega⟩ (kk_z fun r90 h90 q90 => ?_) kx_z
            obtain ⟨rfl, rfl⟩ := q90
            refine mw_tov (b := ovr sg [(0, 0)] []) (ovr_ovr _ _ _ _ _) ?_
            refine j_if_ne 118 dX2_wish_93 (by decide) ⟨by decide, by decide⟩ (fun c => absurd c (by decide)) (fun _ => ?_)
            refine m_aload_n dX2_wish_96 rfl ?_
            refine m_aload_n dX2_wish_97 rfl ?_
            refine t_geti 36 (by decide) (sg.1 36) dX2_wish_98 q3129 rfl ?_
            refine j_bipush dX2_wish_101 (by decide) ?_
            refine j_icmp_ne 110 dX2_wish_103 (by decide) ⟨⟨by omega, by omega⟩, ⟨by omega, by omega⟩⟩ (fun c103 => ?_) (fun c103 => ?_)
            · refine j_iconst dX2_wish_110 ?_
              refine j_iconst dX2_wish_111 ?_
              refine t_inv [(vi 0), (vi 4)] dX2_wish_112 q3256 q3258 qs76 q3259 rfl (c_isThrown0 K 0 h m _ _) pdX2_isThrown ⟨Nat.le_of_ble_eq_true rfl, by decide, by omega⟩ (kk_z fun r112 h112 q112 => ?_) kx_z
              obtain ⟨rfl, rfl⟩ := q112
              refine mw_tov (b := ovr sg [(0, 0)] []) (ovr_ovr _ _ _ _ _) ?_
              refine j_if_eq 120 dX2_wish_115 (by decide) ⟨by decide, by decide⟩ (fun _ => ?_) (fun c => absurd c (by decide))
              refine m_aload_n dX2_wish_120 rfl ?_
              refine t_geta 37 24 (by decide) dX2_wish_121 q3130 rfl ?_
              refine m_aload_n dX2_wish_124 rfl ?_
              refine t_geti 36 (by decide) (sg.1 36) dX2_wish_125 q3129 rfl ?_
              refine j_iload_n dX2_wish_128 rfl ?_
              refine t_ast 24 (by decide) (n := 6) (sg.2 37) [(37, (upz (sg.2 37) (sg.1 36) t))] dX2_wish_129 rfl (Nat.le_of_ble_eq_true rfl) ⟨by omega, by omega⟩ rfl rfl ?_
              refine m_aload_n dX2_wish_130 rfl ?_
              refine t_geta 38 25 (by decide) dX2_wish_131 q3131 rfl ?_
              refine m_aload_n dX2_wish_134 rfl ?_
              refine t_geti 36 (by decide) (sg.1 36) dX2_wish_135 q3129 rfl ?_
              refine j_iload_n dX2_wish_138 rfl ?_
              refine t_ast 25 (by decide) (n := 6) (sg.2 38) [(37, (upz (sg.2 37) (sg.1 36) t)), (38, (upz (sg.2 38) (sg.1 36) c))] dX2_wish_139 rfl (Nat.le_of_ble_eq_true rfl) ⟨by omega, by omega⟩ rfl rfl ?_
              refine m_aload_n dX2_wish_140 rfl ?_
              refine t_geta 39 26 (by decide) dX2_wish_141 q3132 rfl ?_
              refine m_aload_n dX2_wish_144 rfl ?_
              refine t_geti 36 (by decide) (sg.1 36) dX2_wish_145 q3129 rfl ?_
              refine j_iload_n dX2_wish_148 rfl ?_
              refine t_ast 26 (by decide) (n := 6) (sg.2 39) [(37, (upz (sg.2 37) (sg.1 36) t)), (38, (upz (sg.2 38) (sg.1 36) c)), (39, (upz (sg.2 39) (sg.1 36) o))] dX2_wish_149 rfl (Nat.le_of_ble_eq_true rfl) ⟨by omega, by omega⟩ rfl rfl ?_
              refine m_aload_n dX2_wish_150 rfl ?_
              refine t_geta 40 27 (by decide) dX2_wish_151 q3133 rfl ?_
              refine m_aload_n dX2_wish_154 rfl ?_
              refine t_geti 36 (by decide) (sg.1 36) dX2_wish_155 q3129 rfl ?_
              refine j_iload dX2_wish_158 rfl ?_
              refine t_ast 27 (by decide) (n := 6) (sg.2 40) [(37, (upz (sg.2 37) (sg.1 36) t)), (38, (upz (sg.2 38) (sg.1 36) c)), (39, (upz (sg.2 39) (sg.1 36) o)), (40, (upz (sg.2 40) (sg.1 36) oc))] dX2_wish_160 rfl (Nat.le_of_ble_eq_true rfl) ⟨by omega, by omega⟩ rfl rfl ?_
              refine m_aload_n dX2_wish_161 rfl ?_
              refine t_geta 41 28 (by decide) dX2_wish_162 q3134 rfl ?_
              refine m_aload_n dX2_wish_165 rfl ?_
              refine t_geti 36 (by decide) (sg.1 36) dX2_wish_166 q3129 rfl ?_
              refine j_iload dX2_wish_169 rfl ?_
              refine t_ast 28 (by decide) (n := 6) (sg.2 41) [(37, (upz (sg.2 37) (sg.1 36) t)), (38, (upz (sg.2 38) (sg.1 36) c)), (39, (upz (sg.2 39) (sg.1 36) o)), (40, (upz (sg.2 40) (sg.1 36) oc)), (41, (upz (sg.2 41) (sg.1 36) n))] dX2_wish_171 rfl (Nat.le_of_ble_eq_true rfl) ⟨by omega, by omega⟩ rfl rfl ?_
              refine m_aload_n dX2_wish_172 rfl ?_
              refine m_dup dX2_wish_173 rfl ?_
              refine t_geti 36 (by decide) (sg.1 36) dX2_wish_174 q3129 rfl ?_
              refine j_iconst dX2_wish_177 ?_
              refine j_iadd dX2_wish_178 ?_
              refine t_puti 36 (by decide) [(0, 0), (36, ((sg.1 36) + 1))] dX2_wish_179 q3129 rfl rfl rfl rfl ?_
              refine m_aload_n dX2_wish_182 rfl ?_
              refine t_geti 36 (by decide) ((sg.1 36) + 1) dX2_wish_183 q3129 rfl ?_
              refine j_iconst dX2_wish_186 ?_
              refine j_isub dX2_wish_187 ?_
              subst hQ; exact j_iret dX2_wish_188 rfl (by first | exact Or.inl ⟨(by first | omega | rfl | assumption), (by first | omega | rfl | assumption)⟩ | exact Or.inr (Or.inl ⟨(by first | omega | rfl | assumption), (by first | omega | rfl | assumption), (by first | omega | rfl | assumption)⟩) | exact Or.inr (Or.inr (Or.inl ⟨(by first | omega | rfl | assumption), (by first | omega | rfl | assumption), (by first | omega | rfl | assumption), (by first | omega | rfl | assumption)⟩)) | exact Or.inr (Or.inr (Or.inr (Or.inl ⟨(by first | omega | rfl | assumption), (by first | omega | rfl | assumption), (by first | omega | rfl | assumption), (by first | omega | rfl | assumption), (by first | omega | rfl | assumption)⟩))) | exact Or.inr (Or.inr (Or.inr (Or.inr (⟨(by first | omega | rfl | assumption), (by first | omega | rfl | assumption), (by first | omega | rfl | assumption), (by first | omega | rfl | assumption), (by first | omega | rfl | assumption), (by first | omega | rfl | assumption)⟩)))))
            · refine j_iconst dX2_wish_106 ?_
              refine m_goto 111 dX2_wish_107 (by decide) ?_
              refine j_iconst dX2_wish_111 ?_
              refine t_inv [(vi 1), (vi 4)] dX2_wish_112 q3256 q3258 qs76 q3259 rfl (c_isThrown1 K 0 h m _ _) pdX2_isThrown ⟨Nat.le_of_ble_eq_true rfl, by decide, by omega⟩ (kk_z fun r112 h112 q112 => ?_) kx_z
              obtain ⟨rfl, rfl⟩ := q112
              refine mw_tov (b := ovr sg [(0, 4)] []) (ovr_ovr _ _ _ _ _) ?_
              refine j_if_eq 120 dX2_wish_115 (by decide) ⟨by decide, by decide⟩ (fun c => absurd c (by decide)) (fun _ => ?_)
              refine j_iconst dX2_wish_118 ?_
              subst hQ; exact j_iret dX2_wish_119 rfl (by first | exact Or.inl ⟨(by first | omega | rfl | assumption), (by first | omega | rfl | assumption)⟩ | exact Or.inr (Or.inl ⟨(by first | omega | rfl | assumption), (by first | omega | rfl | assumption), (by first | omega | rfl | assumption)⟩) | exact Or.inr (Or.inr (Or.inl ⟨(by first | omega | rfl | assumption), (by first | omega | rfl | assumption), (by first | omega | rfl | assumption), (by first | omega | rfl | assumption)⟩)) | exact Or.inr (Or.inr (Or.inr (Or.inl ⟨(by first | omega | rfl | assumption), (by first | omega | rfl | assumption), (by first | omega | rfl | assumption), (by first | omega | rfl | assumption), (by first | omega | rfl | assumption)⟩))) | exact Or.inr (Or.inr (Or.inr (Or.inr (⟨(by first | omega | rfl | assumption), (by first | omega | rfl | assumption), (by first | omega | rfl | assumption), (by first | omega | rfl | assumption), (by first | omega | rfl | assumption), (by first | omega | rfl | assumption)⟩)))))
          · refine j_iconst dX2_wish_84 ?_
            refine m_goto 89 dX2_wish_85 (by decide) ?_
            refine j_iconst dX2_wish_89 ?_
            refine t_inv [(vi 1), (vi 3)] dX2_wish_90 q3256 q3258 qs76 q3259 rfl (c_isThrown1 K 0 h m _ _) pdX2_isThrown ⟨Nat.le_of_ble_eq_true rfl, by decide, by omega⟩ (kk_z fun r90 h90 q90 => ?_) kx_z
            obtain ⟨rfl, rfl⟩ := q90
            refine mw_tov (b := ovr sg [(0, 3)] []) (ovr_ovr _ _ _ _ _) ?_
            refine j_if_ne 118 dX2_wish_93 (by decide) ⟨by decide, by decide⟩ (fun _ => ?_) (fun c => absurd c (by decide))
            refine j_iconst dX2_wish_118 ?_
            subst hQ; exact j_iret dX2_wish_119 rfl (by first | exact Or.inl ⟨(by first | omega | rfl | assumption), (by first | omega | rfl | assumption)⟩ | exact Or.inr (Or.inl ⟨(by first | omega | rfl | assumption), (by first | omega | rfl | assumption), (by first | omega | rfl | assumption)⟩) | exact Or.inr (Or.inr (Or.inl ⟨(by first | omega | rfl | assumption), (by first | omega | rfl | assumption), (by first | omega | rfl | assumption), (by first | omega | rfl | assumption)⟩)) | exact Or.inr (Or.inr (Or.inr (Or.inl ⟨(by first | omega | rfl | assumption), (by first | omega | rfl | assumption), (by first | omega | rfl | assumption), (by first | omega | rfl | assumption), (by first | omega | rfl | assumption)⟩))) | exact Or.inr (Or.inr (Or.inr (Or.inr (⟨(by first | omega | rfl | assumption), (by first | omega | rfl | assumption), (by first | omega | rfl | assumption), (by first | omega | rfl | assumption), (by first | omega | rfl | assumption), (by first | omega | rfl | assumption)⟩)))))
        · refine j_iconst dX2_wish_43 ?_
          refine m_goto 48 dX2_wish_44 (by decide) ?_
          refine j_iconst dX2_wish_48 ?_
          refine t_inv [(vi 1), (vi 2)] dX2_wish_49 q3256 q3258 qs76 q3259 rfl (c_isThrown1 K 0 h m _ _) pdX2_isThrown ⟨Nat.le_of_ble_eq_true rfl, by decide, by omega⟩ (kk_z fun r49 h49 q49 => ?_) kx_z
          obtain ⟨rfl, rfl⟩ := q49
          refine mw_tov (b := ovr sg [(0, 2)] []) (ovr_ovr _ _ _ _ _) ?_
          refine j_if_eq 57 dX2_wish_52 (by decide) ⟨by decide, by decide⟩ (fun c => absurd c (by decide)) (fun _ => ?_)
          refine j_iconst dX2_wish_55 ?_
          subst hQ; exact j_iret dX2_wish_56 rfl (by first | exact Or.inl ⟨(by first | omega | rfl | assumption), (by first | omega | rfl | assumption)⟩ | exact Or.inr (Or.inl ⟨(by first | omega | rfl | assumption), (by first | omega | rfl | assumption), (by first | omega | rfl | assumption)⟩) | exact Or.inr (Or.inr (Or.inl ⟨(by first | omega | rfl | assumption), (by first | omega | rfl | assumption), (by first | omega | rfl | assumption), (by first | omega | rfl | assumption)⟩)) | exact Or.inr (Or.inr (Or.inr (Or.inl ⟨(by first | omega | rfl | assumption), (by first | omega | rfl | assumption), (by first | omega | rfl | assumption), (by first | omega | rfl | assumption), (by first | omega | rfl | assumption)⟩))) | exact Or.inr (Or.inr (Or.inr (Or.inr (⟨(by first | omega | rfl | assumption), (by first | omega | rfl | assumption), (by first | omega | rfl | assumption), (by first | omega | rfl | assumption), (by first | omega | rfl | assumption), (by first | omega | rfl | assumption)⟩)))))
theorem c_counts (K : KT) (d : Nat) (h : MH) (m : Nat) (sg : TS) (w : Int) (y : Int) (hd : 1 ≤ d) (hT : TB sg) (i_w : In w) (i_y : In y) (hw : 0 ≤ w ∧ w < 6) (hy : 0 ≤ y ∧ y ≤ 27) : Mt K yiX2_counts d [.ref m, vi w, vi y] (tov K h m sg) (Rz fun v h' => h' = tov K h m sg ∧ v = bz (sg.2 7 (28 * sg.2 9 (sg.2 37 w) + y) ≠ 0 ∧ sg.2 7 (28 * sg.2 9 (sg.2 39 w) + y) ≠ 0)) := by
  have := i_w.1; have := i_w.2; have := i_y.1; have := i_y.2
  refine mt_ofQ (by decide) (Nat.le_of_ble_eq_true rfl) (fun Q hQ => ?_)
  show MW K yiX2_counts d (tov K h m (ovr sg [] [])) 0 [some (.ref m), some (vi w), some (vi y)] [] Q
  refine m_aload_n dX2_counts_0 rfl ?_
  refine m_aload_n dX2_counts_1 rfl ?_
  refine t_geta 37 24 (by decide) dX2_counts_2 q3130 rfl ?_
  refine j_iload_n dX2_counts_5 rfl ?_
  refine t_aldB 24 (by decide) (n := 6) (sg.2 37) dX2_counts_6 rfl (Nat.le_of_ble_eq_true rfl) (oa37 (hT.2 37)) ⟨by omega, by omega⟩ (fun b6 => ?_)
  refine j_iload_n dX2_counts_7 rfl ?_
  refine t_inv [(vi ((sg.2 37) w)), (vi y)] dX2_counts_8 q3558 q3560 qs114 q3561 rfl (c_runs K 0 h m _ _ _ (by omega) hT ⟨by omega, by omega⟩ ⟨by omega, by omega⟩ ⟨by omega, by omega⟩ ⟨by omega, by omega⟩) pdX2_runs ⟨Nat.le_of_ble_eq_true rfl, by decide, by omega⟩ (kk_z fun r8 h8 q8 => ?_) kx_z
  obtain ⟨rfl, rfl, b8⟩ := q8
  refine mw_top (x' := ((sg.2 7) (28 * (sg.2 9) ((sg.2 37) w) + y))) rfl ?_
  change 0 ≤ ((sg.2 7) (28 * (sg.2 9) ((sg.2 37) w) + y)) ∧ ((sg.2 7) (28 * (sg.2 9) ((sg.2 37) w) + y)) ≤ 1 at b8
  refine j_if_eq 32 dX2_counts_11 (by decide) ⟨by omega, by omega⟩ (fun c11 => ?_) (fun c11 => ?_)
  · refine j_iconst dX2_counts_32 ?_
    subst hQ; exact j_zret dX2_counts_33 rfl (by omega) (⟨rfl, by first | exact bz_t (by omega) | exact bz_f (by omega)⟩)
  · refine m_aload_n dX2_counts_14 rfl ?_
    refine m_aload_n dX2_counts_15 rfl ?_
    refine t_geta 39 26 (by decide) dX2_counts_16 q3132 rfl ?_
    refine j_iload_n dX2_counts_19 rfl ?_
    refine t_aldB 26 (by decide) (n := 6) (sg.2 39) dX2_counts_20 rfl (Nat.le_of_ble_eq_true rfl) (oa39 (hT.2 39)) ⟨by omega, by omega⟩ (fun b20 => ?_)
    refine j_iload_n dX2_counts_21 rfl ?_
    refine t_inv [(vi ((sg.2 39) w)), (vi y)] dX2_counts_22 q3558 q3560 qs114 q3561 rfl (c_runs K 0 h m _ _ _ (by omega) hT ⟨by omega, by omega⟩ ⟨by omega, by omega⟩ ⟨by omega, by omega⟩ ⟨by omega, by omega⟩) pdX2_runs ⟨Nat.le_of_ble_eq_true rfl, by decide, by omega⟩ (kk_z fun r22 h22 q22 => ?_) kx_z
    obtain ⟨rfl, rfl, b22⟩ := q22
    refine mw_top (x' := ((sg.2 7) (28 * (sg.2 9) ((sg.2 39) w) + y))) rfl ?_
    change 0 ≤ ((sg.2 7) (28 * (sg.2 9) ((sg.2 39) w) + y)) ∧ ((sg.2 7) (28 * (sg.2 9) ((sg.2 39) w) + y)) ≤ 1 at b22
    refine j_if_eq 32 dX2_counts_25 (by decide) ⟨by omega, by omega⟩ (fun c25 => ?_) (fun c25 => ?_)
    · refine j_iconst dX2_counts_32 ?_
      subst hQ; exact j_zret dX2_counts_33 rfl (by omega) (⟨rfl, by first | exact bz_t (by omega) | exact bz_f (by omega)⟩)
    · refine j_iconst dX2_counts_28 ?_
      refine m_goto 33 dX2_counts_29 (by decide) ?_
      subst hQ; exact j_zret dX2_counts_33 rfl (by omega) (⟨rfl, by first | exact bz_t (by omega) | exact bz_f (by omega)⟩)
/-- what one comes behind a departure by -/
def missB (sg : TS) (W : Int → Int) (w : Int) : Int := sg.2 12 (8 * sg.2 37 w + sg.2 38 w) + W (8 * sg.2 37 w + sg.2 38 w - 1) + sg.2 2 (sg.2 11 (8 * sg.2 37 w + sg.2 38 w)) - sg.2 13 (8 * sg.2 39 w + sg.2 40 w)
theorem c_missedBy (K : KT) (d : Nat) (h : MH) (m : Nat) (sg : TS) (w : Int) (hd : 0 ≤ d) (hT : TB sg) (i_w : In w) (hw : 0 ≤ w ∧ w < 6) (hc : 1 ≤ sg.2 38 w) : Mt K yiX2_missedBy d [.ref m, vi w] (tov K h m sg) (Rz fun v h' => h' = tov K h m sg ∧ v = missB sg (sg.2 42) w) := by
  have := i_w.1; have := i_w.2
  refine mt_ofQ (by decide) (Nat.le_of_ble_eq_true rfl) (fun Q hQ => ?_)
  show MW K yiX2_missedBy d (tov K h m (ovr sg [] [])) 0 [some (.ref m), some (vi w), none, none, none] [] Q
  refine m_aload_n dX2_missedBy_0 rfl ?_
  refine t_geta 37 24 (by decide) dX2_missedBy_1 q3130 rfl ?_
  refine j_iload_n dX2_missedBy_4 rfl ?_
  refine t_aldB 24 (by decide) (n := 6) (sg.2 37) dX2_missedBy_5 rfl (Nat.le_of_ble_eq_true rfl) (oa37 (hT.2 37)) ⟨by omega, by omega⟩ (fun b5 => ?_)
  refine j_istore_n [some (.ref m), some (vi w), some (vi ((sg.2 37) w)), none, none] dX2_missedBy_6 (by decide) rfl rfl ?_
  refine m_aload_n dX2_missedBy_7 rfl ?_
  refine t_geta 38 25 (by decide) dX2_missedBy_8 q3131 rfl ?_
  refine j_iload_n dX2_missedBy_11 rfl ?_
  refine t_aldB 25 (by decide) (n := 6) (sg.2 38) dX2_missedBy_12 rfl (Nat.le_of_ble_eq_true rfl) (oa38 (hT.2 38)) ⟨by omega, by omega⟩ (fun b12 => ?_)
  refine j_istore_n [some (.ref m), some (vi w), some (vi ((sg.2 37) w)), some (vi ((sg.2 38) w)), none] dX2_missedBy_13 (by decide) rfl rfl ?_
  refine m_aload_n dX2_missedBy_14 rfl ?_
  refine t_geta 12 8 (by decide) dX2_missedBy_15 q3105 rfl ?_
  refine j_bipush dX2_missedBy_18 (by decide) ?_
  refine j_iload_n dX2_missedBy_20 rfl ?_
  refine j_imul dX2_missedBy_21 ?_
  refine j_iload_n dX2_missedBy_22 rfl ?_
  refine j_iadd dX2_missedBy_23 ?_
  refine t_aldB 8 (by decide) (n := 192) (sg.2 12) dX2_missedBy_24 rfl (Nat.le_of_ble_eq_true rfl) (oa12 (hT.2 12)) ⟨by omega, by omega⟩ (fun b24 => ?_)
  refine m_aload_n dX2_missedBy_25 rfl ?_
  refine t_geta 42 29 (by decide) dX2_missedBy_26 q3135 rfl ?_
  refine j_bipush dX2_missedBy_29 (by decide) ?_
  refine j_iload_n dX2_missedBy_31 rfl ?_
  refine j_imul dX2_missedBy_32 ?_
  refine j_iload_n dX2_missedBy_33 rfl ?_
  refine j_iadd dX2_missedBy_34 ?_
  refine j_iconst dX2_missedBy_35 ?_
  refine j_isub dX2_missedBy_36 ?_
  refine t_aldB 29 (by decide) (n := 192) (sg.2 42) dX2_missedBy_37 rfl (Nat.le_of_ble_eq_true rfl) (oa42 (hT.2 42)) ⟨by omega, by omega⟩ (fun b37 => ?_)
  refine j_iadd dX2_missedBy_38 ?_
  refine j_istore [some (.ref m), some (vi w), some (vi ((sg.2 37) w)), some (vi ((sg.2 38) w)), some (vi (((sg.2 12) ((8 * ((sg.2 37) w)) + ((sg.2 38) w))) + ((sg.2 42) (((8 * ((sg.2 37) w)) + ((sg.2 38) w)) - 1))))] dX2_missedBy_39 (by decide) rfl rfl ?_
  refine j_iload dX2_missedBy_41 rfl ?_
  refine m_aload_n dX2_missedBy_43 rfl ?_
  refine t_geta 2 1 (by decide) dX2_missedBy_44 q3095 rfl ?_
  refine m_aload_n dX2_missedBy_47 rfl ?_
  refine t_geta 11 7 (by decide) dX2_missedBy_48 q3104 rfl ?_
  refine j_bipush dX2_missedBy_51 (by decide) ?_
  refine j_iload_n dX2_missedBy_53 rfl ?_
  refine j_imul dX2_missedBy_54 ?_
  refine j_iload_n dX2_missedBy_55 rfl ?_
  refine j_iadd dX2_missedBy_56 ?_
  refine t_aldB 7 (by decide) (n := 192) (sg.2 11) dX2_missedBy_57 rfl (Nat.le_of_ble_eq_true rfl) (oa11 (hT.2 11)) ⟨by omega, by omega⟩ (fun b57 => ?_)
  refine t_aldB 1 (by decide) (n := 12) (sg.2 2) dX2_missedBy_58 rfl (Nat.le_of_ble_eq_true rfl) (oa2 (hT.2 2)) ⟨by omega, by omega⟩ (fun b58 => ?_)
  refine j_iadd dX2_missedBy_59 ?_
  refine m_aload_n dX2_missedBy_60 rfl ?_
  refine t_geta 13 9 (by decide) dX2_missedBy_61 q3106 rfl ?_
  refine j_bipush dX2_missedBy_64 (by decide) ?_
  refine m_aload_n dX2_missedBy_66 rfl ?_
  refine t_geta 39 26 (by decide) dX2_missedBy_67 q3132 rfl ?_
  refine j_iload_n dX2_missedBy_70 rfl ?_
  refine t_aldB 26 (by decide) (n := 6) (sg.2 39) dX2_missedBy_71 rfl (Nat.le_of_ble_eq_true rfl) (oa39 (hT.2 39)) ⟨by omega, by omega⟩ (fun b71 => ?_)
  refine j_imul dX2_missedBy_72 ?_
  refine m_aload_n dX2_missedBy_73 rfl ?_
  refine t_geta 40 27 (by decide) dX2_missedBy_74 q3133 rfl ?_
  refine j_iload_n dX2_missedBy_77 rfl ?_
  refine t_aldB 27 (by decide) (n := 6) (sg.2 40) dX2_missedBy_78 rfl (Nat.le_of_ble_eq_true rfl) (oa40 (hT.2 40)) ⟨by omega, by omega⟩ (fun b78 => ?_)
  refine j_iadd dX2_missedBy_79 ?_
  refine t_aldB 9 (by decide) (n := 192) (sg.2 13) dX2_missedBy_80 rfl (Nat.le_of_ble_eq_true rfl) (oa13 (hT.2 13)) ⟨by omega, by omega⟩ (fun b80 => ?_)
  refine j_isub dX2_missedBy_81 ?_
  subst hQ; exact j_iret dX2_missedBy_82 rfl (⟨rfl, rfl⟩)
theorem c_ride (K : KT) (d : Nat) (h : MH) (m : Nat) (sg : TS) (i : Int) (c : Int) (hd : 2 ≤ d) (hT : TB sg) (i_i : In i) (i_c : In c) (hr : ∀ k, 0 ≤ k → k < sg.1 29 → 0 ≤ sg.2 30 k) : Mt K yiX2_ride d [.ref m, vi i, vi c] (tov K h m sg) (Rz fun v h' => ((c ≠ 116 ∧ c ≠ 100 ∧ c ≠ 111 ∧ c ≠ 102) ∧ h' = tov K h m (ovr sg [(0, 1)] [])) ∨ ((c = 116 ∨ c = 100 ∨ c = 111 ∨ c = 102) ∧ ¬ (0 ≤ i ∧ i ≤ sg.1 29 - 1) ∧ h' = tov K h m (ovr sg [(0, 2)] [])) ∨ ((c = 116 ∨ c = 100 ∨ c = 111 ∨ c = 102) ∧ (0 ≤ i ∧ i ≤ sg.1 29 - 1) ∧ h' = tov K h m (ovr sg [(0, 0)] []) ∧ v = (if c = 116 then sg.2 30 i % 24 else if c = 100 then sg.2 30 i / 24 - 1 else if c = 111 then sg.2 31 i else sg.2 32 i))) := by
  have := i_i.1; have := i_i.2; have := i_c.1; have := i_c.2
  have f29 := of29 (hT.1 29)
  have hri := hr i
  refine mt_ofQ (by decide) (Nat.le_of_ble_eq_true rfl) (fun Q hQ => ?_)
  show MW K yiX2_ride d (tov K h m (ovr sg [] [])) 0 [some (.ref m), some (vi i), some (vi c)] [] Q
  have f29 := of29 (hT.1 29)
  have J66 : (c = 116 ∨ c = 100 ∨ c = 111 ∨ c = 102) → (0 ≤ i ∧ i ≤ sg.1 29 - 1) → MW K yiX2_ride d (tov K h m (ovr sg [(0, 0)] [])) 66 [some (.ref m), some (vi i), some (vi c)] [] Q := by
    intro g1 g2
    refine j_iload_n dX2_ride_66 rfl ?_
    refine j_bipush dX2_ride_67 (by decide) ?_
    refine j_icmp_ne 84 dX2_ride_69 (by decide) ⟨⟨by omega, by omega⟩, ⟨by omega, by omega⟩⟩ (fun c69 => ?_) (fun c69 => ?_)
    · refine j_iload_n dX2_ride_84 rfl ?_
      refine j_bipush dX2_ride_85 (by decide) ?_
      refine j_icmp_ne 104 dX2_ride_87 (by decide) ⟨⟨by omega, by omega⟩, ⟨by omega, by omega⟩⟩ (fun c87 => ?_) (fun c87 => ?_)
      · refine j_iload_n dX2_ride_104 rfl ?_
        refine j_bipush dX2_ride_105 (by decide) ?_
        refine j_icmp_ne 119 dX2_ride_107 (by decide) ⟨⟨by omega, by omega⟩, ⟨by omega, by omega⟩⟩ (fun c107 => ?_) (fun c107 => ?_)
        · refine m_aload_n dX2_ride_119 rfl ?_
          refine t_geta 32 21 (by decide) dX2_ride_120 q3125 rfl ?_
          refine j_iload_n dX2_ride_123 rfl ?_
          refine t_aldB 21 (by decide) (n := 74) (sg.2 32) dX2_ride_124 rfl (Nat.le_of_ble_eq_true rfl) (oa32 (hT.2 32)) ⟨by omega, by omega⟩ (fun b124 => ?_)
          subst hQ; exact j_iret dX2_ride_125 rfl (Or.inr (Or.inr ⟨g1, g2, rfl, by first | rw [if_pos (by omega)] | rw [if_neg (by omega), if_pos (by omega)] | rw [if_neg (by omega), if_neg (by omega), if_pos (by omega)] | rw [if_neg (by omega), if_neg (by omega), if_neg (by omega)]⟩))
        · refine m_aload_n dX2_ride_110 rfl ?_
          refine t_geta 31 20 (by decide) dX2_ride_111 q3124 rfl ?_
          refine j_iload_n dX2_ride_114 rfl ?_
          refine t_aldB 20 (by decide) (n := 74) (sg.2 31) dX2_ride_115 rfl (Nat.le_of_ble_eq_true rfl) (oa31 (hT.2 31)) ⟨by omega, by omega⟩ (fun b115 => ?_)
          refine m_goto 125 dX2_ride_116 (by decide) ?_
          subst hQ; exact j_iret dX2_ride_125 rfl (Or.inr (Or.inr ⟨g1, g2, rfl, by first | rw [if_pos (by omega)] | rw [if_neg (by omega), if_pos (by omega)] | rw [if_neg (by omega), if_neg (by omega), if_pos (by omega)] | rw [if_neg (by omega), if_neg (by omega), if_neg (by omega)]⟩))
      · refine m_aload_n dX2_ride_90 rfl ?_
        refine t_geta 30 19 (by decide) dX2_ride_91 q3123 rfl ?_
        refine j_iload_n dX2_ride_94 rfl ?_
        refine t_aldB 19 (by decide) (n := 74) (sg.2 30) dX2_ride_95 rfl (Nat.le_of_ble_eq_true rfl) (oa30 (hT.2 30)) ⟨by omega, by omega⟩ (fun b95 => ?_)
        refine j_bipush dX2_ride_96 (by decide) ?_
        refine j_idiv dX2_ride_98 ⟨⟨by omega, by omega⟩, ⟨by omega, by omega⟩⟩ ⟨by omega, by omega⟩ ?_
        refine j_iconst dX2_ride_99 ?_
        refine j_isub dX2_ride_100 ?_
        refine m_goto 125 dX2_ride_101 (by decide) ?_
        subst hQ; exact j_iret dX2_ride_125 rfl (Or.inr (Or.inr ⟨g1, g2, rfl, by first | rw [if_pos (by omega)] | rw [if_neg (by omega), if_pos (by omega)] | rw [if_neg (by omega), if_neg (by omega), if_pos (by omega)] | rw [if_neg (by omega), if_neg (by omega), if_neg (by omega)]⟩))
    · refine m_aload_n dX2_ride_72 rfl ?_
      refine t_geta 30 19 (by decide) dX2_ride_73 q3123 rfl ?_
      refine j_iload_n dX2_ride_76 rfl ?_
      refine t_aldB 19 (by decide) (n := 74) (sg.2 30) dX2_ride_77 rfl (Nat.le_of_ble_eq_true rfl) (oa30 (hT.2 30)) ⟨by omega, by omega⟩ (fun b77 => ?_)
      refine j_bipush dX2_ride_78 (by decide) ?_
      refine j_irem dX2_ride_80 ⟨⟨by omega, by omega⟩, ⟨by omega, by omega⟩⟩ ⟨by omega, by omega⟩ ?_
      refine m_goto 125 dX2_ride_81 (by decide) ?_
      subst hQ; exact j_iret dX2_ride_125 rfl (Or.inr (Or.inr ⟨g1, g2, rfl, by first | rw [if_pos (by omega)] | rw [if_neg (by omega), if_pos (by omega)] | rw [if_neg (by omega), if_neg (by omega), if_pos (by omega)] | rw [if_neg (by omega), if_neg (by omega), if_neg (by omega)]⟩))
  refine m_aload_n dX2_ride_0 rfl ?_
  refine j_iload_n dX2_ride_1 rfl ?_
  refine j_bipush dX2_ride_2 (by decide) ?_
  refine j_icmp_eq 29 dX2_ride_4 (by decide) ⟨⟨by omega, by omega⟩, ⟨by omega, by omega⟩⟩ (fun c4 => ?_) (fun c4 => ?_)
  · refine j_iconst dX2_ride_29 ?_
    refine j_iconst dX2_ride_30 ?_
    refine t_inv [(vi 0), (vi 1)] dX2_ride_31 q3256 q3258 qs76 q3259 rfl (c_isThrown0 K 0 h m _ _) pdX2_isThrown ⟨Nat.le_of_ble_eq_true rfl, by decide, by omega⟩ (kk_z fun r31 h31 q31 => ?_) kx_z
    obtain ⟨rfl, rfl⟩ := q31
    refine mw_tov (b := ovr sg [(0, 0)] []) (ovr_ovr _ _ _ _ _) ?_
    refine j_if_ne 64 dX2_ride_34 (by decide) ⟨by decide, by decide⟩ (fun c => absurd c (by decide)) (fun _ => ?_)
    refine m_aload_n dX2_ride_37 rfl ?_
    refine j_iload_n dX2_ride_38 rfl ?_
    refine j_iconst dX2_ride_39 ?_
    refine m_aload_n dX2_ride_40 rfl ?_
    refine t_geti 29 (by decide) (sg.1 29) dX2_ride_41 q3122 rfl ?_
    refine j_iconst dX2_ride_44 ?_
    refine j_isub dX2_ride_45 ?_
    refine m_invS [(vi i), (vi 0), (vi ((sg.1 29) - 1))] dX2_ride_46 q3253 q3254 q133 q3255 (c_isIn K 0 _ _ _ _ ⟨by omega, by omega⟩ ⟨by omega, by omega⟩ ⟨by omega, by omega⟩) pdX2_isIn ⟨Nat.le_of_ble_eq_true rfl, by decide, by omega⟩ (kk_z fun r46 h46 q46 => ?_) kx_z
    obtain ⟨rfl, rfl⟩ := q46
    refine mw_top (x' := bz (0 ≤ i ∧ i ≤ ((sg.1 29) - 1))) rfl ?_
    refine j_bz_ne 56 dX2_ride_49 (by decide) (fun c49 => ?_) (fun c49 => ?_)
    · refine j_iconst dX2_ride_56 ?_
      refine j_iconst dX2_ride_57 ?_
      refine t_inv [(vi 0), (vi 2)] dX2_ride_58 q3256 q3258 qs76 q3259 rfl (c_isThrown0 K 0 h m _ _) pdX2_isThrown ⟨Nat.le_of_ble_eq_true rfl, by decide, by omega⟩ (kk_z fun r58 h58 q58 => ?_) kx_z
      obtain ⟨rfl, rfl⟩ := q58
      refine mw_tov (b := ovr sg [(0, 0)] []) (ovr_ovr _ _ _ _ _) ?_
      refine j_if_eq 66 dX2_ride_61 (by decide) ⟨by decide, by decide⟩ (fun _ => ?_) (fun c => absurd c (by decide))
      exact J66  (by omega) (by omega)
    · refine j_iconst dX2_ride_52 ?_
      refine m_goto 57 dX2_ride_53 (by decide) ?_
      refine j_iconst dX2_ride_57 ?_
      refine t_inv [(vi 1), (vi 2)] dX2_ride_58 q3256 q3258 qs76 q3259 rfl (c_isThrown1 K 0 h m _ _) pdX2_isThrown ⟨Nat.le_of_ble_eq_true rfl, by decide, by omega⟩ (kk_z fun r58 h58 q58 => ?_) kx_z
      obtain ⟨rfl, rfl⟩ := q58
      refine mw_tov (b := ovr sg [(0, 2)] []) (ovr_ovr _ _ _ _ _) ?_
      refine j_if_eq 66 dX2_ride_61 (by decide) ⟨by decide, by decide⟩ (fun c => absurd c (by decide)) (fun _ => ?_)
      refine j_iconst dX2_ride_64 ?_
      subst hQ; exact j_iret dX2_ride_65 rfl (by first | exact Or.inl ⟨(by first | omega | rfl | assumption), (by first | omega | rfl | assumption)⟩ | exact Or.inr (Or.inl ⟨(by first | omega | rfl | assumption), (by first | omega | rfl | assumption), (by first | omega | rfl | assumption)⟩) | exact Or.inr (Or.inr (⟨(by first | omega | rfl | assumption), (by first | omega | rfl | assumption), (by first | omega | rfl | assumption), (by first | omega | rfl | assumption)⟩)))
  · refine j_iload_n dX2_ride_7 rfl ?_
    refine j_bipush dX2_ride_8 (by decide) ?_
    refine j_icmp_eq 29 dX2_ride_10 (by decide) ⟨⟨by omega, by omega⟩, ⟨by omega, by omega⟩⟩ (fun c10 => ?_) (fun c10 => ?_)
    · refine j_iconst dX2_ride_29 ?_
      refine j_iconst dX2_ride_30 ?_
      refine t_inv [(vi 0), (vi 1)] dX2_ride_31 q3256 q3258 qs76 q3259 rfl (c_isThrown0 K 0 h m _ _) pdX2_isThrown ⟨Nat.le_of_ble_eq_true rfl, by decide, by omega⟩ (kk_z fun r31 h31 q31 => ?_) kx_z
      obtain ⟨rfl, rfl⟩ := q31
      refine mw_tov (b := ovr sg [(0, 0)] []) (ovr_ovr _ _ _ _ _) ?_
      refine j_if_ne 64 dX2_ride_34 (by decide) ⟨by decide, by decide⟩ (fun c => absurd c (by decide)) (fun _ => ?_)
      refine m_aload_n dX2_ride_37 rfl ?_
      refine j_iload_n dX2_ride_38 rfl ?_
      refine j_iconst dX2_ride_39 ?_
      refine m_aload_n dX2_ride_40 rfl ?_
      refine t_geti 29 (by decide) (sg.1 29) dX2_ride_41 q3122 rfl ?_
      refine j_iconst dX2_ride_44 ?_
      refine j_isub dX2_ride_45 ?_
      refine m_invS [(vi i), (vi 0), (vi ((sg.1 29) - 1))] dX2_ride_46 q3253 q3254 q133 q3255 (c_isIn K 0 _ _ _ _ ⟨by omega, by omega⟩ ⟨by omega, by omega⟩ ⟨by omega, by omega⟩) pdX2_isIn ⟨Nat.le_of_ble_eq_true rfl, by decide, by omega⟩ (kk_z fun r46 h46 q46 => ?_) kx_z
      obtain ⟨rfl, rfl⟩ := q46
      refine mw_top (x' := bz (0 ≤ i ∧ i ≤ ((sg.1 29) - 1))) rfl ?_
      refine j_bz_ne 56 dX2_ride_49 (by decide) (fun c49 => ?_) (fun c49 => ?_)
      · refine j_iconst dX2_ride_56 ?_
        refine j_iconst dX2_ride_57 ?_
        refine t_inv [(vi 0), (vi 2)] dX2_ride_58 q3256 q3258 qs76 q3259 rfl (c_isThrown0 K 0 h m _ _) pdX2_isThrown ⟨Nat.le_of_ble_eq_true rfl, by decide, by omega⟩ (kk_z fun r58 h58 q58 => ?_) kx_z
        obtain ⟨rfl, rfl⟩ := q58
        refine mw_tov (b := ovr sg [(0, 0)] []) (ovr_ovr _ _ _ _ _) ?_
        refine j_if_eq 66 dX2_ride_61 (by decide) ⟨by decide, by decide⟩ (fun _ => ?_) (fun c => absurd c (by decide))
        exact J66  (by omega) (by omega)
      · refine j_iconst dX2_ride_52 ?_
        refine m_goto 57 dX2_ride_53 (by decide) ?_
        refine j_iconst dX2_ride_57 ?_
        refine t_inv [(vi 1), (vi 2)] dX2_ride_58 q3256 q3258 qs76 q3259 rfl (c_isThrown1 K 0 h m _ _) pdX2_isThrown ⟨Nat.le_of_ble_eq_true rfl, by decide, by omega⟩ (kk_z fun r58 h58 q58 => ?_) kx_z
        obtain ⟨rfl, rfl⟩ := q58
        refine mw_tov (b := ovr sg [(0, 2)] []) (ovr_ovr _ _ _ _ _) ?_
        refine j_if_eq 66 dX2_ride_61 (by decide) ⟨by decide, by decide⟩ (fun c => absurd c (by decide)) (fun _ => ?_)
        refine j_iconst dX2_ride_64 ?_
        subst hQ; exact j_iret dX2_ride_65 rfl (by first | exact Or.inl ⟨(by first | omega | rfl | assumption), (by first | omega | rfl | assumption)⟩ | exact Or.inr (Or.inl ⟨(by first | omega | rfl | assumption), (by first | omega | rfl | assumption), (by first | omega | rfl | assumption)⟩) | exact Or.inr (Or.inr (⟨(by first | omega | rfl | assumption), (by first | omega | rfl | assumption), (by first | omega | rfl | assumption), (by first | omega | rfl | assumption)⟩)))
    · refine j_iload_n dX2_ride_13 rfl ?_
      refine j_bipush dX2_ride_14 (by decide) ?_
      refine j_icmp_eq 29 dX2_ride_16 (by decide) ⟨⟨by omega, by omega⟩, ⟨by omega, by omega⟩⟩ (fun c16 => ?_) (fun c16 => ?_)
      · refine j_iconst dX2_ride_29 ?_
        refine j_iconst dX2_ride_30 ?_
        refine t_inv [(vi 0), (vi 1)] dX2_ride_31 q3256 q3258 qs76 q3259 rfl (c_isThrown0 K 0 h m _ _) pdX2_isThrown ⟨Nat.le_of_ble_eq_true rfl, by decide, by omega⟩ (kk_z fun r31 h31 q31 => ?_) kx_z
        obtain ⟨rfl, rfl⟩ := q31
        refine mw_tov (b := ovr sg [(0, 0)] []) (ovr_ovr _ _ _ _ _) ?_
        refine j_if_ne 64 dX2_ride_34 (by decide) ⟨by decide, by decide⟩ (fun c => absurd c (by decide)) (fun _ => ?_)
        refine m_aload_n dX2_ride_37 rfl ?_
        refine j_iload_n dX2_ride_38 rfl ?_
        refine j_iconst dX2_ride_39 ?_
        refine m_aload_n dX2_ride_40 rfl ?_
        refine t_geti 29 (by decide) (sg.1 29) dX2_ride_41 q3122 rfl ?_
        refine j_iconst dX2_ride_44 ?_
        refine j_isub dX2_ride_45 ?_
        refine m_invS [(vi i), (vi 0), (vi ((sg.1 29) - 1))] dX2_ride_46 q3253 q3254 q133 q3255 (c_isIn K 0 _ _ _ _ ⟨by omega, by omega⟩ ⟨by omega, by omega⟩ ⟨by omega, by omega⟩) pdX2_isIn ⟨Nat.le_of_ble_eq_true rfl, by decide, by omega⟩ (kk_z fun r46 h46 q46 => ?_) kx_z
        obtain ⟨rfl, rfl⟩ := q46
        refine mw_top (x' := bz (0 ≤ i ∧ i ≤ ((sg.1 29) - 1))) rfl ?_
        refine j_bz_ne 56 dX2_ride_49 (by decide) (fun c49 => ?_) (fun c49 => ?_)
        · refine j_iconst dX2_ride_56 ?_
          refine j_iconst dX2_ride_57 ?_
          refine t_inv [(vi 0), (vi 2)] dX2_ride_58 q3256 q3258 qs76 q3259 rfl (c_isThrown0 K 0 h m _ _) pdX2_isThrown ⟨Nat.le_of_ble_eq_true rfl, by decide, by omega⟩ (kk_z fun r58 h58 q58 => ?_) kx_z
          obtain ⟨rfl, rfl⟩ := q58
          refine mw_tov (b := ovr sg [(0, 0)] []) (ovr_ovr _ _ _ _ _) ?_
          refine j_if_eq 66 dX2_ride_61 (by decide) ⟨by decide, by decide⟩ (fun _ => ?_) (fun c => absurd c (by decide))
          exact J66  (by omega) (by omega)
        · refine j_iconst dX2_ride_52 ?_
          refine m_goto 57 dX2_ride_53 (by decide) ?_
          refine j_iconst dX2_ride_57 ?_
          refine t_inv [(vi 1), (vi 2)] dX2_ride_58 q3256 q3258 qs76 q3259 rfl (c_isThrown1 K 0 h m _ _) pdX2_isThrown ⟨Nat.le_of_ble_eq_true rfl, by decide, by omega⟩ (kk_z fun r58 h58 q58 => ?_) kx_z
          obtain ⟨rfl, rfl⟩ := q58
          refine mw_tov (b := ovr sg [(0, 2)] []) (ovr_ovr _ _ _ _ _) ?_
          refine j_if_eq 66 dX2_ride_61 (by decide) ⟨by decide, by decide⟩ (fun c => absurd c (by decide)) (fun _ => ?_)
          refine j_iconst dX2_ride_64 ?_
          subst hQ; exact j_iret dX2_ride_65 rfl (by first | exact Or.inl ⟨(by first | omega | rfl | assumption), (by first | omega | rfl | assumption)⟩ | exact Or.inr (Or.inl ⟨(by first | omega | rfl | assumption), (by first | omega | rfl | assumption), (by first | omega | rfl | assumption)⟩) | exact Or.inr (Or.inr (⟨(by first | omega | rfl | assumption), (by first | omega | rfl | assumption), (by first | omega | rfl | assumption), (by first | omega | rfl | assumption)⟩)))
      · refine j_iload_n dX2_ride_19 rfl ?_
        refine j_bipush dX2_ride_20 (by decide) ?_
        refine j_icmp_eq 29 dX2_ride_22 (by decide) ⟨⟨by omega, by omega⟩, ⟨by omega, by omega⟩⟩ (fun c22 => ?_) (fun c22 => ?_)
        · refine j_iconst dX2_ride_29 ?_
          refine j_iconst dX2_ride_30 ?_
          refine t_inv [(vi 0), (vi 1)] dX2_ride_31 q3256 q3258 qs76 q3259 rfl (c_isThrown0 K 0 h m _ _) pdX2_isThrown ⟨Nat.le_of_ble_eq_true rfl, by decide, by omega⟩ (kk_z fun r31 h31 q31 => ?_) kx_z
          obtain ⟨rfl, rfl⟩ := q31
          refine mw_tov (b := ovr sg [(0, 0)] []) (ovr_ovr _ _ _ _ _) ?_
          refine j_if_ne 64 dX2_ride_34 (by decide) ⟨by decide, by decide⟩ (fun c => absurd c (by decide)) (fun _ => ?_)
          refine m_aload_n dX2_ride_37 rfl ?_
          refine j_iload_n dX2_ride_38 rfl ?_
          refine j_iconst dX2_ride_39 ?_
          refine m_aload_n dX2_ride_40 rfl ?_
          refine t_geti 29 (by decide) (sg.1 29) dX2_ride_41 q3122 rfl ?_
          refine j_iconst dX2_ride_44 ?_
          refine j_isub dX2_ride_45 ?_
          refine m_invS [(vi i), (vi 0), (vi ((sg.1 29) - 1))] dX2_ride_46 q3253 q3254 q133 q3255 (c_isIn K 0 _ _ _ _ ⟨by omega, by omega⟩ ⟨by omega, by omega⟩ ⟨by omega, by omega⟩) pdX2_isIn ⟨Nat.le_of_ble_eq_true rfl, by decide, by omega⟩ (kk_z fun r46 h46 q46 => ?_) kx_z
          obtain ⟨rfl, rfl⟩ := q46
          refine mw_top (x' := bz (0 ≤ i ∧ i ≤ ((sg.1 29) - 1))) rfl ?_
          refine j_bz_ne 56 dX2_ride_49 (by decide) (fun c49 => ?_) (fun c49 => ?_)
          · refine j_iconst dX2_ride_56 ?_
            refine j_iconst dX2_ride_57 ?_
            refine t_inv [(vi 0), (vi 2)] dX2_ride_58 q3256 q3258 qs76 q3259 rfl (c_isThrown0 K 0 h m _ _) pdX2_isThrown ⟨Nat.le_of_ble_eq_true rfl, by decide, by omega⟩ (kk_z fun r58 h58 q58 => ?_) kx_z
            obtain ⟨rfl, rfl⟩ := q58
            refine mw_tov (b := ovr sg [(0, 0)] []) (ovr_ovr _ _ _ _ _) ?_
            refine j_if_eq 66 dX2_ride_61 (by decide) ⟨by decide, by decide⟩ (fun _ => ?_) (fun c => absurd c (by decide))
            exact J66  (by omega) (by omega)
          · refine j_iconst dX2_ride_52 ?_
            refine m_goto 57 dX2_ride_53 (by decide) ?_
            refine j_iconst dX2_ride_57 ?_
            refine t_inv [(vi 1), (vi 2)] dX2_ride_58 q3256 q3258 qs76 q3259 rfl (c_isThrown1 K 0 h m _ _) pdX2_isThrown ⟨Nat.le_of_ble_eq_true rfl, by decide, by omega⟩ (kk_z fun r58 h58 q58 => ?_) kx_z
            obtain ⟨rfl, rfl⟩ := q58
            refine mw_tov (b := ovr sg [(0, 2)] []) (ovr_ovr _ _ _ _ _) ?_
            refine j_if_eq 66 dX2_ride_61 (by decide) ⟨by decide, by decide⟩ (fun c => absurd c (by decide)) (fun _ => ?_)
            refine j_iconst dX2_ride_64 ?_
            subst hQ; exact j_iret dX2_ride_65 rfl (by first | exact Or.inl ⟨(by first | omega | rfl | assumption), (by first | omega | rfl | assumption)⟩ | exact Or.inr (Or.inl ⟨(by first | omega | rfl | assumption), (by first | omega | rfl | assumption), (by first | omega | rfl | assumption)⟩) | exact Or.inr (Or.inr (⟨(by first | omega | rfl | assumption), (by first | omega | rfl | assumption), (by first | omega | rfl | assumption), (by first | omega | rfl | assumption)⟩)))
        · refine j_iconst dX2_ride_25 ?_
          refine m_goto 30 dX2_ride_26 (by decide) ?_
          refine j_iconst dX2_ride_30 ?_
          refine t_inv [(vi 1), (vi 1)] dX2_ride_31 q3256 q3258 qs76 q3259 rfl (c_isThrown1 K 0 h m _ _) pdX2_isThrown ⟨Nat.le_of_ble_eq_true rfl, by decide, by omega⟩ (kk_z fun r31 h31 q31 => ?_) kx_z
          obtain ⟨rfl, rfl⟩ := q31
          refine mw_tov (b := ovr sg [(0, 1)] []) (ovr_ovr _ _ _ _ _) ?_
          refine j_if_ne 64 dX2_ride_34 (by decide) ⟨by decide, by decide⟩ (fun _ => ?_) (fun c => absurd c (by decide))
          refine j_iconst dX2_ride_64 ?_
          subst hQ; exact j_iret dX2_ride_65 rfl (by first | exact Or.inl ⟨(by first | omega | rfl | assumption), (by first | omega | rfl | assumption)⟩ | exact Or.inr (Or.inl ⟨(by first | omega | rfl | assumption), (by first | omega | rfl | assumption), (by first | omega | rfl | assumption)⟩) | exact Or.inr (Or.inr (⟨(by first | omega | rfl | assumption), (by first | omega | rfl | assumption), (by first | omega | rfl | assumption), (by first | omega | rfl | assumption)⟩)))
theorem c_isSound (K : KT) (d : Nat) (h : MH) (m : Nat) (sg : TS) (y : Int) (hd : 2 ≤ d) (hT : TB sg) (i_y : In y)  : Mt K yiX2_isSound d [.ref m, vi y] (tov K h m sg) (Rz fun v h' => (¬ (0 ≤ y ∧ y ≤ 27) ∧ h' = tov K h m (ovr sg [(0, 1)] [])) ∨ ((0 ≤ y ∧ y ≤ 27) ∧ h' = tov K h m (ovr sg [(0, 0)] []) ∧ v = 1)) := by
  have := i_y.1; have := i_y.2
  refine mt_ofQ (by decide) (Nat.le_of_ble_eq_true rfl) (fun Q hQ => ?_)
  show MW K yiX2_isSound d (tov K h m (ovr sg [] [])) 0 [some (.ref m), some (vi y)] [] Q
  refine m_aload_n dX2_isSound_0 rfl ?_
  refine j_iload_n dX2_isSound_1 rfl ?_
  refine j_iconst dX2_isSound_2 ?_
  refine t_inv [(vi y), (vi 1)] dX2_isSound_3 q3297 q3299 qs80 q3300 rfl (c_isNoDay K 1 h m _ _ _ (by omega) ⟨by omega, by omega⟩) pdX2_isNoDay ⟨Nat.le_of_ble_eq_true rfl, by decide, by omega⟩ (kk_z fun r3 h3 q3 => ?_) kx_z
  obtain ⟨rfl, rfl⟩ := q3
  refine mw_tov (b := ovr sg [(0, (if ¬ (0 ≤ y ∧ y ≤ 27) then 1 else 0))] []) (ovr_ovr _ _ _ _ _) ?_
  refine mw_top (x' := bz (¬ (0 ≤ y ∧ y ≤ 27))) rfl ?_
  refine j_bz_ne 13 dX2_isSound_6 (by decide) (fun c6 => ?_) (fun c6 => ?_)
  · refine mw_tov (b := ovr sg [(0, 1)] []) (by rw [if_pos c6]) ?_
    refine j_iconst dX2_isSound_13 ?_
    subst hQ; exact j_zret dX2_isSound_14 rfl (by omega) (by first | exact Or.inl ⟨(by first | omega | rfl | assumption), (by first | omega | rfl | assumption)⟩ | exact Or.inr (⟨(by first | omega | rfl | assumption), (by first | omega | rfl | assumption), (by first | omega | rfl | assumption)⟩))
  · refine mw_tov (b := ovr sg [(0, 0)] []) (by rw [if_neg c6]) ?_
    refine j_iconst dX2_isSound_9 ?_
    refine m_goto 14 dX2_isSound_10 (by decide) ?_
    subst hQ; exact j_zret dX2_isSound_14 rfl (by omega) (by first | exact Or.inl ⟨(by first | omega | rfl | assumption), (by first | omega | rfl | assumption)⟩ | exact Or.inr (⟨(by first | omega | rfl | assumption), (by first | omega | rfl | assumption), (by first | omega | rfl | assumption)⟩))
def mskE (e : Int → Int) (a : Int) : Nat → Int
  | 0 => 0
  | k + 1 => mskE e a k + (if e (k : Int) < a then 2 ^ k else 0)
theorem mskE_b (e : Int → Int) (a : Int) (k : Nat) : 0 ≤ mskE e a k ∧ mskE e a k < 2 ^ k := by
  induction k with
  | zero => exact ⟨Int.le_refl 0, by show (0 : Int) < 1; decide⟩
  | succ k ih =>
    unfold mskE
    have hp : (0 : Int) < 2 ^ k := Int.pow_pos (by omega)
    rw [Int.pow_succ]
    split <;> omega
theorem mskE_s {e : Int → Int} {a k : Int} (hk : 0 ≤ k) : mskE e a (k + 1).toNat = mskE e a k.toNat + (if e k < a then 2 ^ k.toNat else 0) := by
  have e1 : (k + 1).toNat = k.toNat + 1 := by omega
  rw [e1]; show mskE e a k.toNat + (if e (k.toNat : Int) < a then 2 ^ k.toNat else 0) = _
  rw [show (k.toNat : Int) = k by omega]
def minL (f r : Int → Int) : Int → Int := fun v => if f v < r v then f v else r v
theorem c_wall (K : KT) (d : Nat) (h : MH) (m : Nat) (sg : TS) (fr day mi ah : Int) (hd : 6 ≤ d) (hF : WF sg) (h1 : In fr) (h2 : In day) (h3 : In mi) (h4 : In ah) : Mt K yiX2_wall d [.ref m, vi fr, vi day, vi mi, vi ah] (tov K h m sg) (Rz (Qy K h m sg (fun th v => (¬ (0 ≤ fr ∧ fr ≤ sg.1 1 - 1) ∧ th = 1) ∨ ((0 ≤ fr ∧ fr ≤ sg.1 1 - 1) ∧ ¬ ((0 ≤ day ∧ day ≤ 27) ∧ (0 ≤ mi ∧ mi ≤ 1439) ∧ 0 ≤ ah ∧ ah ≤ 4319) ∧ th = 2) ∨ ((0 ≤ fr ∧ fr ≤ sg.1 1 - 1) ∧ ((0 ≤ day ∧ day ≤ 27) ∧ (0 ≤ mi ∧ mi ≤ 1439) ∧ 0 ≤ ah ∧ ah ≤ 4319) ∧ th = 0 ∧ ∃ e : Int → Int, (∀ s, 0 ≤ s → s < sg.1 1 → EA (sd sg day) fr mi s (e s)) ∧ v = mskE e ah (sg.1 1).toNat)))) := by
  have hT := hF.1
  have := h1.1; have := h1.2; have := h2.1; have := h2.2; have := h3.1; have := h3.2; have := h4.1; have := h4.2; have f1 := of1 (hT.1 1)
  refine mt_ofQ (by decide) (Nat.le_of_ble_eq_true rfl) (fun Q hQ => ?_)
  show MW K yiX2_wall d (tov K h m (ovr sg [] [])) 0 [some (.ref m), some (vi fr), some (vi day), some (vi mi), some (vi ah), none, none, none] [] Q
  have f1 := of1 (hT.1 1)
  refine m_aload_n dX2_wall_0 rfl ?_
  refine j_iload_n dX2_wall_1 rfl ?_
  refine t_inv [(vi fr)] dX2_wall_2 q3269 q3271 qs78 q3272 rfl (c_isNoStop K 1 h m _ _ (by omega) (hT.1 1) ⟨by omega, by omega⟩) pdX2_isNoStop ⟨Nat.le_of_ble_eq_true rfl, by decide, by omega⟩ (kk_z fun r2 h2 q2 => ?_) kx_z
  obtain ⟨rfl, rfl⟩ := q2
  refine mw_tov (b := ovr sg [(0, (if ¬ (0 ≤ fr ∧ fr ≤ (sg.1 1) - 1) then 1 else 0))] []) (ovr_ovr _ _ _ _ _) ?_
  refine mw_top (x' := bz (¬ (0 ≤ fr ∧ fr ≤ (sg.1 1) - 1))) rfl ?_
  refine j_bz_ne 54 dX2_wall_5 (by decide) (fun c5 => ?_) (fun c5 => ?_)
  · refine mw_tov (b := ovr sg [(0, 1)] []) (by rw [if_pos c5]) ?_
    refine j_iconst dX2_wall_54 ?_
    subst hQ; exact j_iret dX2_wall_55 rfl (⟨_, rfl, (Scr.ovr sg rfl rfl), (hT.ovr (fa1 (mf0 (v := 1) ⟨by first | decide | omega | (split <;> omega) | assumption, by first | decide | omega | (split <;> omega) | assumption⟩) fa0) fa0), by first | exact Or.inl ⟨by omega, rfl⟩ | exact Or.inr (Or.inl ⟨by omega, by omega, rfl⟩)⟩)
  · refine mw_tov (b := ovr sg [(0, 0)] []) (by rw [if_neg c5]) ?_
    refine m_aload_n dX2_wall_8 rfl ?_
    refine j_iload_n dX2_wall_9 rfl ?_
    refine j_iconst dX2_wall_10 ?_
    refine j_bipush dX2_wall_11 (by decide) ?_
    refine m_invS [(vi day), (vi 0), (vi 27)] dX2_wall_13 q3253 q3254 q133 q3255 (c_isIn K 0 _ _ _ _ ⟨by omega, by omega⟩ ⟨by omega, by omega⟩ ⟨by omega, by omega⟩) pdX2_isIn ⟨Nat.le_of_ble_eq_true rfl, by decide, by omega⟩ (kk_z fun r13 h13 q13 => ?_) kx_z
    obtain ⟨rfl, rfl⟩ := q13
    refine mw_top (x' := bz (0 ≤ day ∧ day ≤ 27)) rfl ?_
    refine j_bz_eq 42 dX2_wall_16 (by decide) (fun c16 => ?_) (fun c16 => ?_)
    · refine j_iconst dX2_wall_42 ?_
      refine m_goto 47 dX2_wall_43 (by decide) ?_
      refine j_iconst dX2_wall_47 ?_
      refine t_inv [(vi 1), (vi 2)] dX2_wall_48 q3256 q3258 qs76 q3259 rfl (c_isThrown1 K 0 h m _ _) pdX2_isThrown ⟨Nat.le_of_ble_eq_true rfl, by decide, by omega⟩ (kk_z fun r48 h48 q48 => ?_) kx_z
      obtain ⟨rfl, rfl⟩ := q48
      refine mw_tov (b := ovr sg [(0, 2)] []) (ovr_ovr _ _ _ _ _) ?_
      refine j_if_eq 56 dX2_wall_51 (by decide) ⟨by decide, by decide⟩ (fun c => absurd c (by decide)) (fun _ => ?_)
      refine j_iconst dX2_wall_54 ?_
      subst hQ; exact j_iret dX2_wall_55 rfl (⟨_, rfl, (Scr.ovr sg rfl rfl), (hT.ovr (fa1 (mf0 (v := 2) ⟨by first | decide | omega | (split <;> omega) | assumption, by first | decide | omega | (split <;> omega) | assumption⟩) fa0) fa0), by first | exact Or.inl ⟨by omega, rfl⟩ | exact Or.inr (Or.inl ⟨by omega, by omega, rfl⟩)⟩)
    · refine j_iload_n dX2_wall_19 rfl ?_
      refine j_iconst dX2_wall_20 ?_
      refine j_sipush dX2_wall_21 (by decide) ?_
      refine m_invS [(vi mi), (vi 0), (vi 1439)] dX2_wall_24 q3253 q3254 q133 q3255 (c_isIn K 0 _ _ _ _ ⟨by omega, by omega⟩ ⟨by omega, by omega⟩ ⟨by omega, by omega⟩) pdX2_isIn ⟨Nat.le_of_ble_eq_true rfl, by decide, by omega⟩ (kk_z fun r24 h24 q24 => ?_) kx_z
      obtain ⟨rfl, rfl⟩ := q24
      refine mw_top (x' := bz (0 ≤ mi ∧ mi ≤ 1439)) rfl ?_
      refine j_bz_eq 42 dX2_wall_27 (by decide) (fun c27 => ?_) (fun c27 => ?_)
      · refine j_iconst dX2_wall_42 ?_
        refine m_goto 47 dX2_wall_43 (by decide) ?_
        refine j_iconst dX2_wall_47 ?_
        refine t_inv [(vi 1), (vi 2)] dX2_wall_48 q3256 q3258 qs76 q3259 rfl (c_isThrown1 K 0 h m _ _) pdX2_isThrown ⟨Nat.le_of_ble_eq_true rfl, by decide, by omega⟩ (kk_z fun r48 h48 q48 => ?_) kx_z
        obtain ⟨rfl, rfl⟩ := q48
        refine mw_tov (b := ovr sg [(0, 2)] []) (ovr_ovr _ _ _ _ _) ?_
        refine j_if_eq 56 dX2_wall_51 (by decide) ⟨by decide, by decide⟩ (fun c => absurd c (by decide)) (fun _ => ?_)
        refine j_iconst dX2_wall_54 ?_
        subst hQ; exact j_iret dX2_wall_55 rfl (⟨_, rfl, (Scr.ovr sg rfl rfl), (hT.ovr (fa1 (mf0 (v := 2) ⟨by first | decide | omega | (split <;> omega) | assumption, by first | decide | omega | (split <;> omega) | assumption⟩) fa0) fa0), by first | exact Or.inl ⟨by omega, rfl⟩ | exact Or.inr (Or.inl ⟨by omega, by omega, rfl⟩)⟩)
      · refine j_iload dX2_wall_30 rfl ?_
        refine j_iconst dX2_wall_32 ?_
        refine j_sipush dX2_wall_33 (by decide) ?_
        refine m_invS [(vi ah), (vi 0), (vi 4319)] dX2_wall_36 q3253 q3254 q133 q3255 (c_isIn K 0 _ _ _ _ ⟨by omega, by omega⟩ ⟨by omega, by omega⟩ ⟨by omega, by omega⟩) pdX2_isIn ⟨Nat.le_of_ble_eq_true rfl, by decide, by omega⟩ (kk_z fun r36 h36 q36 => ?_) kx_z
        obtain ⟨rfl, rfl⟩ := q36
        refine mw_top (x' := bz (0 ≤ ah ∧ ah ≤ 4319)) rfl ?_
        refine j_bz_ne 46 dX2_wall_39 (by decide) (fun c39 => ?_) (fun c39 => ?_)
        · refine j_iconst dX2_wall_46 ?_
          refine j_iconst dX2_wall_47 ?_
          refine t_inv [(vi 0), (vi 2)] dX2_wall_48 q3256 q3258 qs76 q3259 rfl (c_isThrown0 K 0 h m _ _) pdX2_isThrown ⟨Nat.le_of_ble_eq_true rfl, by decide, by omega⟩ (kk_z fun r48 h48 q48 => ?_) kx_z
          obtain ⟨rfl, rfl⟩ := q48
          refine mw_tov (b := ovr sg [(0, 0)] []) (ovr_ovr _ _ _ _ _) ?_
          refine j_if_eq 56 dX2_wall_51 (by decide) ⟨by decide, by decide⟩ (fun _ => ?_) (fun c => absurd c (by decide))
          refine m_aload_n dX2_wall_56 rfl ?_
          refine j_iload_n dX2_wall_57 rfl ?_
          refine j_iload_n dX2_wall_58 rfl ?_
          refine j_iload_n dX2_wall_59 rfl ?_
          refine j_iload_n dX2_wall_60 rfl ?_
          refine t_inv [(vi fr), (vi fr), (vi day), (vi mi)] dX2_wall_61 q3417 q3419 qs92 q3420 rfl (c_earliestOf K 5 h m _ _ _ _ _ (by omega) ⟨(hT.ovr (fa1 (mf0 (v := 0) ⟨by first | decide | omega | (split <;> omega) | assumption, by first | decide | omega | (split <;> omega) | assumption⟩) fa0) fa0), hF.2.1, hF.2.2.1, hF.2.2.2⟩ ⟨by omega, by omega⟩ ⟨by omega, by omega⟩ ⟨by omega, by omega⟩ ⟨by omega, by omega⟩) pdX2_earliestOf ⟨Nat.le_of_ble_eq_true rfl, by decide, by omega⟩ (kk_z fun r61 h61 q61 => ?_) kx_z
          obtain ⟨f61, r61, rfl, x61, y61, z61, w61, rfl⟩ := q61
          refine mw_tov (b := ovr sg [(0, 0), (22, day), (25, 0)] [(23, f61), (24, r61)]) (ovr_ovr _ _ _ _ _) ?_
          refine mw_top (x' := (if f61 fr < r61 fr then f61 fr else r61 fr)) rfl ?_
          refine j_istore [some (.ref m), some (vi fr), some (vi day), some (vi mi), some (vi ah), some (vi (if f61 fr < r61 fr then f61 fr else r61 fr)), none, none] dX2_wall_64 (by decide) rfl rfl ?_
          refine j_iconst dX2_wall_66 ?_
          refine j_istore [some (.ref m), some (vi fr), some (vi day), some (vi mi), some (vi ah), some (vi (if f61 fr < r61 fr then f61 fr else r61 fr)), some (vi 0), none] dX2_wall_67 (by decide) rfl rfl ?_
          refine j_iconst dX2_wall_69 ?_
          refine j_istore [some (.ref m), some (vi fr), some (vi day), some (vi mi), some (vi ah), some (vi (if f61 fr < r61 fr then f61 fr else r61 fr)), some (vi 0), some (vi 0)] dX2_wall_70 (by decide) rfl rfl ?_
          have L72 : ∀ (N : Nat) (st k : Int), (12 - k).toNat = N → (0 ≤ k ∧ k ≤ sg.1 1) → (st = mskE (minL f61 r61) ah k.toNat) → MW K yiX2_wall d (tov K h m (ovr sg [(0, 0), (22, day), (25, 0)] [(23, f61), (24, r61)])) 72 [some (.ref m), some (vi fr), some (vi day), some (vi mi), some (vi ah), none, some (vi st), some (vi k)] [] Q := by
            intro N
            induction N using Nat.strongRecOn with
            | _ N ih72 =>
            intro st k hN72 hk hs
            refine j_iload dX2_wall_72 rfl ?_
            refine m_aload_n dX2_wall_74 rfl ?_
            refine t_geti 1 (by decide) (sg.1 1) dX2_wall_75 q3094 rfl ?_
            refine j_icmp_ge 111 dX2_wall_78 (by decide) ⟨⟨by omega, by omega⟩, ⟨by omega, by omega⟩⟩ (fun c78 => ?_) (fun c78 => ?_)
            · refine j_iload dX2_wall_111 rfl ?_
              subst hQ; exact j_iret dX2_wall_113 rfl (⟨_, rfl, (Scr.ovr sg rfl rfl), (hT.ovr (fa1 (mf0 (v := 0) ⟨by first | decide | omega | (split <;> omega) | assumption, by first | decide | omega | (split <;> omega) | assumption⟩) (fa1 (mf22 (v := day) ⟨by first | decide | omega | (split <;> omega) | assumption, by first | decide | omega | (split <;> omega) | assumption⟩) (fa1 (mf25 (v := 0) ⟨by first | decide | omega | (split <;> omega) | assumption, by first | decide | omega | (split <;> omega) | assumption⟩) fa0))) (fa1 x61 (fa1 y61 fa0))), Or.inr (Or.inr ⟨by omega, by omega, rfl, minL f61 r61, fun s a b => EA.te (a := sd (ovr sg [(0, 0)] []) day) (b := sd sg day) rfl (w61.ea x61 y61 z61 ⟨a, b⟩ (by show sg.1 1 ≤ 12; omega)), by rw [hs, show k = sg.1 1 by omega]⟩)⟩)
            · have b23 := oa23 x61 k (by omega) (by omega)
              have b24 := oa24 y61 k (by omega) (by omega)
              refine j_iload dX2_wall_81 rfl ?_
              refine m_aload_n dX2_wall_83 rfl ?_
              refine j_iload dX2_wall_84 rfl ?_
              refine t_inv [(vi k)] dX2_wall_86 q3461 q3463 qs103 q3464 rfl (c_at K 0 h m _ _ (hT.ovr (fa1 (mf0 (v := 0) ⟨by first | decide | omega | (split <;> omega) | assumption, by first | decide | omega | (split <;> omega) | assumption⟩) (fa1 (mf22 (v := day) ⟨by first | decide | omega | (split <;> omega) | assumption, by first | decide | omega | (split <;> omega) | assumption⟩) (fa1 (mf25 (v := 0) ⟨by first | decide | omega | (split <;> omega) | assumption, by first | decide | omega | (split <;> omega) | assumption⟩) fa0))) (fa1 x61 (fa1 y61 fa0))) ⟨by omega, by omega⟩) pdX2_at ⟨Nat.le_of_ble_eq_true rfl, by decide, by omega⟩ (kk_z fun r86 h86 q86 => ?_) kx_z
              obtain ⟨rfl, rfl⟩ := q86
              refine mw_top (x' := (if f61 k < r61 k then f61 k else r61 k)) rfl ?_
              refine j_iload dX2_wall_89 rfl ?_
              refine j_icmp_ge 101 dX2_wall_91 (by decide) ⟨⟨by omega, by omega⟩, ⟨by omega, by omega⟩⟩ (fun c91 => ?_) (fun c91 => ?_)
              · refine j_iconst dX2_wall_101 ?_
                refine j_ior0 dX2_wall_102 ?_
                refine j_istore [some (.ref m), some (vi fr), some (vi day), some (vi mi), some (vi ah), none, some (vi st), some (vi k)] dX2_wall_103 (by decide) rfl rfl ?_
                refine j_iinc [some (.ref m), some (vi fr), some (vi day), some (vi mi), some (vi ah), none, some (vi st), some (vi (k + 1))] dX2_wall_105 rfl (by decide) rfl rfl ?_
                refine m_goto 72 dX2_wall_108 (by decide) ?_
                exact ih72 _ (by omega) _ _ rfl (by omega) (by rw [mskE_s hk.1, hs]; first | rw [if_pos (show minL f61 r61 k < ah by unfold minL; omega)] | rw [if_neg (show ¬ minL f61 r61 k < ah by unfold minL; omega), Int.add_zero])
              · refine j_iconst dX2_wall_94 ?_
                refine j_iload dX2_wall_95 rfl ?_
                refine j_ishl1 dX2_wall_97 ⟨by omega, by omega⟩ ?_
                refine m_goto 102 dX2_wall_98 (by decide) ?_
                refine j_iorM dX2_wall_102 (by exact ⟨by rw [hs]; exact mskE_b _ _ _, by omega⟩) ?_
                refine j_istore [some (.ref m), some (vi fr), some (vi day), some (vi mi), some (vi ah), none, some (vi (st + (2 ^ k.toNat))), some (vi k)] dX2_wall_103 (by decide) rfl rfl ?_
                refine j_iinc [some (.ref m), some (vi fr), some (vi day), some (vi mi), some (vi ah), none, some (vi (st + (2 ^ k.toNat))), some (vi (k + 1))] dX2_wall_105 rfl (by decide) rfl rfl ?_
                refine m_goto 72 dX2_wall_108 (by decide) ?_
                exact ih72 _ (by omega) _ _ rfl (by omega) (by rw [mskE_s hk.1, hs]; first | rw [if_pos (show minL f61 r61 k < ah by unfold minL; omega)] | rw [if_neg (show ¬ minL f61 r61 k < ah by unfold minL; omega), Int.add_zero])
          refine mw_forget 5 ?_
          exact L72 _ _ _ rfl (by omega) rfl
        · refine j_iconst dX2_wall_42 ?_
          refine m_goto 47 dX2_wall_43 (by decide) ?_
          refine j_iconst dX2_wall_47 ?_
          refine t_inv [(vi 1), (vi 2)] dX2_wall_48 q3256 q3258 qs76 q3259 rfl (c_isThrown1 K 0 h m _ _) pdX2_isThrown ⟨Nat.le_of_ble_eq_true rfl, by decide, by omega⟩ (kk_z fun r48 h48 q48 => ?_) kx_z
          obtain ⟨rfl, rfl⟩ := q48
          refine mw_tov (b := ovr sg [(0, 2)] []) (ovr_ovr _ _ _ _ _) ?_
          refine j_if_eq 56 dX2_wall_51 (by decide) ⟨by decide, by decide⟩ (fun c => absurd c (by decide)) (fun _ => ?_)
          refine j_iconst dX2_wall_54 ?_
          subst hQ; exact j_iret dX2_wall_55 rfl (⟨_, rfl, (Scr.ovr sg rfl rfl), (hT.ovr (fa1 (mf0 (v := 2) ⟨by first | decide | omega | (split <;> omega) | assumption, by first | decide | omega | (split <;> omega) | assumption⟩) fa0) fa0), by first | exact Or.inl ⟨by omega, rfl⟩ | exact Or.inr (Or.inl ⟨by omega, by omega, rfl⟩)⟩)
def mbC (sg : TS) (t : Int) : Nat → Int
  | 0 => 0
  | k + 1 => mbC sg t k + (sg.2 12 (8 * t + ((k : Int) + 1)) - sg.2 13 (8 * t + ((k : Int) + 1) - 1))
def mbT (sg : TS) : Nat → Int
  | 0 => 0
  | t + 1 => mbT sg t + mbC sg (t : Int) (sg.2 10 (t : Int) - 1).toNat
def mbN (sg : TS) : Nat → Int
  | 0 => 0
  | t + 1 => mbN sg t + ((sg.2 10 (t : Int) - 1).toNat : Int)
theorem mbC_s {sg : TS} {t k : Int} (hk : 1 ≤ k) : mbC sg t (k + 1 - 1).toNat = mbC sg t (k - 1).toNat + (sg.2 12 (8 * t + k) - sg.2 13 (8 * t + k - 1)) := by
  have e : (k + 1 - 1).toNat = (k - 1).toNat + 1 := by omega
  rw [e]; show mbC sg t (k - 1).toNat + (sg.2 12 (8 * t + (((k - 1).toNat : Int) + 1)) - sg.2 13 (8 * t + (((k - 1).toNat : Int) + 1) - 1)) = _
  rw [show ((k - 1).toNat : Int) + 1 = k by omega]
theorem mbT_s {sg : TS} {t : Int} (ht : 0 ≤ t) : mbT sg (t + 1).toNat = mbT sg t.toNat + mbC sg t (sg.2 10 t - 1).toNat := by
  have e : (t + 1).toNat = t.toNat + 1 := by omega
  rw [e]; show mbT sg t.toNat + mbC sg (t.toNat : Int) (sg.2 10 (t.toNat : Int) - 1).toNat = _
  rw [show (t.toNat : Int) = t by omega]
theorem mbN_s {sg : TS} {t : Int} (ht : 0 ≤ t) : mbN sg (t + 1).toNat = mbN sg t.toNat + ((sg.2 10 t - 1).toNat : Int) := by
  have e : (t + 1).toNat = t.toNat + 1 := by omega
  rw [e]; show mbN sg t.toNat + ((sg.2 10 (t.toNat : Int) - 1).toNat : Int) = _
  rw [show (t.toNat : Int) = t by omega]
theorem c_meanBetween (K : KT) (d : Nat) (h : MH) (m : Nat) (sg : TS)  (hd : 2 ≤ d) (hT : TB sg)  (hC : clOk sg) (hne : ∀ a b : Int, 0 < b → b ≤ 168 → vf_n64 (FP.ddiv (FP.i2d (Int32.ofInt a)) (FP.i2d (Int32.ofInt b)))) : Mt K yiX2_meanBetween d [.ref m] (tov K h m sg) (Rd fun v h' => (mbN sg (sg.1 8).toNat = 0 ∧ h' = tov K h m (ovr sg [(0, 1)] [])) ∨ (mbN sg (sg.1 8).toNat ≠ 0 ∧ h' = tov K h m (ovr sg [(0, 0)] []) ∧ v = FP.ddiv (FP.i2d (Int32.ofInt (mbT sg (sg.1 8).toNat))) (FP.i2d (Int32.ofInt (mbN sg (sg.1 8).toNat))))) := by
  have f8 := of8 (hT.1 8)
  refine mt_ofQ (by decide) (Nat.le_of_ble_eq_true rfl) (fun Q hQ => ?_)
  show MW K yiX2_meanBetween d (tov K h m (ovr sg [] [])) 0 [some (.ref m), none, none, none, none] [] Q
  have f8 := of8 (hT.1 8)
  refine j_iconst dX2_meanBetween_0 ?_
  refine j_istore_n [some (.ref m), some (vi 0), none, none, none] dX2_meanBetween_1 (by decide) rfl rfl ?_
  refine j_iconst dX2_meanBetween_2 ?_
  refine j_istore_n [some (.ref m), some (vi 0), some (vi 0), none, none] dX2_meanBetween_3 (by decide) rfl rfl ?_
  refine j_iconst dX2_meanBetween_4 ?_
  refine j_istore_n [some (.ref m), some (vi 0), some (vi 0), some (vi 0), none] dX2_meanBetween_5 (by decide) rfl rfl ?_
  have L6 : ∀ (N : Nat) (mn su t : Int), (sg.1 8 - t).toNat = N → (0 ≤ t ∧ t ≤ sg.1 8) → (mn = mbN sg t.toNat ∧ 0 ≤ mn ∧ mn ≤ 7 * t) → (su = mbT sg t.toNat) → MW K yiX2_meanBetween d (tov K h m (ovr sg [] [])) 6 [some (.ref m), some (vi mn), some (vi su), some (vi t), none] [] Q := by
    intro N
    induction N using Nat.strongRecOn with
    | _ N ih6 =>
    intro mn su t hN6 ht hm hs
    refine j_iload_n dX2_meanBetween_6 rfl ?_
    refine m_aload_n dX2_meanBetween_7 rfl ?_
    refine t_geti 8 (by decide) (sg.1 8) dX2_meanBetween_8 q3101 rfl ?_
    refine j_icmp_ge 73 dX2_meanBetween_11 (by decide) ⟨⟨by omega, by omega⟩, ⟨by omega, by omega⟩⟩ (fun c11 => ?_) (fun c11 => ?_)
    · have et : t = sg.1 8 := by omega
      refine m_aload_n dX2_meanBetween_73 rfl ?_
      refine j_iload_n dX2_meanBetween_74 rfl ?_
      refine j_if_ne 82 dX2_meanBetween_75 (by decide) ⟨by omega, by omega⟩ (fun c75 => ?_) (fun c75 => ?_)
      · refine j_iconst dX2_meanBetween_82 ?_
        refine j_iconst dX2_meanBetween_83 ?_
        refine t_inv [(vi 0), (vi 1)] dX2_meanBetween_84 q3256 q3258 qs76 q3259 rfl (c_isThrown0 K 0 h m _ _) pdX2_isThrown ⟨Nat.le_of_ble_eq_true rfl, by decide, by omega⟩ (kk_z fun r84 h84 q84 => ?_) kx_z
        obtain ⟨rfl, rfl⟩ := q84
        refine mw_tov (b := ovr sg [(0, 0)] []) (ovr_ovr _ _ _ _ _) ?_
        refine j_if_eq 94 dX2_meanBetween_87 (by decide) ⟨by decide, by decide⟩ (fun _ => ?_) (fun c => absurd c (by decide))
        refine j_iload_n dX2_meanBetween_94 rfl ?_
        refine m_i2d dX2_meanBetween_95 ?_
        refine j_iload_n dX2_meanBetween_96 rfl ?_
        refine m_i2d dX2_meanBetween_97 ?_
        refine m_ddiv dX2_meanBetween_98 (hne _ _ (by omega) (by omega)) ?_
        subst hQ; exact m_dret dX2_meanBetween_99 rfl ⟨_, rfl, (by rw [et] at hm hs; first | exact Or.inl ⟨by omega, rfl⟩ | exact Or.inr ⟨by omega, rfl, by rw [← hs, ← hm.1]⟩)⟩
      · refine j_iconst dX2_meanBetween_78 ?_
        refine m_goto 83 dX2_meanBetween_79 (by decide) ?_
        refine j_iconst dX2_meanBetween_83 ?_
        refine t_inv [(vi 1), (vi 1)] dX2_meanBetween_84 q3256 q3258 qs76 q3259 rfl (c_isThrown1 K 0 h m _ _) pdX2_isThrown ⟨Nat.le_of_ble_eq_true rfl, by decide, by omega⟩ (kk_z fun r84 h84 q84 => ?_) kx_z
        obtain ⟨rfl, rfl⟩ := q84
        refine mw_tov (b := ovr sg [(0, 1)] []) (ovr_ovr _ _ _ _ _) ?_
        refine j_if_eq 94 dX2_meanBetween_87 (by decide) ⟨by decide, by decide⟩ (fun c => absurd c (by decide)) (fun _ => ?_)
        refine m_dconst0 dX2_meanBetween_90 ?_
        refine m_goto 99 dX2_meanBetween_91 (by decide) ?_
        subst hQ; exact m_dret dX2_meanBetween_99 rfl ⟨_, rfl, (by rw [et] at hm hs; first | exact Or.inl ⟨by omega, rfl⟩ | exact Or.inr ⟨by omega, rfl, by rw [← hs, ← hm.1]⟩)⟩
    · refine j_iconst dX2_meanBetween_14 ?_
      refine j_istore [some (.ref m), some (vi mn), some (vi su), some (vi t), some (vi 1)] dX2_meanBetween_15 (by decide) rfl rfl ?_
      have L17 : ∀ (N : Nat) (mn2 su2 k : Int), (8 - k).toNat = N → (1 ≤ k ∧ k ≤ sg.2 10 t ∧ sg.2 10 t ≤ 8) → (mn2 = mn + (k - 1) ∧ 0 ≤ mn2) → (su2 = su + mbC sg t (k - 1).toNat) → MW K yiX2_meanBetween d (tov K h m (ovr sg [] [])) 17 [some (.ref m), some (vi mn2), some (vi su2), some (vi t), some (vi k)] [] Q := by
        intro N
        induction N using Nat.strongRecOn with
        | _ N ih17 =>
        intro mn2 su2 k hN17 hk hm2 hs2
        refine j_iload dX2_meanBetween_17 rfl ?_
        refine m_aload_n dX2_meanBetween_19 rfl ?_
        refine t_geta 10 6 (by decide) dX2_meanBetween_20 q3103 rfl ?_
        refine j_iload_n dX2_meanBetween_23 rfl ?_
        refine t_aldB 6 (by decide) (n := 24) (sg.2 10) dX2_meanBetween_24 rfl (Nat.le_of_ble_eq_true rfl) (oa10 (hT.2 10)) ⟨by omega, by omega⟩ (fun b24 => ?_)
        refine j_icmp_ge 67 dX2_meanBetween_25 (by decide) ⟨⟨by omega, by omega⟩, ⟨by omega, by omega⟩⟩ (fun c25 => ?_) (fun c25 => ?_)
        · refine j_iinc [some (.ref m), some (vi mn2), some (vi su2), some (vi (t + 1)), some (vi k)] dX2_meanBetween_67 rfl (by decide) rfl rfl ?_
          refine m_goto 6 dX2_meanBetween_70 (by decide) ?_
          refine mw_forget 4 ?_
          exact ih6 _ (by omega) _ _ _ rfl (by omega) ⟨by rw [mbN_s ht.1, hm2.1, hm.1, show k = sg.2 10 t by omega]; omega, by omega, by omega⟩ (by rw [mbT_s ht.1, hs2, hs, show k = sg.2 10 t by omega])
        · refine j_iload_n dX2_meanBetween_28 rfl ?_
          refine m_aload_n dX2_meanBetween_29 rfl ?_
          refine t_geta 12 8 (by decide) dX2_meanBetween_30 q3105 rfl ?_
          refine j_bipush dX2_meanBetween_33 (by decide) ?_
          refine j_iload_n dX2_meanBetween_35 rfl ?_
          refine j_imul dX2_meanBetween_36 ?_
          refine j_iload dX2_meanBetween_37 rfl ?_
          refine j_iadd dX2_meanBetween_39 ?_
          refine t_aldB 8 (by decide) (n := 192) (sg.2 12) dX2_meanBetween_40 rfl (Nat.le_of_ble_eq_true rfl) (oa12 (hT.2 12)) ⟨by omega, by omega⟩ (fun b40 => ?_)
          refine m_aload_n dX2_meanBetween_41 rfl ?_
          refine t_geta 13 9 (by decide) dX2_meanBetween_42 q3106 rfl ?_
          refine j_bipush dX2_meanBetween_45 (by decide) ?_
          refine j_iload_n dX2_meanBetween_47 rfl ?_
          refine j_imul dX2_meanBetween_48 ?_
          refine j_iload dX2_meanBetween_49 rfl ?_
          refine j_iadd dX2_meanBetween_51 ?_
          refine j_iconst dX2_meanBetween_52 ?_
          refine j_isub dX2_meanBetween_53 ?_
          refine t_aldB 9 (by decide) (n := 192) (sg.2 13) dX2_meanBetween_54 rfl (Nat.le_of_ble_eq_true rfl) (oa13 (hT.2 13)) ⟨by omega, by omega⟩ (fun b54 => ?_)
          refine j_isub dX2_meanBetween_55 ?_
          refine j_iadd dX2_meanBetween_56 ?_
          refine j_istore_n [some (.ref m), some (vi mn2), some (vi (su2 + (((sg.2 12) ((8 * t) + k)) - ((sg.2 13) (((8 * t) + k) - 1))))), some (vi t), some (vi k)] dX2_meanBetween_57 (by decide) rfl rfl ?_
          refine j_iinc [some (.ref m), some (vi (mn2 + 1)), some (vi (su2 + (((sg.2 12) ((8 * t) + k)) - ((sg.2 13) (((8 * t) + k) - 1))))), some (vi t), some (vi k)] dX2_meanBetween_58 rfl (by decide) rfl rfl ?_
          refine j_iinc [some (.ref m), some (vi (mn2 + 1)), some (vi (su2 + (((sg.2 12) ((8 * t) + k)) - ((sg.2 13) (((8 * t) + k) - 1))))), some (vi t), some (vi (k + 1))] dX2_meanBetween_61 rfl (by decide) rfl rfl ?_
          refine m_goto 17 dX2_meanBetween_64 (by decide) ?_
          exact ih17 _ (by omega) _ _ _ rfl (by omega) (by omega) (by rw [mbC_s hk.1, hs2]; omega)
      exact L17 _ _ _ _ rfl (by have h1 := hC t (by omega) (by omega); have h2 := oa10 (hT.2 10) t (by omega) (by omega); omega) (by omega) (by show su = su + mbC sg t 0; unfold mbC; omega)
  exact L6 _ _ _ _ rfl (by omega) ⟨rfl, by omega, by omega⟩ rfl
/-! the checksum -/
def ckF (f : Int → Int) (o : Int) (s : Int64) : Nat → Int64
  | 0 => s
  | k + 1 => 31 * ckF f o s k + vl (f (o + (k : Int)))
theorem ckF_s {f : Int → Int} {o : Int} {s : Int64} {k : Int} (hk : 0 ≤ k) : ckF f o s (k + 1).toNat = 31 * ckF f o s k.toNat + vl (f (o + k)) := by
  have e : (k + 1).toNat = k.toNat + 1 := by omega
  rw [e]; show 31 * ckF f o s k.toNat + vl (f (o + (k.toNat : Int))) = _
  rw [show (k.toNat : Int) = k by omega]
def ckC (sg : TS) (t : Int) (s : Int64) : Nat → Int64
  | 0 => s
  | k + 1 => 31 * (31 * (31 * ckC sg t s k + vl (sg.2 11 (8 * t + (k : Int)))) + vl (sg.2 12 (8 * t + (k : Int)))) + vl (sg.2 13 (8 * t + (k : Int)))
theorem ckC_s {sg : TS} {t : Int} {s : Int64} {k : Int} (hk : 0 ≤ k) : ckC sg t s (k + 1).toNat = 31 * (31 * (31 * ckC sg t s k.toNat + vl (sg.2 11 (8 * t + k))) + vl (sg.2 12 (8 * t + k))) + vl (sg.2 13 (8 * t + k)) := by
  have e : (k + 1).toNat = k.toNat + 1 := by omega
  rw [e]; show 31 * (31 * (31 * ckC sg t s k.toNat + vl (sg.2 11 (8 * t + (k.toNat : Int)))) + vl (sg.2 12 (8 * t + (k.toNat : Int)))) + vl (sg.2 13 (8 * t + (k.toNat : Int))) = _
  rw [show (k.toNat : Int) = k by omega]
def ckT (sg : TS) (s : Int64) : Nat → Int64
  | 0 => s
  | t + 1 => ckC sg (t : Int) (31 * ckT sg s t + vl (sg.2 9 (t : Int))) (sg.2 10 (t : Int)).toNat
theorem ckT_s {sg : TS} {s : Int64} {t : Int} (hk : 0 ≤ t) : ckT sg s (t + 1).toNat = ckC sg t (31 * ckT sg s t.toNat + vl (sg.2 9 t)) (sg.2 10 t).toNat := by
  have e : (t + 1).toNat = t.toNat + 1 := by omega
  rw [e]; show ckC sg (t.toNat : Int) (31 * ckT sg s t.toNat + vl (sg.2 9 (t.toNat : Int))) (sg.2 10 (t.toNat : Int)).toNat = _
  rw [show (t.toNat : Int) = t by omega]
def ckO (sg : TS) (s : Int64) : Nat → Int64
  | 0 => s
  | k + 1 => ckF (sg.2 7) (28 * (k : Int)) (ckO sg s k) 28
theorem ckO_s {sg : TS} {s : Int64} {k : Int} (hk : 0 ≤ k) : ckO sg s (k + 1).toNat = ckF (sg.2 7) (28 * k) (ckO sg s k.toNat) 28 := by
  have e : (k + 1).toNat = k.toNat + 1 := by omega
  rw [e]; show ckF (sg.2 7) (28 * (k.toNat : Int)) (ckO sg s k.toNat) 28 = _
  rw [show (k.toNat : Int) = k by omega]
def ckS (sg : TS) : Int64 := 31 * ckO sg (ckT sg (ckF (sg.2 2) 0 7 (sg.1 1).toNat) (sg.1 8).toNat) (sg.1 6).toNat + vl (sg.1 19)
theorem c_checksum (K : KT) (d : Nat) (h : MH) (m : Nat) (sg : TS)  (hd : 0 ≤ d) (hT : TB sg)   : Mt K yiX2_checksum d [.ref m] (tov K h m sg) (Rl fun v h' => h' = tov K h m (ovr sg [(0, 0)] []) ∧ v = ckS sg) := by
  have f8 := of8 (hT.1 8)
  refine mt_ofQ (by decide) (Nat.le_of_ble_eq_true rfl) (fun Q hQ => ?_)
  show MW K yiX2_checksum d (tov K h m (ovr sg [] [])) 0 [some (.ref m), none, none, none, none] [] Q
  have f1 := of1 (hT.1 1)
  have f6 := of6 (hT.1 6)
  have f8 := of8 (hT.1 8)
  have f19 := of19 (hT.1 19)
  refine m_aload_n dX2_checksum_0 rfl ?_
  refine j_iconst dX2_checksum_1 ?_
  refine t_puti 0 (by decide) [(0, 0)] dX2_checksum_2 q3093 rfl rfl rfl rfl ?_
  refine m_ldc2 (v := 7) dX2_checksum_5 q3646 ?_
  refine m_lstore_n dX2_checksum_8 (by decide) rfl ?_
  show MW K yiX2_checksum d (tov K h m (ovr sg [(0, 0)] [])) 9 [some (.ref m), some (.long (7 : Int64)), none, none, none] [] Q
  refine j_iconst dX2_checksum_9 ?_
  refine j_istore_n [some (.ref m), some (.long (7 : Int64)), none, some (vi 0), none] dX2_checksum_10 (by decide) rfl rfl ?_
  have L11 : ∀ (N : Nat) (s : Int64) (k : Int), (12 - k).toNat = N → (0 ≤ k ∧ k ≤ sg.1 1) → (s = ckF (sg.2 2) 0 7 k.toNat) → MW K yiX2_checksum d (tov K h m (ovr sg [(0, 0)] [])) 11 [some (.ref m), some (.long s), none, some (vi k), none] [] Q := by
    intro N
    induction N using Nat.strongRecOn with
    | _ N ih11 =>
    intro s k hN11 hk hs
    refine j_iload_n dX2_checksum_11 rfl ?_
    refine m_aload_n dX2_checksum_12 rfl ?_
    refine t_geti 1 (by decide) (sg.1 1) dX2_checksum_13 q3094 rfl ?_
    refine j_icmp_ge 39 dX2_checksum_16 (by decide) ⟨⟨by omega, by omega⟩, ⟨by omega, by omega⟩⟩ (fun c16 => ?_) (fun c16 => ?_)
    · refine j_iconst dX2_checksum_39 ?_
      refine j_istore_n [some (.ref m), some (.long s), none, some (vi 0), none] dX2_checksum_40 (by decide) rfl rfl ?_
      have L41 : ∀ (N : Nat) (s2 : Int64) (t : Int), (24 - t).toNat = N → (0 ≤ t ∧ t ≤ sg.1 8) → (s2 = ckT sg (ckF (sg.2 2) 0 7 (sg.1 1).toNat) t.toNat) → MW K yiX2_checksum d (tov K h m (ovr sg [(0, 0)] [])) 41 [some (.ref m), some (.long s2), none, some (vi t), none] [] Q := by
        intro N
        induction N using Nat.strongRecOn with
        | _ N ih41 =>
        intro s2 t hN41 ht hs2
        refine j_iload_n dX2_checksum_41 rfl ?_
        refine m_aload_n dX2_checksum_42 rfl ?_
        refine t_geti 8 (by decide) (sg.1 8) dX2_checksum_43 q3101 rfl ?_
        refine j_icmp_ge 149 dX2_checksum_46 (by decide) ⟨⟨by omega, by omega⟩, ⟨by omega, by omega⟩⟩ (fun c46 => ?_) (fun c46 => ?_)
        · refine j_iconst dX2_checksum_149 ?_
          refine j_istore_n [some (.ref m), some (.long s2), none, some (vi 0), none] dX2_checksum_150 (by decide) rfl rfl ?_
          have L151 : ∀ (N : Nat) (s4 : Int64) (q : Int), (6 - q).toNat = N → (0 ≤ q ∧ q ≤ sg.1 6) → (s4 = ckO sg (ckT sg (ckF (sg.2 2) 0 7 (sg.1 1).toNat) (sg.1 8).toNat) q.toNat) → MW K yiX2_checksum d (tov K h m (ovr sg [(0, 0)] [])) 151 [some (.ref m), some (.long s4), none, some (vi q), none] [] Q := by
            intro N
            induction N using Nat.strongRecOn with
            | _ N ih151 =>
            intro s4 q hN151 hq hs4
            refine j_iload_n dX2_checksum_151 rfl ?_
            refine m_aload_n dX2_checksum_152 rfl ?_
            refine t_geti 6 (by decide) (sg.1 6) dX2_checksum_153 q3099 rfl ?_
            refine j_icmp_ge 209 dX2_checksum_156 (by decide) ⟨⟨by omega, by omega⟩, ⟨by omega, by omega⟩⟩ (fun c156 => ?_) (fun c156 => ?_)
            · refine m_ldc2 (v := 31) dX2_checksum_209 q3647 ?_
              refine m_lload_n dX2_checksum_212 rfl ?_
              refine m_lmul dX2_checksum_213 ?_
              refine m_aload_n dX2_checksum_214 rfl ?_
              refine t_geti 19 (by decide) (sg.1 19) dX2_checksum_215 q3112 rfl ?_
              refine j_i2l dX2_checksum_218 ?_
              refine m_ladd dX2_checksum_219 ?_
              subst hQ; exact m_lret dX2_checksum_220 rfl ⟨_, rfl, ⟨rfl, by unfold ckS; rw [hs4, show q = sg.1 6 by omega]⟩⟩
            · refine j_iconst dX2_checksum_159 ?_
              refine j_istore [some (.ref m), some (.long s4), none, some (vi q), some (vi 0)] dX2_checksum_160 (by decide) rfl rfl ?_
              have L162 : ∀ (N : Nat) (s5 : Int64) (j : Int), (28 - j).toNat = N → (0 ≤ j ∧ j ≤ 28) → (s5 = ckF (sg.2 7) (28 * q) s4 j.toNat) → MW K yiX2_checksum d (tov K h m (ovr sg [(0, 0)] [])) 162 [some (.ref m), some (.long s5), none, some (vi q), some (vi j)] [] Q := by
                intro N
                induction N using Nat.strongRecOn with
                | _ N ih162 =>
                intro s5 j hN162 hj hs5
                refine j_iload dX2_checksum_162 rfl ?_
                refine j_bipush dX2_checksum_164 (by decide) ?_
                refine j_icmp_ge 203 dX2_checksum_166 (by decide) ⟨⟨by omega, by omega⟩, ⟨by omega, by omega⟩⟩ (fun c166 => ?_) (fun c166 => ?_)
                · refine j_iinc [some (.ref m), some (.long s5), none, some (vi (q + 1)), some (vi j)] dX2_checksum_203 rfl (by decide) rfl rfl ?_
                  refine m_goto 151 dX2_checksum_206 (by decide) ?_
                  refine mw_forget 4 ?_
                  exact ih151 _ (by omega) _ _ rfl (by omega) (by rw [ckO_s hq.1, hs5, hs4, show j = 28 by omega]; rfl)
                · refine m_ldc2 (v := 31) dX2_checksum_169 q3647 ?_
                  refine m_lload_n dX2_checksum_172 rfl ?_
                  refine m_lmul dX2_checksum_173 ?_
                  refine m_aload_n dX2_checksum_174 rfl ?_
                  refine t_geta 7 4 (by decide) dX2_checksum_175 q3100 rfl ?_
                  refine j_bipush dX2_checksum_178 (by decide) ?_
                  refine j_iload_n dX2_checksum_180 rfl ?_
                  refine j_imul dX2_checksum_181 ?_
                  refine j_iload dX2_checksum_182 rfl ?_
                  refine j_iadd dX2_checksum_184 ?_
                  refine t_zldB (sg.2 7) dX2_checksum_185 rfl (oa7 (hT.2 7)) ⟨by omega, by omega⟩ (fun b185 => ?_)
                  refine j_if_eq 193 dX2_checksum_186 (by decide) ⟨by omega, by omega⟩ (fun c186 => ?_) (fun c186 => ?_)
                  · refine j_iconst dX2_checksum_193 ?_
                    refine j_i2l dX2_checksum_194 ?_
                    refine m_ladd dX2_checksum_195 ?_
                    refine m_lstore_n dX2_checksum_196 (by decide) rfl ?_
                    show MW K yiX2_checksum d (tov K h m (ovr sg [(0, 0)] [])) 197 [some (.ref m), some (.long (((31 : Int64) * s5) + (vl 0))), none, some (vi q), some (vi j)] [] Q
                    refine j_iinc [some (.ref m), some (.long (((31 : Int64) * s5) + (vl 0))), none, some (vi q), some (vi (j + 1))] dX2_checksum_197 rfl (by decide) rfl rfl ?_
                    refine m_goto 162 dX2_checksum_200 (by decide) ?_
                    exact ih162 _ (by omega) _ _ rfl (by omega) (by rw [ckF_s hj.1, hs5]; congr 2; omega)
                  · refine j_iconst dX2_checksum_189 ?_
                    refine m_goto 194 dX2_checksum_190 (by decide) ?_
                    refine j_i2l dX2_checksum_194 ?_
                    refine m_ladd dX2_checksum_195 ?_
                    refine m_lstore_n dX2_checksum_196 (by decide) rfl ?_
                    show MW K yiX2_checksum d (tov K h m (ovr sg [(0, 0)] [])) 197 [some (.ref m), some (.long (((31 : Int64) * s5) + (vl 1))), none, some (vi q), some (vi j)] [] Q
                    refine j_iinc [some (.ref m), some (.long (((31 : Int64) * s5) + (vl 1))), none, some (vi q), some (vi (j + 1))] dX2_checksum_197 rfl (by decide) rfl rfl ?_
                    refine m_goto 162 dX2_checksum_200 (by decide) ?_
                    exact ih162 _ (by omega) _ _ rfl (by omega) (by rw [ckF_s hj.1, hs5]; congr 2; omega)
              exact L162 _ _ _ rfl (by omega) rfl
          exact L151 _ _ _ rfl (by omega) (by rw [hs2, show t = sg.1 8 by omega]; rfl)
        · refine m_ldc2 (v := 31) dX2_checksum_49 q3647 ?_
          refine m_lload_n dX2_checksum_52 rfl ?_
          refine m_lmul dX2_checksum_53 ?_
          refine m_aload_n dX2_checksum_54 rfl ?_
          refine t_geta 9 5 (by decide) dX2_checksum_55 q3102 rfl ?_
          refine j_iload_n dX2_checksum_58 rfl ?_
          refine t_aldB 5 (by decide) (n := 24) (sg.2 9) dX2_checksum_59 rfl (Nat.le_of_ble_eq_true rfl) (oa9 (hT.2 9)) ⟨by omega, by omega⟩ (fun b59 => ?_)
          refine j_i2l dX2_checksum_60 ?_
          refine m_ladd dX2_checksum_61 ?_
          refine m_lstore_n dX2_checksum_62 (by decide) rfl ?_
          show MW K yiX2_checksum d (tov K h m (ovr sg [(0, 0)] [])) 63 [some (.ref m), some (.long (((31 : Int64) * s2) + (vl ((sg.2 9) t)))), none, some (vi t), none] [] Q
          refine j_iconst dX2_checksum_63 ?_
          refine j_istore [some (.ref m), some (.long (((31 : Int64) * s2) + (vl ((sg.2 9) t)))), none, some (vi t), some (vi 0)] dX2_checksum_64 (by decide) rfl rfl ?_
          have L66 : ∀ (N : Nat) (s3 : Int64) (c : Int), (8 - c).toNat = N → (0 ≤ c ∧ c ≤ sg.2 10 t ∧ sg.2 10 t ≤ 8) → (s3 = ckC sg t (31 * s2 + vl (sg.2 9 t)) c.toNat) → MW K yiX2_checksum d (tov K h m (ovr sg [(0, 0)] [])) 66 [some (.ref m), some (.long s3), none, some (vi t), some (vi c)] [] Q := by
            intro N
            induction N using Nat.strongRecOn with
            | _ N ih66 =>
            intro s3 c hN66 hc hs3
            refine j_iload dX2_checksum_66 rfl ?_
            refine m_aload_n dX2_checksum_68 rfl ?_
            refine t_geta 10 6 (by decide) dX2_checksum_69 q3103 rfl ?_
            refine j_iload_n dX2_checksum_72 rfl ?_
            refine t_aldB 6 (by decide) (n := 24) (sg.2 10) dX2_checksum_73 rfl (Nat.le_of_ble_eq_true rfl) (oa10 (hT.2 10)) ⟨by omega, by omega⟩ (fun b73 => ?_)
            refine j_icmp_ge 143 dX2_checksum_74 (by decide) ⟨⟨by omega, by omega⟩, ⟨by omega, by omega⟩⟩ (fun c74 => ?_) (fun c74 => ?_)
            · refine j_iinc [some (.ref m), some (.long s3), none, some (vi (t + 1)), some (vi c)] dX2_checksum_143 rfl (by decide) rfl rfl ?_
              refine m_goto 41 dX2_checksum_146 (by decide) ?_
              refine mw_forget 4 ?_
              exact ih41 _ (by omega) _ _ rfl (by omega) (by rw [ckT_s ht.1, hs3, hs2, show c = sg.2 10 t by omega])
            · refine m_ldc2 (v := 31) dX2_checksum_77 q3647 ?_
              refine m_lload_n dX2_checksum_80 rfl ?_
              refine m_lmul dX2_checksum_81 ?_
              refine m_aload_n dX2_checksum_82 rfl ?_
              refine t_geta 11 7 (by decide) dX2_checksum_83 q3104 rfl ?_
              refine j_bipush dX2_checksum_86 (by decide) ?_
              refine j_iload_n dX2_checksum_88 rfl ?_
              refine j_imul dX2_checksum_89 ?_
              refine j_iload dX2_checksum_90 rfl ?_
              refine j_iadd dX2_checksum_92 ?_
              refine t_aldB 7 (by decide) (n := 192) (sg.2 11) dX2_checksum_93 rfl (Nat.le_of_ble_eq_true rfl) (oa11 (hT.2 11)) ⟨by omega, by omega⟩ (fun b93 => ?_)
              refine j_i2l dX2_checksum_94 ?_
              refine m_ladd dX2_checksum_95 ?_
              refine m_lstore_n dX2_checksum_96 (by decide) rfl ?_
              show MW K yiX2_checksum d (tov K h m (ovr sg [(0, 0)] [])) 97 [some (.ref m), some (.long (((31 : Int64) * s3) + (vl ((sg.2 11) ((8 * t) + c))))), none, some (vi t), some (vi c)] [] Q
              refine m_ldc2 (v := 31) dX2_checksum_97 q3647 ?_
              refine m_lload_n dX2_checksum_100 rfl ?_
              refine m_lmul dX2_checksum_101 ?_
              refine m_aload_n dX2_checksum_102 rfl ?_
              refine t_geta 12 8 (by decide) dX2_checksum_103 q3105 rfl ?_
              refine j_bipush dX2_checksum_106 (by decide) ?_
              refine j_iload_n dX2_checksum_108 rfl ?_
              refine j_imul dX2_checksum_109 ?_
              refine j_iload dX2_checksum_110 rfl ?_
              refine j_iadd dX2_checksum_112 ?_
              refine t_aldB 8 (by decide) (n := 192) (sg.2 12) dX2_checksum_113 rfl (Nat.le_of_ble_eq_true rfl) (oa12 (hT.2 12)) ⟨by omega, by omega⟩ (fun b113 => ?_)
              refine j_i2l dX2_checksum_114 ?_
              refine m_ladd dX2_checksum_115 ?_
              refine m_lstore_n dX2_checksum_116 (by decide) rfl ?_
              show MW K yiX2_checksum d (tov K h m (ovr sg [(0, 0)] [])) 117 [some (.ref m), some (.long (((31 : Int64) * (((31 : Int64) * s3) + (vl ((sg.2 11) ((8 * t) + c))))) + (vl ((sg.2 12) ((8 * t) + c))))), none, some (vi t), some (vi c)] [] Q
              refine m_ldc2 (v := 31) dX2_checksum_117 q3647 ?_
              refine m_lload_n dX2_checksum_120 rfl ?_
              refine m_lmul dX2_checksum_121 ?_
              refine m_aload_n dX2_checksum_122 rfl ?_
              refine t_geta 13 9 (by decide) dX2_checksum_123 q3106 rfl ?_
              refine j_bipush dX2_checksum_126 (by decide) ?_
              refine j_iload_n dX2_checksum_128 rfl ?_
              refine j_imul dX2_checksum_129 ?_
              refine j_iload dX2_checksum_130 rfl ?_
              refine j_iadd dX2_checksum_132 ?_
              refine t_aldB 9 (by decide) (n := 192) (sg.2 13) dX2_checksum_133 rfl (Nat.le_of_ble_eq_true rfl) (oa13 (hT.2 13)) ⟨by omega, by omega⟩ (fun b133 => ?_)
              refine j_i2l dX2_checksum_134 ?_
              refine m_ladd dX2_checksum_135 ?_
              refine m_lstore_n dX2_checksum_136 (by decide) rfl ?_
              show MW K yiX2_checksum d (tov K h m (ovr sg [(0, 0)] [])) 137 [some (.ref m), some (.long (((31 : Int64) * (((31 : Int64) * (((31 : Int64) * s3) + (vl ((sg.2 11) ((8 * t) + c))))) + (vl ((sg.2 12) ((8 * t) + c))))) + (vl ((sg.2 13) ((8 * t) + c))))), none, some (vi t), some (vi c)] [] Q
              refine j_iinc [some (.ref m), some (.long (((31 : Int64) * (((31 : Int64) * (((31 : Int64) * s3) + (vl ((sg.2 11) ((8 * t) + c))))) + (vl ((sg.2 12) ((8 * t) + c))))) + (vl ((sg.2 13) ((8 * t) + c))))), none, some (vi t), some (vi (c + 1))] dX2_checksum_137 rfl (by decide) rfl rfl ?_
              refine m_goto 66 dX2_checksum_140 (by decide) ?_
              exact ih66 _ (by omega) _ _ rfl (by omega) (by rw [ckC_s hc.1, hs3])
          exact L66 _ _ _ rfl (by have h2 := oa10 (hT.2 10) t (by omega) (by omega); omega) rfl
      exact L41 _ _ _ rfl (by omega) (by rw [hs, show k = sg.1 1 by omega]; rfl)
    · refine m_ldc2 (v := 31) dX2_checksum_19 q3647 ?_
      refine m_lload_n dX2_checksum_22 rfl ?_
      refine m_lmul dX2_checksum_23 ?_
      refine m_aload_n dX2_checksum_24 rfl ?_
      refine t_geta 2 1 (by decide) dX2_checksum_25 q3095 rfl ?_
      refine j_iload_n dX2_checksum_28 rfl ?_
      refine t_aldB 1 (by decide) (n := 12) (sg.2 2) dX2_checksum_29 rfl (Nat.le_of_ble_eq_true rfl) (oa2 (hT.2 2)) ⟨by omega, by omega⟩ (fun b29 => ?_)
      refine j_i2l dX2_checksum_30 ?_
      refine m_ladd dX2_checksum_31 ?_
      refine m_lstore_n dX2_checksum_32 (by decide) rfl ?_
      show MW K yiX2_checksum d (tov K h m (ovr sg [(0, 0)] [])) 33 [some (.ref m), some (.long (((31 : Int64) * s) + (vl ((sg.2 2) k)))), none, some (vi k), none] [] Q
      refine j_iinc [some (.ref m), some (.long (((31 : Int64) * s) + (vl ((sg.2 2) k)))), none, some (vi (k + 1)), none] dX2_checksum_33 rfl (by decide) rfl rfl ?_
      refine m_goto 11 dX2_checksum_36 (by decide) ?_
      exact ih11 _ (by omega) _ _ rfl (by omega) (by rw [ckF_s hk.1, hs, Int.zero_add])
  exact L11 _ _ _ rfl (by omega) rfl
