/-! the twin: what changes the table -/
theorem c_setChange (K : KT) (d : Nat) (h : MH) (m : Nat) (sg : TS) (s c : Int) (hd : 2 ≤ d) (hT : TB sg) (h1 : In s) (h2 : In c) : Mt K yiX2_setChange d [.ref m, vi s, vi c] (tov K h m sg) (Rz fun v h' => (¬ (0 ≤ s ∧ s ≤ sg.1 1 - 1) ∧ h' = tov K h m (ovr sg [(0, 1)] [])) ∨ ((0 ≤ s ∧ s ≤ sg.1 1 - 1) ∧ ¬ (0 ≤ c ∧ c ≤ 30) ∧ h' = tov K h m (ovr sg [(0, 2)] [])) ∨ ((0 ≤ s ∧ s ≤ sg.1 1 - 1) ∧ (0 ≤ c ∧ c ≤ 30) ∧ h' = tov K h m (ovr sg [(0, 0)] [(2, upz (sg.2 2) s c)]) ∧ v = sg.2 2 s)) := by
  have := h1.1; have := h1.2; have := h2.1; have := h2.2; have f1 := of1 (hT.1 1)
  refine mt_ofQ (by decide) (Nat.le_of_ble_eq_true rfl) (fun Q hQ => ?_)
  show MW K yiX2_setChange d (tov K h m (ovr sg [] [])) 0 [some (.ref m), some (vi s), some (vi c), none] [] Q
  refine m_aload_n dX2_setChange_0 rfl ?_
  refine j_iload_n dX2_setChange_1 rfl ?_
  refine t_inv [(vi s)] dX2_setChange_2 q3269 q3271 qs78 q3272 rfl (c_isNoStop K 1 h m _ _ (by omega) (hT.1 1) ⟨by omega, by omega⟩) pdX2_isNoStop ⟨Nat.le_of_ble_eq_true rfl, by decide, by omega⟩ (kk_z fun r2 h2 q2 => ?_) kx_z
  obtain ⟨rfl, rfl⟩ := q2
  refine mw_tov (b := ovr sg [(0, (if ¬ (0 ≤ s ∧ s ≤ (sg.1 1) - 1) then 1 else 0))] []) (ovr_ovr _ _ _ _ _) ?_
  refine mw_top (x' := bz (¬ (0 ≤ s ∧ s ≤ (sg.1 1) - 1))) rfl ?_
  refine j_bz_ne 31 dX2_setChange_5 (by decide) (fun c5 => ?_) (fun c5 => ?_)
  · refine mw_tov (b := ovr sg [(0, 1)] []) (by rw [if_pos c5]) ?_
    refine j_iconst dX2_setChange_31 ?_
    subst hQ; exact j_iret dX2_setChange_32 rfl (by first | exact Or.inl ⟨by omega, rfl⟩ | exact Or.inr (Or.inl ⟨by omega, by omega, rfl⟩) | exact Or.inr (Or.inr ⟨by omega, by omega, rfl, rfl⟩))
  · refine mw_tov (b := ovr sg [(0, 0)] []) (by rw [if_neg c5]) ?_
    refine m_aload_n dX2_setChange_8 rfl ?_
    refine j_iload_n dX2_setChange_9 rfl ?_
    refine j_iconst dX2_setChange_10 ?_
    refine j_bipush dX2_setChange_11 (by decide) ?_
    refine m_invS [(vi c), (vi 0), (vi 30)] dX2_setChange_13 q3253 q3254 q133 q3255 (c_isIn K 0 _ _ _ _ ⟨by omega, by omega⟩ ⟨by omega, by omega⟩ ⟨by omega, by omega⟩) pdX2_isIn ⟨Nat.le_of_ble_eq_true rfl, by decide, by omega⟩ (kk_z fun r13 h13 q13 => ?_) kx_z
    obtain ⟨rfl, rfl⟩ := q13
    refine mw_top (x' := bz (0 ≤ c ∧ c ≤ 30)) rfl ?_
    refine j_bz_ne 23 dX2_setChange_16 (by decide) (fun c16 => ?_) (fun c16 => ?_)
    · refine j_iconst dX2_setChange_23 ?_
      refine j_iconst dX2_setChange_24 ?_
      refine t_inv [(vi 0), (vi 2)] dX2_setChange_25 q3256 q3258 qs76 q3259 rfl (c_isThrown0 K 0 h m _ _) pdX2_isThrown ⟨Nat.le_of_ble_eq_true rfl, by decide, by omega⟩ (kk_z fun r25 h25 q25 => ?_) kx_z
      obtain ⟨rfl, rfl⟩ := q25
      refine mw_tov (b := ovr sg [(0, 0)] []) (ovr_ovr _ _ _ _ _) ?_
      refine j_if_eq 33 dX2_setChange_28 (by decide) ⟨by decide, by decide⟩ (fun _ => ?_) (fun c => absurd c (by decide))
      refine m_aload_n dX2_setChange_33 rfl ?_
      refine t_geta 2 1 (by decide) dX2_setChange_34 q3095 rfl ?_
      refine j_iload_n dX2_setChange_37 rfl ?_
      refine t_aldB 1 (by decide) (n := 12) (sg.2 2) dX2_setChange_38 rfl (Nat.le_of_ble_eq_true rfl) (oa2 (hT.2 2)) ⟨by omega, by omega⟩ (fun b38 => ?_)
      refine j_istore_n [some (.ref m), some (vi s), some (vi c), some (vi ((sg.2 2) s))] dX2_setChange_39 (by decide) rfl rfl ?_
      refine m_aload_n dX2_setChange_40 rfl ?_
      refine t_geta 2 1 (by decide) dX2_setChange_41 q3095 rfl ?_
      refine j_iload_n dX2_setChange_44 rfl ?_
      refine j_iload_n dX2_setChange_45 rfl ?_
      refine t_ast 1 (by decide) (n := 12) (sg.2 2) [(2, (upz (sg.2 2) s c))] dX2_setChange_46 rfl (Nat.le_of_ble_eq_true rfl) ⟨by omega, by omega⟩ rfl rfl ?_
      refine j_iload_n dX2_setChange_47 rfl ?_
      subst hQ; exact j_iret dX2_setChange_48 rfl (by first | exact Or.inl ⟨by omega, rfl⟩ | exact Or.inr (Or.inl ⟨by omega, by omega, rfl⟩) | exact Or.inr (Or.inr ⟨by omega, by omega, rfl, rfl⟩))
    · refine j_iconst dX2_setChange_19 ?_
      refine m_goto 24 dX2_setChange_20 (by decide) ?_
      refine j_iconst dX2_setChange_24 ?_
      refine t_inv [(vi 1), (vi 2)] dX2_setChange_25 q3256 q3258 qs76 q3259 rfl (c_isThrown1 K 0 h m _ _) pdX2_isThrown ⟨Nat.le_of_ble_eq_true rfl, by decide, by omega⟩ (kk_z fun r25 h25 q25 => ?_) kx_z
      obtain ⟨rfl, rfl⟩ := q25
      refine mw_tov (b := ovr sg [(0, 2)] []) (ovr_ovr _ _ _ _ _) ?_
      refine j_if_eq 33 dX2_setChange_28 (by decide) ⟨by decide, by decide⟩ (fun c => absurd c (by decide)) (fun _ => ?_)
      refine j_iconst dX2_setChange_31 ?_
      subst hQ; exact j_iret dX2_setChange_32 rfl (by first | exact Or.inl ⟨by omega, rfl⟩ | exact Or.inr (Or.inl ⟨by omega, by omega, rfl⟩) | exact Or.inr (Or.inr ⟨by omega, by omega, rfl, rfl⟩))
theorem c_stop (K : KT) (d : Nat) (h : MH) (m : Nat) (sg : TS) (c : Int) (hd : 2 ≤ d) (hT : TB sg) (h2 : In c) : Mt K yiX2_stop d [.ref m, vi c] (tov K h m sg) (Rz fun v h' => (¬ (0 ≤ c ∧ c ≤ 30) ∧ h' = tov K h m (ovr sg [(0, 1)] [])) ∨ ((0 ≤ c ∧ c ≤ 30) ∧ sg.1 1 = 12 ∧ h' = tov K h m (ovr sg [(0, 2)] [])) ∨ ((0 ≤ c ∧ c ≤ 30) ∧ sg.1 1 < 12 ∧ h' = tov K h m (ovr sg [(0, 0), (1, sg.1 1 + 1)] [(2, upz (sg.2 2) (sg.1 1) c), (4, wfull (ovr sg [(0, 0), (1, sg.1 1 + 1)] [(2, upz (sg.2 2) (sg.1 1) c)]) (sg.1 5))]) ∧ okA 4 (wfull (ovr sg [(0, 0), (1, sg.1 1 + 1)] [(2, upz (sg.2 2) (sg.1 1) c)]) (sg.1 5)) ∧ v = sg.1 1)) := by
  have := h2.1; have := h2.2; have f1 := of1 (hT.1 1)
  refine mt_ofQ (by decide) (Nat.le_of_ble_eq_true rfl) (fun Q hQ => ?_)
  show MW K yiX2_stop d (tov K h m (ovr sg [] [])) 0 [some (.ref m), some (vi c)] [] Q
  have f1 := of1 (hT.1 1)
  refine m_aload_n dX2_stop_0 rfl ?_
  refine j_iload_n dX2_stop_1 rfl ?_
  refine j_iconst dX2_stop_2 ?_
  refine j_bipush dX2_stop_3 (by decide) ?_
  refine m_invS [(vi c), (vi 0), (vi 30)] dX2_stop_5 q3253 q3254 q133 q3255 (c_isIn K 0 _ _ _ _ ⟨by omega, by omega⟩ ⟨by omega, by omega⟩ ⟨by omega, by omega⟩) pdX2_isIn ⟨Nat.le_of_ble_eq_true rfl, by decide, by omega⟩ (kk_z fun r5 h5 q5 => ?_) kx_z
  obtain ⟨rfl, rfl⟩ := q5
  refine mw_top (x' := bz (0 ≤ c ∧ c ≤ 30)) rfl ?_
  refine j_bz_ne 15 dX2_stop_8 (by decide) (fun c8 => ?_) (fun c8 => ?_)
  · refine j_iconst dX2_stop_15 ?_
    refine j_iconst dX2_stop_16 ?_
    refine t_inv [(vi 0), (vi 1)] dX2_stop_17 q3256 q3258 qs76 q3259 rfl (c_isThrown0 K 0 h m _ _) pdX2_isThrown ⟨Nat.le_of_ble_eq_true rfl, by decide, by omega⟩ (kk_z fun r17 h17 q17 => ?_) kx_z
    obtain ⟨rfl, rfl⟩ := q17
    refine mw_tov (b := ovr sg [(0, 0)] []) (ovr_ovr _ _ _ _ _) ?_
    refine j_if_ne 45 dX2_stop_20 (by decide) ⟨by decide, by decide⟩ (fun c => absurd c (by decide)) (fun _ => ?_)
    refine m_aload_n dX2_stop_23 rfl ?_
    refine m_aload_n dX2_stop_24 rfl ?_
    refine t_geti 1 (by decide) (sg.1 1) dX2_stop_25 q3094 rfl ?_
    refine j_bipush dX2_stop_28 (by decide) ?_
    refine j_icmp_ne 37 dX2_stop_30 (by decide) ⟨⟨by omega, by omega⟩, ⟨by omega, by omega⟩⟩ (fun c30 => ?_) (fun c30 => ?_)
    · refine j_iconst dX2_stop_37 ?_
      refine j_iconst dX2_stop_38 ?_
      refine t_inv [(vi 0), (vi 2)] dX2_stop_39 q3256 q3258 qs76 q3259 rfl (c_isThrown0 K 0 h m _ _) pdX2_isThrown ⟨Nat.le_of_ble_eq_true rfl, by decide, by omega⟩ (kk_z fun r39 h39 q39 => ?_) kx_z
      obtain ⟨rfl, rfl⟩ := q39
      refine mw_tov (b := ovr sg [(0, 0)] []) (ovr_ovr _ _ _ _ _) ?_
      refine j_if_eq 47 dX2_stop_42 (by decide) ⟨by decide, by decide⟩ (fun _ => ?_) (fun c => absurd c (by decide))
      refine m_aload_n dX2_stop_47 rfl ?_
      refine t_geta 2 1 (by decide) dX2_stop_48 q3095 rfl ?_
      refine m_aload_n dX2_stop_51 rfl ?_
      refine t_geti 1 (by decide) (sg.1 1) dX2_stop_52 q3094 rfl ?_
      refine j_iload_n dX2_stop_55 rfl ?_
      refine t_ast 1 (by decide) (n := 12) (sg.2 2) [(2, (upz (sg.2 2) (sg.1 1) c))] dX2_stop_56 rfl (Nat.le_of_ble_eq_true rfl) ⟨by omega, by omega⟩ rfl rfl ?_
      refine m_aload_n dX2_stop_57 rfl ?_
      refine m_dup dX2_stop_58 rfl ?_
      refine t_geti 1 (by decide) (sg.1 1) dX2_stop_59 q3094 rfl ?_
      refine j_iconst dX2_stop_62 ?_
      refine j_iadd dX2_stop_63 ?_
      refine t_puti 1 (by decide) [(0, 0), (1, ((sg.1 1) + 1))] dX2_stop_64 q3094 rfl rfl rfl rfl ?_
      refine m_aload_n dX2_stop_67 rfl ?_
      refine t_inv [] dX2_stop_68 q3260 q3262 qs77 q3263 rfl (c_walks K 0 h m _ (hT.ovr (fa1 (mf0 (v := 0) ⟨by first | decide | omega | (split <;> omega) | assumption, by first | decide | omega | (split <;> omega) | assumption⟩) (fa1 (mf1 (v := ((sg.1 1) + 1)) ⟨by first | decide | omega | (split <;> omega) | assumption, by first | decide | omega | (split <;> omega) | assumption⟩) fa0)) (fa1 (mu2 (i := (sg.1 1)) (x := c) (hT.2 2) ⟨by first | decide | omega | (split <;> omega) | assumption, by first | decide | omega | (split <;> omega) | assumption⟩) fa0))) pdX2_walks ⟨Nat.le_of_ble_eq_true rfl, by decide, by omega⟩ (kk_v fun h68 q68 => ?_) kx_v
      obtain ⟨rfl, y68⟩ := q68
      refine mw_tov (b := ovr sg [(0, 0), (1, ((sg.1 1) + 1))] [(2, (upz (sg.2 2) (sg.1 1) c)), (4, (wfull (ovr sg [(0, 0), (1, ((sg.1 1) + 1))] [(2, (upz (sg.2 2) (sg.1 1) c))]) (sg.1 5)))]) (ovr_ovr _ _ _ _ _) ?_
      refine m_aload_n dX2_stop_71 rfl ?_
      refine t_geti 1 (by decide) ((sg.1 1) + 1) dX2_stop_72 q3094 rfl ?_
      refine j_iconst dX2_stop_75 ?_
      refine j_isub dX2_stop_76 ?_
      subst hQ; exact j_iret dX2_stop_77 rfl (by first | exact Or.inl ⟨by omega, rfl⟩ | exact Or.inr (Or.inl ⟨by omega, by omega, rfl⟩) | exact Or.inr (Or.inr ⟨by omega, by omega, rfl, by assumption, by omega⟩))
    · refine j_iconst dX2_stop_33 ?_
      refine m_goto 38 dX2_stop_34 (by decide) ?_
      refine j_iconst dX2_stop_38 ?_
      refine t_inv [(vi 1), (vi 2)] dX2_stop_39 q3256 q3258 qs76 q3259 rfl (c_isThrown1 K 0 h m _ _) pdX2_isThrown ⟨Nat.le_of_ble_eq_true rfl, by decide, by omega⟩ (kk_z fun r39 h39 q39 => ?_) kx_z
      obtain ⟨rfl, rfl⟩ := q39
      refine mw_tov (b := ovr sg [(0, 2)] []) (ovr_ovr _ _ _ _ _) ?_
      refine j_if_eq 47 dX2_stop_42 (by decide) ⟨by decide, by decide⟩ (fun c => absurd c (by decide)) (fun _ => ?_)
      refine j_iconst dX2_stop_45 ?_
      subst hQ; exact j_iret dX2_stop_46 rfl (by first | exact Or.inl ⟨by omega, rfl⟩ | exact Or.inr (Or.inl ⟨by omega, by omega, rfl⟩) | exact Or.inr (Or.inr ⟨by omega, by omega, rfl, by assumption, by omega⟩))
  · refine j_iconst dX2_stop_11 ?_
    refine m_goto 16 dX2_stop_12 (by decide) ?_
    refine j_iconst dX2_stop_16 ?_
    refine t_inv [(vi 1), (vi 1)] dX2_stop_17 q3256 q3258 qs76 q3259 rfl (c_isThrown1 K 0 h m _ _) pdX2_isThrown ⟨Nat.le_of_ble_eq_true rfl, by decide, by omega⟩ (kk_z fun r17 h17 q17 => ?_) kx_z
    obtain ⟨rfl, rfl⟩ := q17
    refine mw_tov (b := ovr sg [(0, 1)] []) (ovr_ovr _ _ _ _ _) ?_
    refine j_if_ne 45 dX2_stop_20 (by decide) ⟨by decide, by decide⟩ (fun _ => ?_) (fun c => absurd c (by decide))
    refine j_iconst dX2_stop_45 ?_
    subst hQ; exact j_iret dX2_stop_46 rfl (by first | exact Or.inl ⟨by omega, rfl⟩ | exact Or.inr (Or.inl ⟨by omega, by omega, rfl⟩) | exact Or.inr (Or.inr ⟨by omega, by omega, rfl, by assumption, by omega⟩))
theorem c_walk (K : KT) (d : Nat) (h : MH) (m : Nat) (sg : TS) (a b c : Int) (hd : 2 ≤ d) (hT : TB sg) (h1 : In a) (h2 : In b) (h3 : In c) : Mt K yiX2_walk d [.ref m, vi a, vi b, vi c] (tov K h m sg) (Rz fun v h' => (¬ ((0 ≤ a ∧ a ≤ sg.1 1 - 1) ∧ (0 ≤ b ∧ b ≤ sg.1 1 - 1)) ∧ h' = tov K h m (ovr sg [(0, 1)] [])) ∨ (((0 ≤ a ∧ a ≤ sg.1 1 - 1) ∧ (0 ≤ b ∧ b ≤ sg.1 1 - 1)) ∧ ¬ (a ≠ b ∧ 0 ≤ c ∧ c ≤ 60) ∧ h' = tov K h m (ovr sg [(0, 2)] [])) ∨ (((0 ≤ a ∧ a ≤ sg.1 1 - 1) ∧ (0 ≤ b ∧ b ≤ sg.1 1 - 1)) ∧ (a ≠ b ∧ 0 ≤ c ∧ c ≤ 60) ∧ h' = tov K h m (ovr sg [(0, 0)] [(3, upz (upz (sg.2 3) (12 * a + b) c) (12 * b + a) c), (4, wfull (ovr sg [(0, 0)] [(3, upz (upz (sg.2 3) (12 * a + b) c) (12 * b + a) c)]) (sg.1 5))]) ∧ okA 4 (wfull (ovr sg [(0, 0)] [(3, upz (upz (sg.2 3) (12 * a + b) c) (12 * b + a) c)]) (sg.1 5)) ∧ v = sg.2 3 (12 * a + b))) := by
  have := h1.1; have := h1.2; have := h2.1; have := h2.2; have := h3.1; have := h3.2; have f1 := of1 (hT.1 1)
  refine mt_ofQ (by decide) (Nat.le_of_ble_eq_true rfl) (fun Q hQ => ?_)
  show MW K yiX2_walk d (tov K h m (ovr sg [] [])) 0 [some (.ref m), some (vi a), some (vi b), some (vi c), none] [] Q
  refine m_aload_n dX2_walk_0 rfl ?_
  refine j_iload_n dX2_walk_1 rfl ?_
  refine t_inv [(vi a)] dX2_walk_2 q3269 q3271 qs78 q3272 rfl (c_isNoStop K 1 h m _ _ (by omega) (hT.1 1) ⟨by omega, by omega⟩) pdX2_isNoStop ⟨Nat.le_of_ble_eq_true rfl, by decide, by omega⟩ (kk_z fun r2 h2 q2 => ?_) kx_z
  obtain ⟨rfl, rfl⟩ := q2
  refine mw_tov (b := ovr sg [(0, (if ¬ (0 ≤ a ∧ a ≤ (sg.1 1) - 1) then 1 else 0))] []) (ovr_ovr _ _ _ _ _) ?_
  refine mw_top (x' := bz (¬ (0 ≤ a ∧ a ≤ (sg.1 1) - 1))) rfl ?_
  refine j_bz_ne 44 dX2_walk_5 (by decide) (fun c5 => ?_) (fun c5 => ?_)
  · refine mw_tov (b := ovr sg [(0, 1)] []) (by rw [if_pos c5]) ?_
    refine j_iconst dX2_walk_44 ?_
    subst hQ; exact j_iret dX2_walk_45 rfl (by first | exact Or.inl ⟨by omega, rfl⟩ | exact Or.inr (Or.inl ⟨by omega, by omega, rfl⟩) | exact Or.inr (Or.inr ⟨by omega, by omega, rfl, by assumption, rfl⟩))
  · refine mw_tov (b := ovr sg [(0, 0)] []) (by rw [if_neg c5]) ?_
    refine m_aload_n dX2_walk_8 rfl ?_
    refine j_iload_n dX2_walk_9 rfl ?_
    refine t_inv [(vi b)] dX2_walk_10 q3269 q3271 qs78 q3272 rfl (c_isNoStop K 1 h m _ _ (by omega) (hT.1 1) ⟨by omega, by omega⟩) pdX2_isNoStop ⟨Nat.le_of_ble_eq_true rfl, by decide, by omega⟩ (kk_z fun r10 h10 q10 => ?_) kx_z
    obtain ⟨rfl, rfl⟩ := q10
    refine mw_tov (b := ovr sg [(0, (if ¬ (0 ≤ b ∧ b ≤ (sg.1 1) - 1) then 1 else 0))] []) (ovr_ovr _ _ _ _ _) ?_
    refine mw_top (x' := bz (¬ (0 ≤ b ∧ b ≤ (sg.1 1) - 1))) rfl ?_
    refine j_bz_ne 44 dX2_walk_13 (by decide) (fun c13 => ?_) (fun c13 => ?_)
    · refine mw_tov (b := ovr sg [(0, 1)] []) (by rw [if_pos c13]) ?_
      refine j_iconst dX2_walk_44 ?_
      subst hQ; exact j_iret dX2_walk_45 rfl (by first | exact Or.inl ⟨by omega, rfl⟩ | exact Or.inr (Or.inl ⟨by omega, by omega, rfl⟩) | exact Or.inr (Or.inr ⟨by omega, by omega, rfl, by assumption, rfl⟩))
    · refine mw_tov (b := ovr sg [(0, 0)] []) (by rw [if_neg c13]) ?_
      refine m_aload_n dX2_walk_16 rfl ?_
      refine j_iload_n dX2_walk_17 rfl ?_
      refine j_iload_n dX2_walk_18 rfl ?_
      refine j_icmp_eq 32 dX2_walk_19 (by decide) ⟨⟨by omega, by omega⟩, ⟨by omega, by omega⟩⟩ (fun c19 => ?_) (fun c19 => ?_)
      · refine j_iconst dX2_walk_32 ?_
        refine m_goto 37 dX2_walk_33 (by decide) ?_
        refine j_iconst dX2_walk_37 ?_
        refine t_inv [(vi 1), (vi 2)] dX2_walk_38 q3256 q3258 qs76 q3259 rfl (c_isThrown1 K 0 h m _ _) pdX2_isThrown ⟨Nat.le_of_ble_eq_true rfl, by decide, by omega⟩ (kk_z fun r38 h38 q38 => ?_) kx_z
        obtain ⟨rfl, rfl⟩ := q38
        refine mw_tov (b := ovr sg [(0, 2)] []) (ovr_ovr _ _ _ _ _) ?_
        refine j_if_eq 46 dX2_walk_41 (by decide) ⟨by decide, by decide⟩ (fun c => absurd c (by decide)) (fun _ => ?_)
        refine j_iconst dX2_walk_44 ?_
        subst hQ; exact j_iret dX2_walk_45 rfl (by first | exact Or.inl ⟨by omega, rfl⟩ | exact Or.inr (Or.inl ⟨by omega, by omega, rfl⟩) | exact Or.inr (Or.inr ⟨by omega, by omega, rfl, by assumption, rfl⟩))
      · refine j_iload_n dX2_walk_22 rfl ?_
        refine j_iconst dX2_walk_23 ?_
        refine j_bipush dX2_walk_24 (by decide) ?_
        refine m_invS [(vi c), (vi 0), (vi 60)] dX2_walk_26 q3253 q3254 q133 q3255 (c_isIn K 0 _ _ _ _ ⟨by omega, by omega⟩ ⟨by omega, by omega⟩ ⟨by omega, by omega⟩) pdX2_isIn ⟨Nat.le_of_ble_eq_true rfl, by decide, by omega⟩ (kk_z fun r26 h26 q26 => ?_) kx_z
        obtain ⟨rfl, rfl⟩ := q26
        refine mw_top (x' := bz (0 ≤ c ∧ c ≤ 60)) rfl ?_
        refine j_bz_ne 36 dX2_walk_29 (by decide) (fun c29 => ?_) (fun c29 => ?_)
        · refine j_iconst dX2_walk_36 ?_
          refine j_iconst dX2_walk_37 ?_
          refine t_inv [(vi 0), (vi 2)] dX2_walk_38 q3256 q3258 qs76 q3259 rfl (c_isThrown0 K 0 h m _ _) pdX2_isThrown ⟨Nat.le_of_ble_eq_true rfl, by decide, by omega⟩ (kk_z fun r38 h38 q38 => ?_) kx_z
          obtain ⟨rfl, rfl⟩ := q38
          refine mw_tov (b := ovr sg [(0, 0)] []) (ovr_ovr _ _ _ _ _) ?_
          refine j_if_eq 46 dX2_walk_41 (by decide) ⟨by decide, by decide⟩ (fun _ => ?_) (fun c => absurd c (by decide))
          refine m_aload_n dX2_walk_46 rfl ?_
          refine t_geta 3 2 (by decide) dX2_walk_47 q3096 rfl ?_
          refine j_bipush dX2_walk_50 (by decide) ?_
          refine j_iload_n dX2_walk_52 rfl ?_
          refine j_imul dX2_walk_53 ?_
          refine j_iload_n dX2_walk_54 rfl ?_
          refine j_iadd dX2_walk_55 ?_
          refine t_aldB 2 (by decide) (n := 144) (sg.2 3) dX2_walk_56 rfl (Nat.le_of_ble_eq_true rfl) (oa3 (hT.2 3)) ⟨by omega, by omega⟩ (fun b56 => ?_)
          refine j_istore [some (.ref m), some (vi a), some (vi b), some (vi c), some (vi ((sg.2 3) ((12 * a) + b)))] dX2_walk_57 (by decide) rfl rfl ?_
          refine m_aload_n dX2_walk_59 rfl ?_
          refine t_geta 3 2 (by decide) dX2_walk_60 q3096 rfl ?_
          refine j_bipush dX2_walk_63 (by decide) ?_
          refine j_iload_n dX2_walk_65 rfl ?_
          refine j_imul dX2_walk_66 ?_
          refine j_iload_n dX2_walk_67 rfl ?_
          refine j_iadd dX2_walk_68 ?_
          refine j_iload_n dX2_walk_69 rfl ?_
          refine t_ast 2 (by decide) (n := 144) (sg.2 3) [(3, (upz (sg.2 3) ((12 * a) + b) c))] dX2_walk_70 rfl (Nat.le_of_ble_eq_true rfl) ⟨by omega, by omega⟩ rfl rfl ?_
          refine m_aload_n dX2_walk_71 rfl ?_
          refine t_geta 3 2 (by decide) dX2_walk_72 q3096 rfl ?_
          refine j_bipush dX2_walk_75 (by decide) ?_
          refine j_iload_n dX2_walk_77 rfl ?_
          refine j_imul dX2_walk_78 ?_
          refine j_iload_n dX2_walk_79 rfl ?_
          refine j_iadd dX2_walk_80 ?_
          refine j_iload_n dX2_walk_81 rfl ?_
          refine t_ast 2 (by decide) (n := 144) (upz (sg.2 3) ((12 * a) + b) c) [(3, (upz (upz (sg.2 3) ((12 * a) + b) c) ((12 * b) + a) c))] dX2_walk_82 rfl (Nat.le_of_ble_eq_true rfl) ⟨by omega, by omega⟩ rfl rfl ?_
          refine m_aload_n dX2_walk_83 rfl ?_
          refine t_inv [] dX2_walk_84 q3260 q3262 qs77 q3263 rfl (c_walks K 0 h m _ (hT.ovr (fa1 (mf0 (v := 0) ⟨by first | decide | omega | (split <;> omega) | assumption, by first | decide | omega | (split <;> omega) | assumption⟩) fa0) (fa1 (mu3 (i := ((12 * b) + a)) (x := c) (mu3 (i := ((12 * a) + b)) (x := c) (hT.2 3) ⟨by first | decide | omega | (split <;> omega) | assumption, by first | decide | omega | (split <;> omega) | assumption⟩) ⟨by first | decide | omega | (split <;> omega) | assumption, by first | decide | omega | (split <;> omega) | assumption⟩) fa0))) pdX2_walks ⟨Nat.le_of_ble_eq_true rfl, by decide, by omega⟩ (kk_v fun h84 q84 => ?_) kx_v
          obtain ⟨rfl, y84⟩ := q84
          refine mw_tov (b := ovr sg [(0, 0)] [(3, (upz (upz (sg.2 3) ((12 * a) + b) c) ((12 * b) + a) c)), (4, (wfull (ovr sg [(0, 0)] [(3, (upz (upz (sg.2 3) ((12 * a) + b) c) ((12 * b) + a) c))]) (sg.1 5)))]) (ovr_ovr _ _ _ _ _) ?_
          refine j_iload dX2_walk_87 rfl ?_
          subst hQ; exact j_iret dX2_walk_89 rfl (by first | exact Or.inl ⟨by omega, rfl⟩ | exact Or.inr (Or.inl ⟨by omega, by omega, rfl⟩) | exact Or.inr (Or.inr ⟨by omega, by omega, rfl, by assumption, rfl⟩))
        · refine j_iconst dX2_walk_32 ?_
          refine m_goto 37 dX2_walk_33 (by decide) ?_
          refine j_iconst dX2_walk_37 ?_
          refine t_inv [(vi 1), (vi 2)] dX2_walk_38 q3256 q3258 qs76 q3259 rfl (c_isThrown1 K 0 h m _ _) pdX2_isThrown ⟨Nat.le_of_ble_eq_true rfl, by decide, by omega⟩ (kk_z fun r38 h38 q38 => ?_) kx_z
          obtain ⟨rfl, rfl⟩ := q38
          refine mw_tov (b := ovr sg [(0, 2)] []) (ovr_ovr _ _ _ _ _) ?_
          refine j_if_eq 46 dX2_walk_41 (by decide) ⟨by decide, by decide⟩ (fun c => absurd c (by decide)) (fun _ => ?_)
          refine j_iconst dX2_walk_44 ?_
          subst hQ; exact j_iret dX2_walk_45 rfl (by first | exact Or.inl ⟨by omega, rfl⟩ | exact Or.inr (Or.inl ⟨by omega, by omega, rfl⟩) | exact Or.inr (Or.inr ⟨by omega, by omega, rfl, by assumption, rfl⟩))
theorem c_walkTime (K : KT) (d : Nat) (h : MH) (m : Nat) (sg : TS) (a b : Int) (hd : 2 ≤ d) (hT : TB sg) (h1 : In a) (h2 : In b) : Mt K yiX2_walkTime d [.ref m, vi a, vi b] (tov K h m sg) (Rz fun v h' => (¬ ((0 ≤ a ∧ a ≤ sg.1 1 - 1) ∧ (0 ≤ b ∧ b ≤ sg.1 1 - 1)) ∧ h' = tov K h m (ovr sg [(0, 1)] [])) ∨ (((0 ≤ a ∧ a ≤ sg.1 1 - 1) ∧ (0 ≤ b ∧ b ≤ sg.1 1 - 1)) ∧ 1000000 ≤ sg.2 4 (12 * a + b) ∧ h' = tov K h m (ovr sg [(0, 2)] [])) ∨ (((0 ≤ a ∧ a ≤ sg.1 1 - 1) ∧ (0 ≤ b ∧ b ≤ sg.1 1 - 1)) ∧ sg.2 4 (12 * a + b) < 1000000 ∧ h' = tov K h m (ovr sg [(0, 0)] []) ∧ v = sg.2 4 (12 * a + b))) := by
  have := h1.1; have := h1.2; have := h2.1; have := h2.2; have f1 := of1 (hT.1 1)
  refine mt_ofQ (by decide) (Nat.le_of_ble_eq_true rfl) (fun Q hQ => ?_)
  show MW K yiX2_walkTime d (tov K h m (ovr sg [] [])) 0 [some (.ref m), some (vi a), some (vi b)] [] Q
  refine m_aload_n dX2_walkTime_0 rfl ?_
  refine j_iload_n dX2_walkTime_1 rfl ?_
  refine t_inv [(vi a)] dX2_walkTime_2 q3269 q3271 qs78 q3272 rfl (c_isNoStop K 1 h m _ _ (by omega) (hT.1 1) ⟨by omega, by omega⟩) pdX2_isNoStop ⟨Nat.le_of_ble_eq_true rfl, by decide, by omega⟩ (kk_z fun r2 h2 q2 => ?_) kx_z
  obtain ⟨rfl, rfl⟩ := q2
  refine mw_tov (b := ovr sg [(0, (if ¬ (0 ≤ a ∧ a ≤ (sg.1 1) - 1) then 1 else 0))] []) (ovr_ovr _ _ _ _ _) ?_
  refine mw_top (x' := bz (¬ (0 ≤ a ∧ a ≤ (sg.1 1) - 1))) rfl ?_
  refine j_bz_ne 45 dX2_walkTime_5 (by decide) (fun c5 => ?_) (fun c5 => ?_)
  · refine mw_tov (b := ovr sg [(0, 1)] []) (by rw [if_pos c5]) ?_
    refine j_iconst dX2_walkTime_45 ?_
    subst hQ; exact j_iret dX2_walkTime_46 rfl (by first | exact Or.inl ⟨by omega, rfl⟩ | exact Or.inr (Or.inl ⟨by omega, by omega, rfl⟩) | exact Or.inr (Or.inr ⟨by omega, by omega, rfl, rfl⟩))
  · refine mw_tov (b := ovr sg [(0, 0)] []) (by rw [if_neg c5]) ?_
    refine m_aload_n dX2_walkTime_8 rfl ?_
    refine j_iload_n dX2_walkTime_9 rfl ?_
    refine t_inv [(vi b)] dX2_walkTime_10 q3269 q3271 qs78 q3272 rfl (c_isNoStop K 1 h m _ _ (by omega) (hT.1 1) ⟨by omega, by omega⟩) pdX2_isNoStop ⟨Nat.le_of_ble_eq_true rfl, by decide, by omega⟩ (kk_z fun r10 h10 q10 => ?_) kx_z
    obtain ⟨rfl, rfl⟩ := q10
    refine mw_tov (b := ovr sg [(0, (if ¬ (0 ≤ b ∧ b ≤ (sg.1 1) - 1) then 1 else 0))] []) (ovr_ovr _ _ _ _ _) ?_
    refine mw_top (x' := bz (¬ (0 ≤ b ∧ b ≤ (sg.1 1) - 1))) rfl ?_
    refine j_bz_ne 45 dX2_walkTime_13 (by decide) (fun c13 => ?_) (fun c13 => ?_)
    · refine mw_tov (b := ovr sg [(0, 1)] []) (by rw [if_pos c13]) ?_
      refine j_iconst dX2_walkTime_45 ?_
      subst hQ; exact j_iret dX2_walkTime_46 rfl (by first | exact Or.inl ⟨by omega, rfl⟩ | exact Or.inr (Or.inl ⟨by omega, by omega, rfl⟩) | exact Or.inr (Or.inr ⟨by omega, by omega, rfl, rfl⟩))
    · refine mw_tov (b := ovr sg [(0, 0)] []) (by rw [if_neg c13]) ?_
      refine m_aload_n dX2_walkTime_16 rfl ?_
      refine m_aload_n dX2_walkTime_17 rfl ?_
      refine t_geta 4 3 (by decide) dX2_walkTime_18 q3097 rfl ?_
      refine j_bipush dX2_walkTime_21 (by decide) ?_
      refine j_iload_n dX2_walkTime_23 rfl ?_
      refine j_imul dX2_walkTime_24 ?_
      refine j_iload_n dX2_walkTime_25 rfl ?_
      refine j_iadd dX2_walkTime_26 ?_
      refine t_aldB 3 (by decide) (n := 144) (sg.2 4) dX2_walkTime_27 rfl (Nat.le_of_ble_eq_true rfl) (oa4 (hT.2 4)) ⟨by omega, by omega⟩ (fun b27 => ?_)
      refine j_ldc (1000000) dX2_walkTime_28 q3264 (by decide) ?_
      refine j_icmp_lt 37 dX2_walkTime_30 (by decide) ⟨⟨by omega, by omega⟩, ⟨by omega, by omega⟩⟩ (fun c30 => ?_) (fun c30 => ?_)
      · refine j_iconst dX2_walkTime_37 ?_
        refine j_iconst dX2_walkTime_38 ?_
        refine t_inv [(vi 0), (vi 2)] dX2_walkTime_39 q3256 q3258 qs76 q3259 rfl (c_isThrown0 K 0 h m _ _) pdX2_isThrown ⟨Nat.le_of_ble_eq_true rfl, by decide, by omega⟩ (kk_z fun r39 h39 q39 => ?_) kx_z
        obtain ⟨rfl, rfl⟩ := q39
        refine mw_tov (b := ovr sg [(0, 0)] []) (ovr_ovr _ _ _ _ _) ?_
        refine j_if_eq 47 dX2_walkTime_42 (by decide) ⟨by decide, by decide⟩ (fun _ => ?_) (fun c => absurd c (by decide))
        refine m_aload_n dX2_walkTime_47 rfl ?_
        refine t_geta 4 3 (by decide) dX2_walkTime_48 q3097 rfl ?_
        refine j_bipush dX2_walkTime_51 (by decide) ?_
        refine j_iload_n dX2_walkTime_53 rfl ?_
        refine j_imul dX2_walkTime_54 ?_
        refine j_iload_n dX2_walkTime_55 rfl ?_
        refine j_iadd dX2_walkTime_56 ?_
        refine t_aldB 3 (by decide) (n := 144) (sg.2 4) dX2_walkTime_57 rfl (Nat.le_of_ble_eq_true rfl) (oa4 (hT.2 4)) ⟨by omega, by omega⟩ (fun b57 => ?_)
        subst hQ; exact j_iret dX2_walkTime_58 rfl (by first | exact Or.inl ⟨by omega, rfl⟩ | exact Or.inr (Or.inl ⟨by omega, by omega, rfl⟩) | exact Or.inr (Or.inr ⟨by omega, by omega, rfl, rfl⟩))
      · refine j_iconst dX2_walkTime_33 ?_
        refine m_goto 38 dX2_walkTime_34 (by decide) ?_
        refine j_iconst dX2_walkTime_38 ?_
        refine t_inv [(vi 1), (vi 2)] dX2_walkTime_39 q3256 q3258 qs76 q3259 rfl (c_isThrown1 K 0 h m _ _) pdX2_isThrown ⟨Nat.le_of_ble_eq_true rfl, by decide, by omega⟩ (kk_z fun r39 h39 q39 => ?_) kx_z
        obtain ⟨rfl, rfl⟩ := q39
        refine mw_tov (b := ovr sg [(0, 2)] []) (ovr_ovr _ _ _ _ _) ?_
        refine j_if_eq 47 dX2_walkTime_42 (by decide) ⟨by decide, by decide⟩ (fun c => absurd c (by decide)) (fun _ => ?_)
        refine j_iconst dX2_walkTime_45 ?_
        subst hQ; exact j_iret dX2_walkTime_46 rfl (by first | exact Or.inl ⟨by omega, rfl⟩ | exact Or.inr (Or.inl ⟨by omega, by omega, rfl⟩) | exact Or.inr (Or.inr ⟨by omega, by omega, rfl, rfl⟩))
theorem c_service (K : KT) (d : Nat) (h : MH) (m : Nat) (sg : TS) (hd : 2 ≤ d) (hT : TB sg) : Mt K yiX2_service d [.ref m] (tov K h m sg) (Rz fun v h' => (sg.1 6 = 6 ∧ h' = tov K h m (ovr sg [(0, 1)] [])) ∨ (sg.1 6 < 6 ∧ h' = tov K h m (ovr sg [(0, 0), (6, sg.1 6 + 1)] []) ∧ v = sg.1 6)) := by
  refine mt_ofQ (by decide) (Nat.le_of_ble_eq_true rfl) (fun Q hQ => ?_)
  show MW K yiX2_service d (tov K h m (ovr sg [] [])) 0 [some (.ref m)] [] Q
  have f6 := of6 (hT.1 6)
  refine m_aload_n dX2_service_0 rfl ?_
  refine m_aload_n dX2_service_1 rfl ?_
  refine t_geti 6 (by decide) (sg.1 6) dX2_service_2 q3099 rfl ?_
  refine j_bipush dX2_service_5 (by decide) ?_
  refine j_icmp_ne 14 dX2_service_7 (by decide) ⟨⟨by omega, by omega⟩, ⟨by omega, by omega⟩⟩ (fun c7 => ?_) (fun c7 => ?_)
  · refine j_iconst dX2_service_14 ?_
    refine j_iconst dX2_service_15 ?_
    refine t_inv [(vi 0), (vi 1)] dX2_service_16 q3256 q3258 qs76 q3259 rfl (c_isThrown0 K 0 h m _ _) pdX2_isThrown ⟨Nat.le_of_ble_eq_true rfl, by decide, by omega⟩ (kk_z fun r16 h16 q16 => ?_) kx_z
    obtain ⟨rfl, rfl⟩ := q16
    refine mw_tov (b := ovr sg [(0, 0)] []) (ovr_ovr _ _ _ _ _) ?_
    refine j_if_eq 24 dX2_service_19 (by decide) ⟨by decide, by decide⟩ (fun _ => ?_) (fun c => absurd c (by decide))
    refine m_aload_n dX2_service_24 rfl ?_
    refine m_dup dX2_service_25 rfl ?_
    refine t_geti 6 (by decide) (sg.1 6) dX2_service_26 q3099 rfl ?_
    refine j_iconst dX2_service_29 ?_
    refine j_iadd dX2_service_30 ?_
    refine t_puti 6 (by decide) [(0, 0), (6, ((sg.1 6) + 1))] dX2_service_31 q3099 rfl rfl rfl rfl ?_
    refine m_aload_n dX2_service_34 rfl ?_
    refine t_geti 6 (by decide) ((sg.1 6) + 1) dX2_service_35 q3099 rfl ?_
    refine j_iconst dX2_service_38 ?_
    refine j_isub dX2_service_39 ?_
    subst hQ; exact j_iret dX2_service_40 rfl (by first | exact Or.inl ⟨by omega, rfl⟩ | exact Or.inr ⟨by omega, rfl, by omega⟩)
  · refine j_iconst dX2_service_10 ?_
    refine m_goto 15 dX2_service_11 (by decide) ?_
    refine j_iconst dX2_service_15 ?_
    refine t_inv [(vi 1), (vi 1)] dX2_service_16 q3256 q3258 qs76 q3259 rfl (c_isThrown1 K 0 h m _ _) pdX2_isThrown ⟨Nat.le_of_ble_eq_true rfl, by decide, by omega⟩ (kk_z fun r16 h16 q16 => ?_) kx_z
    obtain ⟨rfl, rfl⟩ := q16
    refine mw_tov (b := ovr sg [(0, 1)] []) (ovr_ovr _ _ _ _ _) ?_
    refine j_if_eq 24 dX2_service_19 (by decide) ⟨by decide, by decide⟩ (fun c => absurd c (by decide)) (fun _ => ?_)
    refine j_iconst dX2_service_22 ?_
    subst hQ; exact j_iret dX2_service_23 rfl (by first | exact Or.inl ⟨by omega, rfl⟩ | exact Or.inr ⟨by omega, rfl, by omega⟩)
theorem c_putDay (K : KT) (d : Nat) (h : MH) (m : Nat) (sg : TS) (s y : Int) (p : Prop) [Decidable p] (hd : 2 ≤ d) (hT : TB sg) (h1 : In s) (h2 : In y) : Mt K yiX2_putDay d [.ref m, vi s, vi y, vi (bz p)] (tov K h m sg) (Rz fun v h' => (¬ (0 ≤ s ∧ s ≤ sg.1 6 - 1) ∧ h' = tov K h m (ovr sg [(0, 1)] [])) ∨ ((0 ≤ s ∧ s ≤ sg.1 6 - 1) ∧ ¬ (0 ≤ y ∧ y ≤ 27) ∧ h' = tov K h m (ovr sg [(0, 2)] [])) ∨ ((0 ≤ s ∧ s ≤ sg.1 6 - 1) ∧ (0 ≤ y ∧ y ≤ 27) ∧ h' = tov K h m (ovr sg [(0, 0)] [(7, upz (sg.2 7) (28 * s + y) (bz p))]) ∧ v = sg.2 7 (28 * s + y))) := by
  have := h1.1; have := h1.2; have := h2.1; have := h2.2; have f6 := of6 (hT.1 6); have b9 := bz01 p
  refine mt_ofQ (by decide) (Nat.le_of_ble_eq_true rfl) (fun Q hQ => ?_)
  show MW K yiX2_putDay d (tov K h m (ovr sg [] [])) 0 [some (.ref m), some (vi s), some (vi y), some (vi (bz p)), none] [] Q
  refine m_aload_n dX2_putDay_0 rfl ?_
  refine j_iload_n dX2_putDay_1 rfl ?_
  refine t_inv [(vi s)] dX2_putDay_2 q3289 q3291 qs79 q3292 rfl (c_isNoService K 1 h m _ _ (by omega) (hT.1 6) ⟨by omega, by omega⟩) pdX2_isNoService ⟨Nat.le_of_ble_eq_true rfl, by decide, by omega⟩ (kk_z fun r2 h2 q2 => ?_) kx_z
  obtain ⟨rfl, rfl⟩ := q2
  refine mw_tov (b := ovr sg [(0, (if ¬ (0 ≤ s ∧ s ≤ (sg.1 6) - 1) then 1 else 0))] []) (ovr_ovr _ _ _ _ _) ?_
  refine mw_top (x' := bz (¬ (0 ≤ s ∧ s ≤ (sg.1 6) - 1))) rfl ?_
  refine j_bz_ne 17 dX2_putDay_5 (by decide) (fun c5 => ?_) (fun c5 => ?_)
  · refine mw_tov (b := ovr sg [(0, 1)] []) (by rw [if_pos c5]) ?_
    refine j_iconst dX2_putDay_17 ?_
    subst hQ; exact j_zret dX2_putDay_18 rfl (by omega) (by first | exact Or.inl ⟨by omega, rfl⟩ | exact Or.inr (Or.inl ⟨by omega, by omega, rfl⟩) | exact Or.inr (Or.inr ⟨by omega, by omega, rfl, rfl⟩))
  · refine mw_tov (b := ovr sg [(0, 0)] []) (by rw [if_neg c5]) ?_
    refine m_aload_n dX2_putDay_8 rfl ?_
    refine j_iload_n dX2_putDay_9 rfl ?_
    refine j_iconst dX2_putDay_10 ?_
    refine t_inv [(vi y), (vi 2)] dX2_putDay_11 q3297 q3299 qs80 q3300 rfl (c_isNoDay K 1 h m _ _ _ (by omega) ⟨by omega, by omega⟩) pdX2_isNoDay ⟨Nat.le_of_ble_eq_true rfl, by decide, by omega⟩ (kk_z fun r11 h11 q11 => ?_) kx_z
    obtain ⟨rfl, rfl⟩ := q11
    refine mw_tov (b := ovr sg [(0, (if ¬ (0 ≤ y ∧ y ≤ 27) then 2 else 0))] []) (ovr_ovr _ _ _ _ _) ?_
    refine mw_top (x' := bz (¬ (0 ≤ y ∧ y ≤ 27))) rfl ?_
    refine j_bz_eq 19 dX2_putDay_14 (by decide) (fun c14 => ?_) (fun c14 => ?_)
    · refine mw_tov (b := ovr sg [(0, 0)] []) (by rw [if_neg c14]) ?_
      refine m_aload_n dX2_putDay_19 rfl ?_
      refine t_geta 7 4 (by decide) dX2_putDay_20 q3100 rfl ?_
      refine j_bipush dX2_putDay_23 (by decide) ?_
      refine j_iload_n dX2_putDay_25 rfl ?_
      refine j_imul dX2_putDay_26 ?_
      refine j_iload_n dX2_putDay_27 rfl ?_
      refine j_iadd dX2_putDay_28 ?_
      refine t_zldB (sg.2 7) dX2_putDay_29 rfl (oa7 (hT.2 7)) ⟨by omega, by omega⟩ (fun b29 => ?_)
      refine j_istore [some (.ref m), some (vi s), some (vi y), some (vi (bz p)), some (vi ((sg.2 7) ((28 * s) + y)))] dX2_putDay_30 (by decide) rfl rfl ?_
      refine m_aload_n dX2_putDay_32 rfl ?_
      refine t_geta 7 4 (by decide) dX2_putDay_33 q3100 rfl ?_
      refine j_bipush dX2_putDay_36 (by decide) ?_
      refine j_iload_n dX2_putDay_38 rfl ?_
      refine j_imul dX2_putDay_39 ?_
      refine j_iload_n dX2_putDay_40 rfl ?_
      refine j_iadd dX2_putDay_41 ?_
      refine j_iload_n dX2_putDay_42 rfl ?_
      refine t_zst (sg.2 7) [(7, (upz (sg.2 7) ((28 * s) + y) (bz p)))] dX2_putDay_43 rfl ⟨by omega, by omega⟩ (by omega) rfl ?_
      refine j_iload dX2_putDay_44 rfl ?_
      subst hQ; exact j_zret dX2_putDay_46 rfl (by omega) (by first | exact Or.inl ⟨by omega, rfl⟩ | exact Or.inr (Or.inl ⟨by omega, by omega, rfl⟩) | exact Or.inr (Or.inr ⟨by omega, by omega, rfl, rfl⟩))
    · refine mw_tov (b := ovr sg [(0, 2)] []) (by rw [if_pos c14]) ?_
      refine j_iconst dX2_putDay_17 ?_
      subst hQ; exact j_zret dX2_putDay_18 rfl (by omega) (by first | exact Or.inl ⟨by omega, rfl⟩ | exact Or.inr (Or.inl ⟨by omega, by omega, rfl⟩) | exact Or.inr (Or.inr ⟨by omega, by omega, rfl, rfl⟩))
theorem c_runsOn (K : KT) (d : Nat) (h : MH) (m : Nat) (sg : TS) (s y : Int) (hd : 2 ≤ d) (hT : TB sg) (h1 : In s) (h2 : In y) : Mt K yiX2_runsOn d [.ref m, vi s, vi y] (tov K h m sg) (Rz fun v h' => (¬ (0 ≤ s ∧ s ≤ sg.1 6 - 1) ∧ h' = tov K h m (ovr sg [(0, 1)] [])) ∨ ((0 ≤ s ∧ s ≤ sg.1 6 - 1) ∧ ¬ (0 ≤ y ∧ y ≤ 27) ∧ h' = tov K h m (ovr sg [(0, 2)] [])) ∨ ((0 ≤ s ∧ s ≤ sg.1 6 - 1) ∧ (0 ≤ y ∧ y ≤ 27) ∧ h' = tov K h m (ovr sg [(0, 0)] []) ∧ v = sg.2 7 (28 * s + y))) := by
  have := h1.1; have := h1.2; have := h2.1; have := h2.2; have f6 := of6 (hT.1 6)
  refine mt_ofQ (by decide) (Nat.le_of_ble_eq_true rfl) (fun Q hQ => ?_)
  show MW K yiX2_runsOn d (tov K h m (ovr sg [] [])) 0 [some (.ref m), some (vi s), some (vi y)] [] Q
  refine m_aload_n dX2_runsOn_0 rfl ?_
  refine j_iload_n dX2_runsOn_1 rfl ?_
  refine t_inv [(vi s)] dX2_runsOn_2 q3289 q3291 qs79 q3292 rfl (c_isNoService K 1 h m _ _ (by omega) (hT.1 6) ⟨by omega, by omega⟩) pdX2_isNoService ⟨Nat.le_of_ble_eq_true rfl, by decide, by omega⟩ (kk_z fun r2 h2 q2 => ?_) kx_z
  obtain ⟨rfl, rfl⟩ := q2
  refine mw_tov (b := ovr sg [(0, (if ¬ (0 ≤ s ∧ s ≤ (sg.1 6) - 1) then 1 else 0))] []) (ovr_ovr _ _ _ _ _) ?_
  refine mw_top (x' := bz (¬ (0 ≤ s ∧ s ≤ (sg.1 6) - 1))) rfl ?_
  refine j_bz_ne 35 dX2_runsOn_5 (by decide) (fun c5 => ?_) (fun c5 => ?_)
  · refine mw_tov (b := ovr sg [(0, 1)] []) (by rw [if_pos c5]) ?_
    refine j_iconst dX2_runsOn_35 ?_
    subst hQ; exact j_zret dX2_runsOn_36 rfl (by omega) (by first | exact Or.inl ⟨by omega, rfl⟩ | exact Or.inr (Or.inl ⟨by omega, by omega, rfl⟩) | exact Or.inr (Or.inr ⟨by omega, by omega, rfl, by omega⟩))
  · refine mw_tov (b := ovr sg [(0, 0)] []) (by rw [if_neg c5]) ?_
    refine m_aload_n dX2_runsOn_8 rfl ?_
    refine j_iload_n dX2_runsOn_9 rfl ?_
    refine j_iconst dX2_runsOn_10 ?_
    refine t_inv [(vi y), (vi 2)] dX2_runsOn_11 q3297 q3299 qs80 q3300 rfl (c_isNoDay K 1 h m _ _ _ (by omega) ⟨by omega, by omega⟩) pdX2_isNoDay ⟨Nat.le_of_ble_eq_true rfl, by decide, by omega⟩ (kk_z fun r11 h11 q11 => ?_) kx_z
    obtain ⟨rfl, rfl⟩ := q11
    refine mw_tov (b := ovr sg [(0, (if ¬ (0 ≤ y ∧ y ≤ 27) then 2 else 0))] []) (ovr_ovr _ _ _ _ _) ?_
    refine mw_top (x' := bz (¬ (0 ≤ y ∧ y ≤ 27))) rfl ?_
    refine j_bz_ne 35 dX2_runsOn_14 (by decide) (fun c14 => ?_) (fun c14 => ?_)
    · refine mw_tov (b := ovr sg [(0, 2)] []) (by rw [if_pos c14]) ?_
      refine j_iconst dX2_runsOn_35 ?_
      subst hQ; exact j_zret dX2_runsOn_36 rfl (by omega) (by first | exact Or.inl ⟨by omega, rfl⟩ | exact Or.inr (Or.inl ⟨by omega, by omega, rfl⟩) | exact Or.inr (Or.inr ⟨by omega, by omega, rfl, by omega⟩))
    · refine mw_tov (b := ovr sg [(0, 0)] []) (by rw [if_neg c14]) ?_
      refine m_aload_n dX2_runsOn_17 rfl ?_
      refine t_geta 7 4 (by decide) dX2_runsOn_18 q3100 rfl ?_
      refine j_bipush dX2_runsOn_21 (by decide) ?_
      refine j_iload_n dX2_runsOn_23 rfl ?_
      refine j_imul dX2_runsOn_24 ?_
      refine j_iload_n dX2_runsOn_25 rfl ?_
      refine j_iadd dX2_runsOn_26 ?_
      refine t_zldB (sg.2 7) dX2_runsOn_27 rfl (oa7 (hT.2 7)) ⟨by omega, by omega⟩ (fun b27 => ?_)
      refine j_if_eq 35 dX2_runsOn_28 (by decide) ⟨by omega, by omega⟩ (fun c28 => ?_) (fun c28 => ?_)
      · refine j_iconst dX2_runsOn_35 ?_
        subst hQ; exact j_zret dX2_runsOn_36 rfl (by omega) (by first | exact Or.inl ⟨by omega, rfl⟩ | exact Or.inr (Or.inl ⟨by omega, by omega, rfl⟩) | exact Or.inr (Or.inr ⟨by omega, by omega, rfl, by omega⟩))
      · refine j_iconst dX2_runsOn_31 ?_
        refine m_goto 36 dX2_runsOn_32 (by decide) ?_
        subst hQ; exact j_zret dX2_runsOn_36 rfl (by omega) (by first | exact Or.inl ⟨by omega, rfl⟩ | exact Or.inr (Or.inl ⟨by omega, by omega, rfl⟩) | exact Or.inr (Or.inr ⟨by omega, by omega, rfl, by omega⟩))
theorem c_added (K : KT) (d : Nat) (h : MH) (m : Nat) (sg : TS) (s p t : Int) (hT : TB sg) (h8 : sg.1 8 < 24) : Mt K yiX2_added d [.ref m, vi s, vi p, vi t] (tov K h m sg) (Rz fun v h' => h' = tov K h m (ovr sg [(8, sg.1 8 + 1)] [(9, upz (sg.2 9) (sg.1 8) s), (10, upz (sg.2 10) (sg.1 8) 1), (11, upz (sg.2 11) (8 * sg.1 8) p), (12, upz (sg.2 12) (8 * sg.1 8) t), (13, upz (sg.2 13) (8 * sg.1 8) t)]) ∧ v = sg.1 8) := by
  refine mt_ofQ (by decide) (Nat.le_of_ble_eq_true rfl) (fun Q hQ => ?_)
  show MW K yiX2_added d (tov K h m (ovr sg [] [])) 0 [some (.ref m), some (vi s), some (vi p), some (vi t)] [] Q
  have f8 := of8 (hT.1 8)
  refine m_aload_n dX2_added_0 rfl ?_
  refine t_geta 9 5 (by decide) dX2_added_1 q3102 rfl ?_
  refine m_aload_n dX2_added_4 rfl ?_
  refine t_geti 8 (by decide) (sg.1 8) dX2_added_5 q3101 rfl ?_
  refine j_iload_n dX2_added_8 rfl ?_
  refine t_ast 5 (by decide) (n := 24) (sg.2 9) [(9, (upz (sg.2 9) (sg.1 8) s))] dX2_added_9 rfl (Nat.le_of_ble_eq_true rfl) ⟨by omega, by omega⟩ rfl rfl ?_
  refine m_aload_n dX2_added_10 rfl ?_
  refine t_geta 10 6 (by decide) dX2_added_11 q3103 rfl ?_
  refine m_aload_n dX2_added_14 rfl ?_
  refine t_geti 8 (by decide) (sg.1 8) dX2_added_15 q3101 rfl ?_
  refine j_iconst dX2_added_18 ?_
  refine t_ast 6 (by decide) (n := 24) (sg.2 10) [(9, (upz (sg.2 9) (sg.1 8) s)), (10, (upz (sg.2 10) (sg.1 8) 1))] dX2_added_19 rfl (Nat.le_of_ble_eq_true rfl) ⟨by omega, by omega⟩ rfl rfl ?_
  refine m_aload_n dX2_added_20 rfl ?_
  refine t_geta 11 7 (by decide) dX2_added_21 q3104 rfl ?_
  refine j_bipush dX2_added_24 (by decide) ?_
  refine m_aload_n dX2_added_26 rfl ?_
  refine t_geti 8 (by decide) (sg.1 8) dX2_added_27 q3101 rfl ?_
  refine j_imul dX2_added_30 ?_
  refine j_iload_n dX2_added_31 rfl ?_
  refine t_ast 7 (by decide) (n := 192) (sg.2 11) [(9, (upz (sg.2 9) (sg.1 8) s)), (10, (upz (sg.2 10) (sg.1 8) 1)), (11, (upz (sg.2 11) (8 * (sg.1 8)) p))] dX2_added_32 rfl (Nat.le_of_ble_eq_true rfl) ⟨by omega, by omega⟩ rfl rfl ?_
  refine m_aload_n dX2_added_33 rfl ?_
  refine t_geta 12 8 (by decide) dX2_added_34 q3105 rfl ?_
  refine j_bipush dX2_added_37 (by decide) ?_
  refine m_aload_n dX2_added_39 rfl ?_
  refine t_geti 8 (by decide) (sg.1 8) dX2_added_40 q3101 rfl ?_
  refine j_imul dX2_added_43 ?_
  refine j_iload_n dX2_added_44 rfl ?_
  refine t_ast 8 (by decide) (n := 192) (sg.2 12) [(9, (upz (sg.2 9) (sg.1 8) s)), (10, (upz (sg.2 10) (sg.1 8) 1)), (11, (upz (sg.2 11) (8 * (sg.1 8)) p)), (12, (upz (sg.2 12) (8 * (sg.1 8)) t))] dX2_added_45 rfl (Nat.le_of_ble_eq_true rfl) ⟨by omega, by omega⟩ rfl rfl ?_
  refine m_aload_n dX2_added_46 rfl ?_
  refine t_geta 13 9 (by decide) dX2_added_47 q3106 rfl ?_
  refine j_bipush dX2_added_50 (by decide) ?_
  refine m_aload_n dX2_added_52 rfl ?_
  refine t_geti 8 (by decide) (sg.1 8) dX2_added_53 q3101 rfl ?_
  refine j_imul dX2_added_56 ?_
  refine j_iload_n dX2_added_57 rfl ?_
  refine t_ast 9 (by decide) (n := 192) (sg.2 13) [(9, (upz (sg.2 9) (sg.1 8) s)), (10, (upz (sg.2 10) (sg.1 8) 1)), (11, (upz (sg.2 11) (8 * (sg.1 8)) p)), (12, (upz (sg.2 12) (8 * (sg.1 8)) t)), (13, (upz (sg.2 13) (8 * (sg.1 8)) t))] dX2_added_58 rfl (Nat.le_of_ble_eq_true rfl) ⟨by omega, by omega⟩ rfl rfl ?_
  refine m_aload_n dX2_added_59 rfl ?_
  refine m_dup dX2_added_60 rfl ?_
  refine t_geti 8 (by decide) (sg.1 8) dX2_added_61 q3101 rfl ?_
  refine j_iconst dX2_added_64 ?_
  refine j_iadd dX2_added_65 ?_
  refine t_puti 8 (by decide) [(8, ((sg.1 8) + 1))] dX2_added_66 q3101 rfl rfl rfl rfl ?_
  refine m_aload_n dX2_added_69 rfl ?_
  refine t_geti 8 (by decide) ((sg.1 8) + 1) dX2_added_70 q3101 rfl ?_
  refine j_iconst dX2_added_73 ?_
  refine j_isub dX2_added_74 ?_
  subst hQ; exact j_iret dX2_added_75 rfl (⟨rfl, by omega⟩)
theorem c_trip (K : KT) (d : Nat) (h : MH) (m : Nat) (sg : TS) (s p t : Int) (hd : 2 ≤ d) (hT : TB sg) (h1 : In s) (h2 : In p) (h3 : In t) : Mt K yiX2_trip d [.ref m, vi s, vi p, vi t] (tov K h m sg) (Rz fun v h' => (¬ ((0 ≤ s ∧ s ≤ sg.1 6 - 1) ∧ (0 ≤ p ∧ p ≤ sg.1 1 - 1)) ∧ h' = tov K h m (ovr sg [(0, 1)] [])) ∨ (((0 ≤ s ∧ s ≤ sg.1 6 - 1) ∧ (0 ≤ p ∧ p ≤ sg.1 1 - 1)) ∧ ¬ (0 ≤ t ∧ t ≤ 2879) ∧ h' = tov K h m (ovr sg [(0, 2)] [])) ∨ (((0 ≤ s ∧ s ≤ sg.1 6 - 1) ∧ (0 ≤ p ∧ p ≤ sg.1 1 - 1)) ∧ (0 ≤ t ∧ t ≤ 2879) ∧ sg.1 8 = 24 ∧ h' = tov K h m (ovr sg [(0, 3)] [])) ∨ (((0 ≤ s ∧ s ≤ sg.1 6 - 1) ∧ (0 ≤ p ∧ p ≤ sg.1 1 - 1)) ∧ (0 ≤ t ∧ t ≤ 2879) ∧ sg.1 8 < 24 ∧ h' = tov K h m (ovr sg [(0, 0), (8, sg.1 8 + 1)] [(9, upz (sg.2 9) (sg.1 8) s), (10, upz (sg.2 10) (sg.1 8) 1), (11, upz (sg.2 11) (8 * sg.1 8) p), (12, upz (sg.2 12) (8 * sg.1 8) t), (13, upz (sg.2 13) (8 * sg.1 8) t)]) ∧ v = sg.1 8)) := by
  have := h1.1; have := h1.2; have := h2.1; have := h2.2; have := h3.1; have := h3.2; have f1 := of1 (hT.1 1); have f6 := of6 (hT.1 6); have f8 := of8 (hT.1 8)
  refine mt_ofQ (by decide) (Nat.le_of_ble_eq_true rfl) (fun Q hQ => ?_)
  show MW K yiX2_trip d (tov K h m (ovr sg [] [])) 0 [some (.ref m), some (vi s), some (vi p), some (vi t)] [] Q
  have f8 := of8 (hT.1 8)
  refine m_aload_n dX2_trip_0 rfl ?_
  refine j_iload_n dX2_trip_1 rfl ?_
  refine t_inv [(vi s)] dX2_trip_2 q3289 q3291 qs79 q3292 rfl (c_isNoService K 1 h m _ _ (by omega) (hT.1 6) ⟨by omega, by omega⟩) pdX2_isNoService ⟨Nat.le_of_ble_eq_true rfl, by decide, by omega⟩ (kk_z fun r2 h2 q2 => ?_) kx_z
  obtain ⟨rfl, rfl⟩ := q2
  refine mw_tov (b := ovr sg [(0, (if ¬ (0 ≤ s ∧ s ≤ (sg.1 6) - 1) then 1 else 0))] []) (ovr_ovr _ _ _ _ _) ?_
  refine mw_top (x' := bz (¬ (0 ≤ s ∧ s ≤ (sg.1 6) - 1))) rfl ?_
  refine j_bz_ne 62 dX2_trip_5 (by decide) (fun c5 => ?_) (fun c5 => ?_)
  · refine mw_tov (b := ovr sg [(0, 1)] []) (by rw [if_pos c5]) ?_
    refine j_iconst dX2_trip_62 ?_
    subst hQ; exact j_iret dX2_trip_63 rfl (by first | exact Or.inl ⟨by omega, rfl⟩ | exact Or.inr (Or.inl ⟨by omega, by omega, rfl⟩) | exact Or.inr (Or.inr (Or.inl ⟨by omega, by omega, by omega, rfl⟩)) | exact Or.inr (Or.inr (Or.inr ⟨by omega, by omega, by omega, rfl, rfl⟩)))
  · refine mw_tov (b := ovr sg [(0, 0)] []) (by rw [if_neg c5]) ?_
    refine m_aload_n dX2_trip_8 rfl ?_
    refine j_iload_n dX2_trip_9 rfl ?_
    refine t_inv [(vi p)] dX2_trip_10 q3269 q3271 qs78 q3272 rfl (c_isNoStop K 1 h m _ _ (by omega) (hT.1 1) ⟨by omega, by omega⟩) pdX2_isNoStop ⟨Nat.le_of_ble_eq_true rfl, by decide, by omega⟩ (kk_z fun r10 h10 q10 => ?_) kx_z
    obtain ⟨rfl, rfl⟩ := q10
    refine mw_tov (b := ovr sg [(0, (if ¬ (0 ≤ p ∧ p ≤ (sg.1 1) - 1) then 1 else 0))] []) (ovr_ovr _ _ _ _ _) ?_
    refine mw_top (x' := bz (¬ (0 ≤ p ∧ p ≤ (sg.1 1) - 1))) rfl ?_
    refine j_bz_ne 62 dX2_trip_13 (by decide) (fun c13 => ?_) (fun c13 => ?_)
    · refine mw_tov (b := ovr sg [(0, 1)] []) (by rw [if_pos c13]) ?_
      refine j_iconst dX2_trip_62 ?_
      subst hQ; exact j_iret dX2_trip_63 rfl (by first | exact Or.inl ⟨by omega, rfl⟩ | exact Or.inr (Or.inl ⟨by omega, by omega, rfl⟩) | exact Or.inr (Or.inr (Or.inl ⟨by omega, by omega, by omega, rfl⟩)) | exact Or.inr (Or.inr (Or.inr ⟨by omega, by omega, by omega, rfl, rfl⟩)))
    · refine mw_tov (b := ovr sg [(0, 0)] []) (by rw [if_neg c13]) ?_
      refine m_aload_n dX2_trip_16 rfl ?_
      refine j_iload_n dX2_trip_17 rfl ?_
      refine j_iconst dX2_trip_18 ?_
      refine j_sipush dX2_trip_19 (by decide) ?_
      refine m_invS [(vi t), (vi 0), (vi 2879)] dX2_trip_22 q3253 q3254 q133 q3255 (c_isIn K 0 _ _ _ _ ⟨by omega, by omega⟩ ⟨by omega, by omega⟩ ⟨by omega, by omega⟩) pdX2_isIn ⟨Nat.le_of_ble_eq_true rfl, by decide, by omega⟩ (kk_z fun r22 h22 q22 => ?_) kx_z
      obtain ⟨rfl, rfl⟩ := q22
      refine mw_top (x' := bz (0 ≤ t ∧ t ≤ 2879)) rfl ?_
      refine j_bz_ne 32 dX2_trip_25 (by decide) (fun c25 => ?_) (fun c25 => ?_)
      · refine j_iconst dX2_trip_32 ?_
        refine j_iconst dX2_trip_33 ?_
        refine t_inv [(vi 0), (vi 2)] dX2_trip_34 q3256 q3258 qs76 q3259 rfl (c_isThrown0 K 0 h m _ _) pdX2_isThrown ⟨Nat.le_of_ble_eq_true rfl, by decide, by omega⟩ (kk_z fun r34 h34 q34 => ?_) kx_z
        obtain ⟨rfl, rfl⟩ := q34
        refine mw_tov (b := ovr sg [(0, 0)] []) (ovr_ovr _ _ _ _ _) ?_
        refine j_if_ne 62 dX2_trip_37 (by decide) ⟨by decide, by decide⟩ (fun c => absurd c (by decide)) (fun _ => ?_)
        refine m_aload_n dX2_trip_40 rfl ?_
        refine m_aload_n dX2_trip_41 rfl ?_
        refine t_geti 8 (by decide) (sg.1 8) dX2_trip_42 q3101 rfl ?_
        refine j_bipush dX2_trip_45 (by decide) ?_
        refine j_icmp_ne 54 dX2_trip_47 (by decide) ⟨⟨by omega, by omega⟩, ⟨by omega, by omega⟩⟩ (fun c47 => ?_) (fun c47 => ?_)
        · refine j_iconst dX2_trip_54 ?_
          refine j_iconst dX2_trip_55 ?_
          refine t_inv [(vi 0), (vi 3)] dX2_trip_56 q3256 q3258 qs76 q3259 rfl (c_isThrown0 K 0 h m _ _) pdX2_isThrown ⟨Nat.le_of_ble_eq_true rfl, by decide, by omega⟩ (kk_z fun r56 h56 q56 => ?_) kx_z
          obtain ⟨rfl, rfl⟩ := q56
          refine mw_tov (b := ovr sg [(0, 0)] []) (ovr_ovr _ _ _ _ _) ?_
          refine j_if_eq 64 dX2_trip_59 (by decide) ⟨by decide, by decide⟩ (fun _ => ?_) (fun c => absurd c (by decide))
          refine m_aload_n dX2_trip_64 rfl ?_
          refine j_iload_n dX2_trip_65 rfl ?_
          refine j_iload_n dX2_trip_66 rfl ?_
          refine j_iload_n dX2_trip_67 rfl ?_
          refine t_inv [(vi s), (vi p), (vi t)] dX2_trip_68 q3313 q3315 qs81 q3316 rfl (c_added K 0 h m _ _ _ _ (hT.ovr (fa1 (mf0 (v := 0) ⟨by first | decide | omega | (split <;> omega) | assumption, by first | decide | omega | (split <;> omega) | assumption⟩) fa0) fa0) (show (sg.1 8) < 24 from by omega)) pdX2_added ⟨Nat.le_of_ble_eq_true rfl, by decide, by omega⟩ (kk_z fun r68 h68 q68 => ?_) kx_z
          obtain ⟨rfl, rfl⟩ := q68
          refine mw_tov (b := ovr sg [(0, 0), (8, ((sg.1 8) + 1))] [(9, (upz (sg.2 9) (sg.1 8) s)), (10, (upz (sg.2 10) (sg.1 8) 1)), (11, (upz (sg.2 11) (8 * (sg.1 8)) p)), (12, (upz (sg.2 12) (8 * (sg.1 8)) t)), (13, (upz (sg.2 13) (8 * (sg.1 8)) t))]) (ovr_ovr _ _ _ _ _) ?_
          refine mw_top (x' := (sg.1 8)) rfl ?_
          subst hQ; exact j_iret dX2_trip_71 rfl (by first | exact Or.inl ⟨by omega, rfl⟩ | exact Or.inr (Or.inl ⟨by omega, by omega, rfl⟩) | exact Or.inr (Or.inr (Or.inl ⟨by omega, by omega, by omega, rfl⟩)) | exact Or.inr (Or.inr (Or.inr ⟨by omega, by omega, by omega, rfl, rfl⟩)))
        · refine j_iconst dX2_trip_50 ?_
          refine m_goto 55 dX2_trip_51 (by decide) ?_
          refine j_iconst dX2_trip_55 ?_
          refine t_inv [(vi 1), (vi 3)] dX2_trip_56 q3256 q3258 qs76 q3259 rfl (c_isThrown1 K 0 h m _ _) pdX2_isThrown ⟨Nat.le_of_ble_eq_true rfl, by decide, by omega⟩ (kk_z fun r56 h56 q56 => ?_) kx_z
          obtain ⟨rfl, rfl⟩ := q56
          refine mw_tov (b := ovr sg [(0, 3)] []) (ovr_ovr _ _ _ _ _) ?_
          refine j_if_eq 64 dX2_trip_59 (by decide) ⟨by decide, by decide⟩ (fun c => absurd c (by decide)) (fun _ => ?_)
          refine j_iconst dX2_trip_62 ?_
          subst hQ; exact j_iret dX2_trip_63 rfl (by first | exact Or.inl ⟨by omega, rfl⟩ | exact Or.inr (Or.inl ⟨by omega, by omega, rfl⟩) | exact Or.inr (Or.inr (Or.inl ⟨by omega, by omega, by omega, rfl⟩)) | exact Or.inr (Or.inr (Or.inr ⟨by omega, by omega, by omega, rfl, rfl⟩)))
      · refine j_iconst dX2_trip_28 ?_
        refine m_goto 33 dX2_trip_29 (by decide) ?_
        refine j_iconst dX2_trip_33 ?_
        refine t_inv [(vi 1), (vi 2)] dX2_trip_34 q3256 q3258 qs76 q3259 rfl (c_isThrown1 K 0 h m _ _) pdX2_isThrown ⟨Nat.le_of_ble_eq_true rfl, by decide, by omega⟩ (kk_z fun r34 h34 q34 => ?_) kx_z
        obtain ⟨rfl, rfl⟩ := q34
        refine mw_tov (b := ovr sg [(0, 2)] []) (ovr_ovr _ _ _ _ _) ?_
        refine j_if_ne 62 dX2_trip_37 (by decide) ⟨by decide, by decide⟩ (fun _ => ?_) (fun c => absurd c (by decide))
        refine j_iconst dX2_trip_62 ?_
        subst hQ; exact j_iret dX2_trip_63 rfl (by first | exact Or.inl ⟨by omega, rfl⟩ | exact Or.inr (Or.inl ⟨by omega, by omega, rfl⟩) | exact Or.inr (Or.inr (Or.inl ⟨by omega, by omega, by omega, rfl⟩)) | exact Or.inr (Or.inr (Or.inr ⟨by omega, by omega, by omega, rfl, rfl⟩)))
theorem c_trips (K : KT) (d : Nat) (h : MH) (m : Nat) (sg : TS) : Mt K yiX2_trips d [.ref m] (tov K h m sg) (Rz fun v h' => h' = tov K h m (ovr sg [(0, 0)] []) ∧ v = sg.1 8) := by
  refine mt_ofQ (by decide) (Nat.le_of_ble_eq_true rfl) (fun Q hQ => ?_)
  show MW K yiX2_trips d (tov K h m (ovr sg [] [])) 0 [some (.ref m)] [] Q
  refine m_aload_n dX2_trips_0 rfl ?_
  refine j_iconst dX2_trips_1 ?_
  refine t_puti 0 (by decide) [(0, 0)] dX2_trips_2 q3093 rfl rfl rfl rfl ?_
  refine m_aload_n dX2_trips_5 rfl ?_
  refine t_geti 8 (by decide) (sg.1 8) dX2_trips_6 q3101 rfl ?_
  subst hQ; exact j_iret dX2_trips_9 rfl (⟨rfl, rfl⟩)
theorem c_calls (K : KT) (d : Nat) (h : MH) (m : Nat) (sg : TS) (t : Int) (hd : 2 ≤ d) (hT : TB sg) (h1 : In t) : Mt K yiX2_calls d [.ref m, vi t] (tov K h m sg) (Rz fun v h' => (¬ (0 ≤ t ∧ t ≤ sg.1 8 - 1) ∧ h' = tov K h m (ovr sg [(0, 1)] [])) ∨ ((0 ≤ t ∧ t ≤ sg.1 8 - 1) ∧ h' = tov K h m (ovr sg [(0, 0)] []) ∧ v = sg.2 10 t)) := by
  have := h1.1; have := h1.2; have f8 := of8 (hT.1 8)
  refine mt_ofQ (by decide) (Nat.le_of_ble_eq_true rfl) (fun Q hQ => ?_)
  show MW K yiX2_calls d (tov K h m (ovr sg [] [])) 0 [some (.ref m), some (vi t)] [] Q
  refine m_aload_n dX2_calls_0 rfl ?_
  refine j_iload_n dX2_calls_1 rfl ?_
  refine t_inv [(vi t)] dX2_calls_2 q3321 q3323 qs82 q3324 rfl (c_isNoTrip K 1 h m _ _ (by omega) (hT.1 8) ⟨by omega, by omega⟩) pdX2_isNoTrip ⟨Nat.le_of_ble_eq_true rfl, by decide, by omega⟩ (kk_z fun r2 h2 q2 => ?_) kx_z
  obtain ⟨rfl, rfl⟩ := q2
  refine mw_tov (b := ovr sg [(0, (if ¬ (0 ≤ t ∧ t ≤ (sg.1 8) - 1) then 1 else 0))] []) (ovr_ovr _ _ _ _ _) ?_
  refine mw_top (x' := bz (¬ (0 ≤ t ∧ t ≤ (sg.1 8) - 1))) rfl ?_
  refine j_bz_eq 12 dX2_calls_5 (by decide) (fun c5 => ?_) (fun c5 => ?_)
  · refine mw_tov (b := ovr sg [(0, 0)] []) (by rw [if_neg c5]) ?_
    refine m_aload_n dX2_calls_12 rfl ?_
    refine t_geta 10 6 (by decide) dX2_calls_13 q3103 rfl ?_
    refine j_iload_n dX2_calls_16 rfl ?_
    refine t_aldB 6 (by decide) (n := 24) (sg.2 10) dX2_calls_17 rfl (Nat.le_of_ble_eq_true rfl) (oa10 (hT.2 10)) ⟨by omega, by omega⟩ (fun b17 => ?_)
    subst hQ; exact j_iret dX2_calls_18 rfl (by first | exact Or.inl ⟨by omega, rfl⟩ | exact Or.inr ⟨by omega, rfl, rfl⟩)
  · refine mw_tov (b := ovr sg [(0, 1)] []) (by rw [if_pos c5]) ?_
    refine j_iconst dX2_calls_8 ?_
    refine m_goto 18 dX2_calls_9 (by decide) ?_
    subst hQ; exact j_iret dX2_calls_18 rfl (by first | exact Or.inl ⟨by omega, rfl⟩ | exact Or.inr ⟨by omega, rfl, rfl⟩)
theorem c_stopAt (K : KT) (d : Nat) (h : MH) (m : Nat) (sg : TS) (t c : Int) (hd : 3 ≤ d) (hT : TB sg) (h1 : In t) (h2 : In c) : Mt K yiX2_stopAt d [.ref m, vi t, vi c] (tov K h m sg) (Rz fun v h' => (¬ ((0 ≤ t ∧ t ≤ sg.1 8 - 1) ∧ (0 ≤ c ∧ c ≤ sg.2 10 t - 1)) ∧ h' = tov K h m (ovr sg [(0, 1)] [])) ∨ (((0 ≤ t ∧ t ≤ sg.1 8 - 1) ∧ (0 ≤ c ∧ c ≤ sg.2 10 t - 1)) ∧ h' = tov K h m (ovr sg [(0, 0)] []) ∧ v = sg.2 11 (8 * t + c))) := by
  have := h1.1; have := h1.2; have := h2.1; have := h2.2; have f8 := of8 (hT.1 8); have b10 := oa10 (hT.2 10) t
  refine mt_ofQ (by decide) (Nat.le_of_ble_eq_true rfl) (fun Q hQ => ?_)
  show MW K yiX2_stopAt d (tov K h m (ovr sg [] [])) 0 [some (.ref m), some (vi t), some (vi c)] [] Q
  refine m_aload_n dX2_stopAt_0 rfl ?_
  refine j_iload_n dX2_stopAt_1 rfl ?_
  refine j_iload_n dX2_stopAt_2 rfl ?_
  refine t_inv [(vi t), (vi c)] dX2_stopAt_3 q3337 q3339 qs83 q3340 rfl (c_isNoCall K 2 h m _ _ _ (by omega) hT ⟨by omega, by omega⟩ ⟨by omega, by omega⟩) pdX2_isNoCall ⟨Nat.le_of_ble_eq_true rfl, by decide, by omega⟩ (kk_z fun r3 h3 q3 => ?_) kx_z
  obtain ⟨rfl, rfl⟩ := q3
  refine mw_tov (b := ovr sg [(0, (if ¬ (0 ≤ t ∧ t ≤ (sg.1 8) - 1) ∨ ¬ (0 ≤ c ∧ c ≤ (sg.2 10) t - 1) then 1 else 0))] []) (ovr_ovr _ _ _ _ _) ?_
  refine mw_top (x' := bz (¬ (0 ≤ t ∧ t ≤ (sg.1 8) - 1) ∨ ¬ (0 ≤ c ∧ c ≤ (sg.2 10) t - 1))) rfl ?_
  refine j_bz_eq 13 dX2_stopAt_6 (by decide) (fun c6 => ?_) (fun c6 => ?_)
  · refine mw_tov (b := ovr sg [(0, 0)] []) (by rw [if_neg c6]) ?_
    refine m_aload_n dX2_stopAt_13 rfl ?_
    refine t_geta 11 7 (by decide) dX2_stopAt_14 q3104 rfl ?_
    refine j_bipush dX2_stopAt_17 (by decide) ?_
    refine j_iload_n dX2_stopAt_19 rfl ?_
    refine j_imul dX2_stopAt_20 ?_
    refine j_iload_n dX2_stopAt_21 rfl ?_
    refine j_iadd dX2_stopAt_22 ?_
    refine t_aldB 7 (by decide) (n := 192) (sg.2 11) dX2_stopAt_23 rfl (Nat.le_of_ble_eq_true rfl) (oa11 (hT.2 11)) ⟨by omega, by omega⟩ (fun b23 => ?_)
    subst hQ; exact j_iret dX2_stopAt_24 rfl (by first | exact Or.inl ⟨by omega, rfl⟩ | exact Or.inr ⟨by omega, rfl, rfl⟩)
  · refine mw_tov (b := ovr sg [(0, 1)] []) (by rw [if_pos c6]) ?_
    refine j_iconst dX2_stopAt_9 ?_
    refine m_goto 24 dX2_stopAt_10 (by decide) ?_
    subst hQ; exact j_iret dX2_stopAt_24 rfl (by first | exact Or.inl ⟨by omega, rfl⟩ | exact Or.inr ⟨by omega, rfl, rfl⟩)
theorem c_timeAt (K : KT) (d : Nat) (h : MH) (m : Nat) (sg : TS) (t c : Int) (p : Prop) [Decidable p] (hd : 3 ≤ d) (hT : TB sg) (h1 : In t) (h2 : In c) : Mt K yiX2_timeAt d [.ref m, vi t, vi c, vi (bz p)] (tov K h m sg) (Rz fun v h' => (¬ ((0 ≤ t ∧ t ≤ sg.1 8 - 1) ∧ (0 ≤ c ∧ c ≤ sg.2 10 t - 1)) ∧ h' = tov K h m (ovr sg [(0, 1)] [])) ∨ (((0 ≤ t ∧ t ≤ sg.1 8 - 1) ∧ (0 ≤ c ∧ c ≤ sg.2 10 t - 1)) ∧ h' = tov K h m (ovr sg [(0, 0)] []) ∧ v = (if p then sg.2 12 (8 * t + c) else sg.2 13 (8 * t + c)))) := by
  have := h1.1; have := h1.2; have := h2.1; have := h2.2; have f8 := of8 (hT.1 8); have b10 := oa10 (hT.2 10) t
  refine mt_ofQ (by decide) (Nat.le_of_ble_eq_true rfl) (fun Q hQ => ?_)
  show MW K yiX2_timeAt d (tov K h m (ovr sg [] [])) 0 [some (.ref m), some (vi t), some (vi c), some (vi (bz p))] [] Q
  refine m_aload_n dX2_timeAt_0 rfl ?_
  refine j_iload_n dX2_timeAt_1 rfl ?_
  refine j_iload_n dX2_timeAt_2 rfl ?_
  refine t_inv [(vi t), (vi c)] dX2_timeAt_3 q3337 q3339 qs83 q3340 rfl (c_isNoCall K 2 h m _ _ _ (by omega) hT ⟨by omega, by omega⟩ ⟨by omega, by omega⟩) pdX2_isNoCall ⟨Nat.le_of_ble_eq_true rfl, by decide, by omega⟩ (kk_z fun r3 h3 q3 => ?_) kx_z
  obtain ⟨rfl, rfl⟩ := q3
  refine mw_tov (b := ovr sg [(0, (if ¬ (0 ≤ t ∧ t ≤ (sg.1 8) - 1) ∨ ¬ (0 ≤ c ∧ c ≤ (sg.2 10) t - 1) then 1 else 0))] []) (ovr_ovr _ _ _ _ _) ?_
  refine mw_top (x' := bz (¬ (0 ≤ t ∧ t ≤ (sg.1 8) - 1) ∨ ¬ (0 ≤ c ∧ c ≤ (sg.2 10) t - 1))) rfl ?_
  refine j_bz_eq 13 dX2_timeAt_6 (by decide) (fun c6 => ?_) (fun c6 => ?_)
  · refine mw_tov (b := ovr sg [(0, 0)] []) (by rw [if_neg c6]) ?_
    refine j_iload_n dX2_timeAt_13 rfl ?_
    refine j_bz_eq 31 dX2_timeAt_14 (by decide) (fun c14 => ?_) (fun c14 => ?_)
    · refine m_aload_n dX2_timeAt_31 rfl ?_
      refine t_geta 13 9 (by decide) dX2_timeAt_32 q3106 rfl ?_
      refine j_bipush dX2_timeAt_35 (by decide) ?_
      refine j_iload_n dX2_timeAt_37 rfl ?_
      refine j_imul dX2_timeAt_38 ?_
      refine j_iload_n dX2_timeAt_39 rfl ?_
      refine j_iadd dX2_timeAt_40 ?_
      refine t_aldB 9 (by decide) (n := 192) (sg.2 13) dX2_timeAt_41 rfl (Nat.le_of_ble_eq_true rfl) (oa13 (hT.2 13)) ⟨by omega, by omega⟩ (fun b41 => ?_)
      subst hQ; exact j_iret dX2_timeAt_42 rfl (by first | exact Or.inl ⟨by omega, rfl⟩ | exact Or.inr ⟨by omega, rfl, by first | rw [if_pos (by assumption)] | rw [if_neg (by assumption)]⟩)
    · refine m_aload_n dX2_timeAt_17 rfl ?_
      refine t_geta 12 8 (by decide) dX2_timeAt_18 q3105 rfl ?_
      refine j_bipush dX2_timeAt_21 (by decide) ?_
      refine j_iload_n dX2_timeAt_23 rfl ?_
      refine j_imul dX2_timeAt_24 ?_
      refine j_iload_n dX2_timeAt_25 rfl ?_
      refine j_iadd dX2_timeAt_26 ?_
      refine t_aldB 8 (by decide) (n := 192) (sg.2 12) dX2_timeAt_27 rfl (Nat.le_of_ble_eq_true rfl) (oa12 (hT.2 12)) ⟨by omega, by omega⟩ (fun b27 => ?_)
      refine m_goto 42 dX2_timeAt_28 (by decide) ?_
      subst hQ; exact j_iret dX2_timeAt_42 rfl (by first | exact Or.inl ⟨by omega, rfl⟩ | exact Or.inr ⟨by omega, rfl, by first | rw [if_pos (by assumption)] | rw [if_neg (by assumption)]⟩)
  · refine mw_tov (b := ovr sg [(0, 1)] []) (by rw [if_pos c6]) ?_
    refine j_iconst dX2_timeAt_9 ?_
    refine m_goto 42 dX2_timeAt_10 (by decide) ?_
    subst hQ; exact j_iret dX2_timeAt_42 rfl (by first | exact Or.inl ⟨by omega, rfl⟩ | exact Or.inr ⟨by omega, rfl, by first | rw [if_pos (by assumption)] | rw [if_neg (by assumption)]⟩)
theorem c_erase (K : KT) (d : Nat) (h : MH) (m : Nat) (sg : TS) : Mt K yiX2_erase d [.ref m] (tov K h m sg) (Rz fun v h' => h' = tov K h m (ovr sg [(0, 0), (19, 0)] []) ∧ v = sg.1 19) := by
  refine mt_ofQ (by decide) (Nat.le_of_ble_eq_true rfl) (fun Q hQ => ?_)
  show MW K yiX2_erase d (tov K h m (ovr sg [] [])) 0 [some (.ref m), none] [] Q
  refine m_aload_n dX2_erase_0 rfl ?_
  refine j_iconst dX2_erase_1 ?_
  refine t_puti 0 (by decide) [(0, 0)] dX2_erase_2 q3093 rfl rfl rfl rfl ?_
  refine m_aload_n dX2_erase_5 rfl ?_
  refine t_geti 19 (by decide) (sg.1 19) dX2_erase_6 q3112 rfl ?_
  refine j_istore_n [some (.ref m), some (vi (sg.1 19))] dX2_erase_9 (by decide) rfl rfl ?_
  refine m_aload_n dX2_erase_10 rfl ?_
  refine j_iconst dX2_erase_11 ?_
  refine t_puti 19 (by decide) [(0, 0), (19, 0)] dX2_erase_12 q3112 rfl rfl rfl rfl ?_
  refine j_iload_n dX2_erase_15 rfl ?_
  subst hQ; exact j_iret dX2_erase_16 rfl (⟨rfl, rfl⟩)
theorem c_onTime (K : KT) (d : Nat) (h : MH) (m : Nat) (sg : TS) : Mt K yiX2_onTime d [.ref m] (tov K h m sg) (Rz fun v h' => h' = tov K h m (ovr sg [(0, 0), (14, 0)] []) ∧ v = sg.1 14) := by
  refine mt_ofQ (by decide) (Nat.le_of_ble_eq_true rfl) (fun Q hQ => ?_)
  show MW K yiX2_onTime d (tov K h m (ovr sg [] [])) 0 [some (.ref m), none] [] Q
  refine m_aload_n dX2_onTime_0 rfl ?_
  refine j_iconst dX2_onTime_1 ?_
  refine t_puti 0 (by decide) [(0, 0)] dX2_onTime_2 q3093 rfl rfl rfl rfl ?_
  refine m_aload_n dX2_onTime_5 rfl ?_
  refine t_geti 14 (by decide) (sg.1 14) dX2_onTime_6 q3107 rfl ?_
  refine j_istore_n [some (.ref m), some (vi (sg.1 14))] dX2_onTime_9 (by decide) rfl rfl ?_
  refine m_aload_n dX2_onTime_10 rfl ?_
  refine j_iconst dX2_onTime_11 ?_
  refine t_puti 14 (by decide) [(0, 0), (14, 0)] dX2_onTime_12 q3107 rfl rfl rfl rfl ?_
  refine j_iload_n dX2_onTime_15 rfl ?_
  subst hQ; exact j_iret dX2_onTime_16 rfl (⟨rfl, rfl⟩)
theorem c_dropWishes (K : KT) (d : Nat) (h : MH) (m : Nat) (sg : TS) : Mt K yiX2_dropWishes d [.ref m] (tov K h m sg) (Rz fun v h' => h' = tov K h m (ovr sg [(0, 0), (36, 0)] []) ∧ v = sg.1 36) := by
  refine mt_ofQ (by decide) (Nat.le_of_ble_eq_true rfl) (fun Q hQ => ?_)
  show MW K yiX2_dropWishes d (tov K h m (ovr sg [] [])) 0 [some (.ref m), none] [] Q
  refine m_aload_n dX2_dropWishes_0 rfl ?_
  refine j_iconst dX2_dropWishes_1 ?_
  refine t_puti 0 (by decide) [(0, 0)] dX2_dropWishes_2 q3093 rfl rfl rfl rfl ?_
  refine m_aload_n dX2_dropWishes_5 rfl ?_
  refine t_geti 36 (by decide) (sg.1 36) dX2_dropWishes_6 q3129 rfl ?_
  refine j_istore_n [some (.ref m), some (vi (sg.1 36))] dX2_dropWishes_9 (by decide) rfl rfl ?_
  refine m_aload_n dX2_dropWishes_10 rfl ?_
  refine j_iconst dX2_dropWishes_11 ?_
  refine t_puti 36 (by decide) [(0, 0), (36, 0)] dX2_dropWishes_12 q3129 rfl rfl rfl rfl ?_
  refine j_iload_n dX2_dropWishes_15 rfl ?_
  subst hQ; exact j_iret dX2_dropWishes_16 rfl (⟨rfl, rfl⟩)
theorem c_type (K : KT) (d : Nat) (h : MH) (m : Nat) (sg : TS) (c : Int) (hd : 2 ≤ d) (hT : TB sg) : Mt K yiX2_type d [.ref m, vi c] (tov K h m sg) (Rz fun v h' => (sg.1 19 = 80 ∧ h' = tov K h m (ovr sg [(0, 1)] [])) ∨ (sg.1 19 < 80 ∧ h' = tov K h m (ovr sg [(0, 0), (19, sg.1 19 + 1)] [(20, upz (sg.2 20) (sg.1 19) c)]) ∧ v = sg.1 19 + 1)) := by
  refine mt_ofQ (by decide) (Nat.le_of_ble_eq_true rfl) (fun Q hQ => ?_)
  show MW K yiX2_type d (tov K h m (ovr sg [] [])) 0 [some (.ref m), some (vi c)] [] Q
  have f19 := of19 (hT.1 19)
  refine m_aload_n dX2_type_0 rfl ?_
  refine m_aload_n dX2_type_1 rfl ?_
  refine t_geti 19 (by decide) (sg.1 19) dX2_type_2 q3112 rfl ?_
  refine j_bipush dX2_type_5 (by decide) ?_
  refine j_icmp_ne 14 dX2_type_7 (by decide) ⟨⟨by omega, by omega⟩, ⟨by omega, by omega⟩⟩ (fun c7 => ?_) (fun c7 => ?_)
  · refine j_iconst dX2_type_14 ?_
    refine j_iconst dX2_type_15 ?_
    refine t_inv [(vi 0), (vi 1)] dX2_type_16 q3256 q3258 qs76 q3259 rfl (c_isThrown0 K 0 h m _ _) pdX2_isThrown ⟨Nat.le_of_ble_eq_true rfl, by decide, by omega⟩ (kk_z fun r16 h16 q16 => ?_) kx_z
    obtain ⟨rfl, rfl⟩ := q16
    refine mw_tov (b := ovr sg [(0, 0)] []) (ovr_ovr _ _ _ _ _) ?_
    refine j_if_eq 24 dX2_type_19 (by decide) ⟨by decide, by decide⟩ (fun _ => ?_) (fun c => absurd c (by decide))
    refine m_aload_n dX2_type_24 rfl ?_
    refine t_geta 20 14 (by decide) dX2_type_25 q3113 rfl ?_
    refine m_aload_n dX2_type_28 rfl ?_
    refine t_geti 19 (by decide) (sg.1 19) dX2_type_29 q3112 rfl ?_
    refine j_iload_n dX2_type_32 rfl ?_
    refine t_ast 14 (by decide) (n := 80) (sg.2 20) [(20, (upz (sg.2 20) (sg.1 19) c))] dX2_type_33 rfl (Nat.le_of_ble_eq_true rfl) ⟨by omega, by omega⟩ rfl rfl ?_
    refine m_aload_n dX2_type_34 rfl ?_
    refine m_dup dX2_type_35 rfl ?_
    refine t_geti 19 (by decide) (sg.1 19) dX2_type_36 q3112 rfl ?_
    refine j_iconst dX2_type_39 ?_
    refine j_iadd dX2_type_40 ?_
    refine t_puti 19 (by decide) [(0, 0), (19, ((sg.1 19) + 1))] dX2_type_41 q3112 rfl rfl rfl rfl ?_
    refine m_aload_n dX2_type_44 rfl ?_
    refine t_geti 19 (by decide) ((sg.1 19) + 1) dX2_type_45 q3112 rfl ?_
    subst hQ; exact j_iret dX2_type_48 rfl (by first | exact Or.inl ⟨by omega, rfl⟩ | exact Or.inr ⟨by omega, rfl, by omega⟩)
  · refine j_iconst dX2_type_10 ?_
    refine m_goto 15 dX2_type_11 (by decide) ?_
    refine j_iconst dX2_type_15 ?_
    refine t_inv [(vi 1), (vi 1)] dX2_type_16 q3256 q3258 qs76 q3259 rfl (c_isThrown1 K 0 h m _ _) pdX2_isThrown ⟨Nat.le_of_ble_eq_true rfl, by decide, by omega⟩ (kk_z fun r16 h16 q16 => ?_) kx_z
    obtain ⟨rfl, rfl⟩ := q16
    refine mw_tov (b := ovr sg [(0, 1)] []) (ovr_ovr _ _ _ _ _) ?_
    refine j_if_eq 24 dX2_type_19 (by decide) ⟨by decide, by decide⟩ (fun c => absurd c (by decide)) (fun _ => ?_)
    refine j_iconst dX2_type_22 ?_
    subst hQ; exact j_iret dX2_type_23 rfl (by first | exact Or.inl ⟨by omega, rfl⟩ | exact Or.inr ⟨by omega, rfl, by omega⟩)
theorem c_faultAt (K : KT) (d : Nat) (h : MH) (m : Nat) (sg : TS) (hd : 2 ≤ d) (hT : TB sg) : Mt K yiX2_faultAt d [.ref m] (tov K h m sg) (Rz fun v h' => (sg.1 21 = -1 ∧ h' = tov K h m (ovr sg [(0, 1)] [])) ∨ (sg.1 21 ≠ -1 ∧ h' = tov K h m (ovr sg [(0, 0)] []) ∧ v = sg.1 21)) := by
  refine mt_ofQ (by decide) (Nat.le_of_ble_eq_true rfl) (fun Q hQ => ?_)
  show MW K yiX2_faultAt d (tov K h m (ovr sg [] [])) 0 [some (.ref m)] [] Q
  have f21 := of21 (hT.1 21)
  refine m_aload_n dX2_faultAt_0 rfl ?_
  refine m_aload_n dX2_faultAt_1 rfl ?_
  refine t_geti 21 (by decide) (sg.1 21) dX2_faultAt_2 q3114 rfl ?_
  refine j_iconst dX2_faultAt_5 ?_
  refine j_icmp_ne 13 dX2_faultAt_6 (by decide) ⟨⟨by omega, by omega⟩, ⟨by omega, by omega⟩⟩ (fun c6 => ?_) (fun c6 => ?_)
  · refine j_iconst dX2_faultAt_13 ?_
    refine j_iconst dX2_faultAt_14 ?_
    refine t_inv [(vi 0), (vi 1)] dX2_faultAt_15 q3256 q3258 qs76 q3259 rfl (c_isThrown0 K 0 h m _ _) pdX2_isThrown ⟨Nat.le_of_ble_eq_true rfl, by decide, by omega⟩ (kk_z fun r15 h15 q15 => ?_) kx_z
    obtain ⟨rfl, rfl⟩ := q15
    refine mw_tov (b := ovr sg [(0, 0)] []) (ovr_ovr _ _ _ _ _) ?_
    refine j_if_eq 25 dX2_faultAt_18 (by decide) ⟨by decide, by decide⟩ (fun _ => ?_) (fun c => absurd c (by decide))
    refine m_aload_n dX2_faultAt_25 rfl ?_
    refine t_geti 21 (by decide) (sg.1 21) dX2_faultAt_26 q3114 rfl ?_
    subst hQ; exact j_iret dX2_faultAt_29 rfl (by first | exact Or.inl ⟨by omega, rfl⟩ | exact Or.inr ⟨by omega, rfl, rfl⟩)
  · refine j_iconst dX2_faultAt_9 ?_
    refine m_goto 14 dX2_faultAt_10 (by decide) ?_
    refine j_iconst dX2_faultAt_14 ?_
    refine t_inv [(vi 1), (vi 1)] dX2_faultAt_15 q3256 q3258 qs76 q3259 rfl (c_isThrown1 K 0 h m _ _) pdX2_isThrown ⟨Nat.le_of_ble_eq_true rfl, by decide, by omega⟩ (kk_z fun r15 h15 q15 => ?_) kx_z
    obtain ⟨rfl, rfl⟩ := q15
    refine mw_tov (b := ovr sg [(0, 1)] []) (ovr_ovr _ _ _ _ _) ?_
    refine j_if_eq 25 dX2_faultAt_18 (by decide) ⟨by decide, by decide⟩ (fun c => absurd c (by decide)) (fun _ => ?_)
    refine j_iconst dX2_faultAt_21 ?_
    refine m_goto 29 dX2_faultAt_22 (by decide) ?_
    subst hQ; exact j_iret dX2_faultAt_29 rfl (by first | exact Or.inl ⟨by omega, rfl⟩ | exact Or.inr ⟨by omega, rfl, rfl⟩)
theorem c_lateness (K : KT) (d : Nat) (h : MH) (m : Nat) (sg : TS) (y t c : Int) (hd : 3 ≤ d) (hT : TB sg) (h1 : In t) (h2 : In c) (h3 : In y) : Mt K yiX2_lateness d [.ref m, vi y, vi t, vi c] (tov K h m sg) (Rz fun v h' => (¬ ((0 ≤ t ∧ t ≤ sg.1 8 - 1) ∧ (0 ≤ c ∧ c ≤ sg.2 10 t - 1)) ∧ h' = tov K h m (ovr sg [(0, 1)] [])) ∨ (((0 ≤ t ∧ t ≤ sg.1 8 - 1) ∧ (0 ≤ c ∧ c ≤ sg.2 10 t - 1)) ∧ ¬ (0 ≤ y ∧ y ≤ 27) ∧ h' = tov K h m (ovr sg [(0, 2)] [])) ∨ (((0 ≤ t ∧ t ≤ sg.1 8 - 1) ∧ (0 ≤ c ∧ c ≤ sg.2 10 t - 1)) ∧ (0 ≤ y ∧ y ≤ 27) ∧ h' = tov K h m (ovr sg [(0, 0)] []) ∧ v = latOf sg y t c)) := by
  have := h1.1; have := h1.2; have := h2.1; have := h2.2; have := h3.1; have := h3.2; have f8 := of8 (hT.1 8); have b10 := oa10 (hT.2 10) t
  refine mt_ofQ (by decide) (Nat.le_of_ble_eq_true rfl) (fun Q hQ => ?_)
  show MW K yiX2_lateness d (tov K h m (ovr sg [] [])) 0 [some (.ref m), some (vi y), some (vi t), some (vi c)] [] Q
  refine m_aload_n dX2_lateness_0 rfl ?_
  refine j_iload_n dX2_lateness_1 rfl ?_
  refine j_iload_n dX2_lateness_2 rfl ?_
  refine t_inv [(vi t), (vi c)] dX2_lateness_3 q3337 q3339 qs83 q3340 rfl (c_isNoCall K 2 h m _ _ _ (by omega) hT ⟨by omega, by omega⟩ ⟨by omega, by omega⟩) pdX2_isNoCall ⟨Nat.le_of_ble_eq_true rfl, by decide, by omega⟩ (kk_z fun r3 h3 q3 => ?_) kx_z
  obtain ⟨rfl, rfl⟩ := q3
  refine mw_tov (b := ovr sg [(0, (if ¬ (0 ≤ t ∧ t ≤ (sg.1 8) - 1) ∨ ¬ (0 ≤ c ∧ c ≤ (sg.2 10) t - 1) then 1 else 0))] []) (ovr_ovr _ _ _ _ _) ?_
  refine mw_top (x' := bz (¬ (0 ≤ t ∧ t ≤ (sg.1 8) - 1) ∨ ¬ (0 ≤ c ∧ c ≤ (sg.2 10) t - 1))) rfl ?_
  refine j_bz_ne 18 dX2_lateness_6 (by decide) (fun c6 => ?_) (fun c6 => ?_)
  · refine mw_tov (b := ovr sg [(0, 1)] []) (by rw [if_pos c6]) ?_
    refine j_iconst dX2_lateness_18 ?_
    refine m_goto 29 dX2_lateness_19 (by decide) ?_
    subst hQ; exact j_iret dX2_lateness_29 rfl (by first | exact Or.inl ⟨by omega, rfl⟩ | exact Or.inr (Or.inl ⟨by omega, by omega, rfl⟩) | exact Or.inr (Or.inr ⟨by omega, by omega, rfl, rfl⟩))
  · refine mw_tov (b := ovr sg [(0, 0)] []) (by rw [if_neg c6]) ?_
    refine m_aload_n dX2_lateness_9 rfl ?_
    refine j_iload_n dX2_lateness_10 rfl ?_
    refine j_iconst dX2_lateness_11 ?_
    refine t_inv [(vi y), (vi 2)] dX2_lateness_12 q3297 q3299 qs80 q3300 rfl (c_isNoDay K 1 h m _ _ _ (by omega) ⟨by omega, by omega⟩) pdX2_isNoDay ⟨Nat.le_of_ble_eq_true rfl, by decide, by omega⟩ (kk_z fun r12 h12 q12 => ?_) kx_z
    obtain ⟨rfl, rfl⟩ := q12
    refine mw_tov (b := ovr sg [(0, (if ¬ (0 ≤ y ∧ y ≤ 27) then 2 else 0))] []) (ovr_ovr _ _ _ _ _) ?_
    refine mw_top (x' := bz (¬ (0 ≤ y ∧ y ≤ 27))) rfl ?_
    refine j_bz_eq 22 dX2_lateness_15 (by decide) (fun c15 => ?_) (fun c15 => ?_)
    · refine mw_tov (b := ovr sg [(0, 0)] []) (by rw [if_neg c15]) ?_
      refine m_aload_n dX2_lateness_22 rfl ?_
      refine j_iload_n dX2_lateness_23 rfl ?_
      refine j_iload_n dX2_lateness_24 rfl ?_
      refine j_iload_n dX2_lateness_25 rfl ?_
      refine t_inv [(vi y), (vi t), (vi c)] dX2_lateness_26 q3401 q3403 qs90 q3404 rfl (c_lateOf K 1 h m _ _ _ _ (by omega) (hT.ovr (fa1 (mf0 (v := 0) ⟨by first | decide | omega | (split <;> omega) | assumption, by first | decide | omega | (split <;> omega) | assumption⟩) fa0) fa0) ⟨by omega, by omega⟩ ⟨by omega, by omega⟩ ⟨by omega, by omega⟩) pdX2_lateOf ⟨Nat.le_of_ble_eq_true rfl, by decide, by omega⟩ (kk_z fun r26 h26 q26 => ?_) kx_z
      obtain ⟨rfl, rfl⟩ := q26
      refine mw_top (x' := latOf sg y t c) rfl ?_
      subst hQ; exact j_iret dX2_lateness_29 rfl (by first | exact Or.inl ⟨by omega, rfl⟩ | exact Or.inr (Or.inl ⟨by omega, by omega, rfl⟩) | exact Or.inr (Or.inr ⟨by omega, by omega, rfl, rfl⟩))
    · refine mw_tov (b := ovr sg [(0, 2)] []) (by rw [if_pos c15]) ?_
      refine j_iconst dX2_lateness_18 ?_
      refine m_goto 29 dX2_lateness_19 (by decide) ?_
      subst hQ; exact j_iret dX2_lateness_29 rfl (by first | exact Or.inl ⟨by omega, rfl⟩ | exact Or.inr (Or.inl ⟨by omega, by omega, rfl⟩) | exact Or.inr (Or.inr ⟨by omega, by omega, rfl, rfl⟩))
