/-! the twin: lost, bridges, gains, loses -/
theorem RcB_te {a b : TS} (h : tt a = tt b) {x y : Int} : RcB a x y ↔ RcB b x y := by
  unfold RcB ArB; rw [EvI_te h, te_1 h, te_4 h]
theorem cB_cg {p q : Int → Prop} (n : Nat) (h : ∀ b : Nat, b < n → (p (b : Int) ↔ q (b : Int))) : cB p n = cB q n := by
  induction n with
  | zero => rfl
  | succ n ih =>
    unfold cB
    rw [ih (fun b hb => h b (by omega))]
    by_cases e : p (n : Int)
    · rw [if_pos e, if_pos ((h n (by omega)).mp e)]
    · rw [if_neg e, if_neg (fun g => e ((h n (by omega)).mpr g))]
theorem cA_cg {p q : Int → Int → Prop} (n m : Nat) (h : ∀ a b : Nat, a < m → b < n → (p (a : Int) (b : Int) ↔ q (a : Int) (b : Int))) : cA p n m = cA q n m := by
  induction m with
  | zero => rfl
  | succ m ih =>
    unfold cA
    rw [ih (fun a b ha hb => h a b (by omega) hb), cB_cg n (fun b hb => h m b (by omega) hb)]
theorem lostP_te {a b : TS} {day s x y : Int} (h1 : tt (sd a day) = tt (sd b day)) (h2 : tt (sd (cutS a s) day) = tt (sd (cutS b s) day)) : lostP a day s x y ↔ lostP b day s x y := by
  unfold lostP; rw [RcB_te h1, RcB_te h2]
theorem c_lost (K : KT) (d : Nat) (h : MH) (m : Nat) (sg : TS) (s day : Int) (hd : 8 ≤ d) (hF : WF sg) (hW : WayOk sg) (hcut : sg.1 5 = -1) (h1 : In s) (h2 : In day) : Mt K yiX2_lost d [.ref m, vi s, vi day] (tov K h m sg) (Rz (Qy K h m sg (fun th v => (¬ (0 ≤ s ∧ s ≤ sg.1 1 - 1) ∧ th = 1) ∨ ((0 ≤ s ∧ s ≤ sg.1 1 - 1) ∧ ¬ (0 ≤ day ∧ day ≤ 27) ∧ th = 2) ∨ ((0 ≤ s ∧ s ≤ sg.1 1 - 1) ∧ (0 ≤ day ∧ day ≤ 27) ∧ th = 0 ∧ v = cA (lostP sg day s) (sg.1 1).toNat (sg.1 1).toNat)))) := by
  have hT := hF.1
  have := h1.1; have := h1.2; have := h2.1; have := h2.2; have f1 := of1 (hT.1 1)
  refine mt_ofQ (by decide) (Nat.le_of_ble_eq_true rfl) (fun Q hQ => ?_)
  show MW K yiX2_lost d (tov K h m (ovr sg [] [])) 0 [some (.ref m), some (vi s), some (vi day)] [] Q
  refine m_aload_n dX2_lost_0 rfl ?_
  refine j_iload_n dX2_lost_1 rfl ?_
  refine t_inv [(vi s)] dX2_lost_2 q3269 q3271 qs78 q3272 rfl (c_isNoStop K 1 h m _ _ (by omega) (hT.1 1) ⟨by omega, by omega⟩) pdX2_isNoStop ⟨Nat.le_of_ble_eq_true rfl, by decide, by omega⟩ (kk_z fun r2 h2 q2 => ?_) kx_z
  obtain ⟨rfl, rfl⟩ := q2
  refine mw_tov (b := ovr sg [(0, (if ¬ (0 ≤ s ∧ s ≤ (sg.1 1) - 1) then 1 else 0))] []) (ovr_ovr _ _ _ _ _) ?_
  refine mw_top (x' := bz (¬ (0 ≤ s ∧ s ≤ (sg.1 1) - 1))) rfl ?_
  refine j_bz_ne 17 dX2_lost_5 (by decide) (fun c5 => ?_) (fun c5 => ?_)
  · refine mw_tov (b := ovr sg [(0, 1)] []) (by rw [if_pos c5]) ?_
    refine j_iconst dX2_lost_17 ?_
    refine m_goto 27 dX2_lost_18 (by decide) ?_
    subst hQ; exact j_iret dX2_lost_27 rfl (by first | exact ⟨_, rfl, (Scr.ovr sg rfl rfl), (hT.ovr (fa1 (mf0 (v := 1) ⟨by first | decide | omega | (split <;> omega) | assumption, by first | decide | omega | (split <;> omega) | assumption⟩) fa0) fa0), Or.inl ⟨by omega, rfl⟩⟩ | exact ⟨_, rfl, (Scr.ovr sg rfl rfl), (hT.ovr (fa1 (mf0 (v := 1) ⟨by first | decide | omega | (split <;> omega) | assumption, by first | decide | omega | (split <;> omega) | assumption⟩) fa0) fa0), Or.inr (Or.inl ⟨by omega, by omega, rfl⟩)⟩ | exact ⟨_, rfl, (Scr.ovr sg rfl rfl), (hT.ovr (fa1 (mf0 (v := 1) ⟨by first | decide | omega | (split <;> omega) | assumption, by first | decide | omega | (split <;> omega) | assumption⟩) fa0) fa0), Or.inr (Or.inr ⟨by omega, by omega, rfl, z24.trans (cA_cg _ _ (fun a b _ _ => lostP_te (a := ovr sg [(0, 0)] []) (b := sg) rfl rfl))⟩)⟩)
  · refine mw_tov (b := ovr sg [(0, 0)] []) (by rw [if_neg c5]) ?_
    refine m_aload_n dX2_lost_8 rfl ?_
    refine j_iload_n dX2_lost_9 rfl ?_
    refine j_iconst dX2_lost_10 ?_
    refine t_inv [(vi day), (vi 2)] dX2_lost_11 q3297 q3299 qs80 q3300 rfl (c_isNoDay K 1 h m _ _ _ (by omega) ⟨by omega, by omega⟩) pdX2_isNoDay ⟨Nat.le_of_ble_eq_true rfl, by decide, by omega⟩ (kk_z fun r11 h11 q11 => ?_) kx_z
    obtain ⟨rfl, rfl⟩ := q11
    refine mw_tov (b := ovr sg [(0, (if ¬ (0 ≤ day ∧ day ≤ 27) then 2 else 0))] []) (ovr_ovr _ _ _ _ _) ?_
    refine mw_top (x' := bz (¬ (0 ≤ day ∧ day ≤ 27))) rfl ?_
    refine j_bz_eq 21 dX2_lost_14 (by decide) (fun c14 => ?_) (fun c14 => ?_)
    · refine mw_tov (b := ovr sg [(0, 0)] []) (by rw [if_neg c14]) ?_
      refine m_aload_n dX2_lost_21 rfl ?_
      refine j_iload_n dX2_lost_22 rfl ?_
      refine j_iload_n dX2_lost_23 rfl ?_
      refine t_inv [(vi s), (vi day)] dX2_lost_24 q3594 q3596 qs118 q3597 rfl (c_lostBy K 7 h m _ _ _ (by omega) ⟨(hT.ovr (fa1 (mf0 (v := 0) ⟨by first | decide | omega | (split <;> omega) | assumption, by first | decide | omega | (split <;> omega) | assumption⟩) fa0) fa0), hF.2.1, hF.2.2.1, hF.2.2.2⟩ hW hcut ⟨by omega, show s < (sg.1 1) by omega⟩ ⟨by omega, by omega⟩) pdX2_lostBy ⟨Nat.le_of_ble_eq_true rfl, by decide, by omega⟩ (kk_z fun r24 h24 q24 => ?_) kx_z
      obtain ⟨x24, y24, f24, rr24, B24, rfl, g24, i24, o24, p24, u24, v24, z24⟩ := q24
      refine mw_tov (b := ovr sg [(0, 0), (22, x24), (25, y24)] [(23, f24), (24, rr24), (43, B24)]) (ovr_ovr _ _ _ _ _) ?_
      subst hQ; exact j_iret dX2_lost_27 rfl (by first | exact ⟨_, rfl, (Scr.ovr sg rfl rfl), (hT.ovr (fa1 (mf0 (v := 0) ⟨by first | decide | omega | (split <;> omega) | assumption, by first | decide | omega | (split <;> omega) | assumption⟩) (fa1 (mf22 (v := x24) ⟨by first | decide | omega | (split <;> omega) | assumption, by first | decide | omega | (split <;> omega) | assumption⟩) (fa1 (mf25 (v := y24) ⟨by first | decide | omega | (split <;> omega) | assumption, by first | decide | omega | (split <;> omega) | assumption⟩) fa0))) (fa1 o24 (fa1 p24 (fa1 u24 fa0)))), Or.inl ⟨by omega, rfl⟩⟩ | exact ⟨_, rfl, (Scr.ovr sg rfl rfl), (hT.ovr (fa1 (mf0 (v := 0) ⟨by first | decide | omega | (split <;> omega) | assumption, by first | decide | omega | (split <;> omega) | assumption⟩) (fa1 (mf22 (v := x24) ⟨by first | decide | omega | (split <;> omega) | assumption, by first | decide | omega | (split <;> omega) | assumption⟩) (fa1 (mf25 (v := y24) ⟨by first | decide | omega | (split <;> omega) | assumption, by first | decide | omega | (split <;> omega) | assumption⟩) fa0))) (fa1 o24 (fa1 p24 (fa1 u24 fa0)))), Or.inr (Or.inl ⟨by omega, by omega, rfl⟩)⟩ | exact ⟨_, rfl, (Scr.ovr sg rfl rfl), (hT.ovr (fa1 (mf0 (v := 0) ⟨by first | decide | omega | (split <;> omega) | assumption, by first | decide | omega | (split <;> omega) | assumption⟩) (fa1 (mf22 (v := x24) ⟨by first | decide | omega | (split <;> omega) | assumption, by first | decide | omega | (split <;> omega) | assumption⟩) (fa1 (mf25 (v := y24) ⟨by first | decide | omega | (split <;> omega) | assumption, by first | decide | omega | (split <;> omega) | assumption⟩) fa0))) (fa1 o24 (fa1 p24 (fa1 u24 fa0)))), Or.inr (Or.inr ⟨by omega, by omega, rfl, z24.trans (cA_cg _ _ (fun a b _ _ => lostP_te (a := ovr sg [(0, 0)] []) (b := sg) rfl rfl))⟩)⟩)
    · refine mw_tov (b := ovr sg [(0, 2)] []) (by rw [if_pos c14]) ?_
      refine j_iconst dX2_lost_17 ?_
      refine m_goto 27 dX2_lost_18 (by decide) ?_
      subst hQ; exact j_iret dX2_lost_27 rfl (by first | exact ⟨_, rfl, (Scr.ovr sg rfl rfl), (hT.ovr (fa1 (mf0 (v := 2) ⟨by first | decide | omega | (split <;> omega) | assumption, by first | decide | omega | (split <;> omega) | assumption⟩) fa0) fa0), Or.inl ⟨by omega, rfl⟩⟩ | exact ⟨_, rfl, (Scr.ovr sg rfl rfl), (hT.ovr (fa1 (mf0 (v := 2) ⟨by first | decide | omega | (split <;> omega) | assumption, by first | decide | omega | (split <;> omega) | assumption⟩) fa0) fa0), Or.inr (Or.inl ⟨by omega, by omega, rfl⟩)⟩ | exact ⟨_, rfl, (Scr.ovr sg rfl rfl), (hT.ovr (fa1 (mf0 (v := 2) ⟨by first | decide | omega | (split <;> omega) | assumption, by first | decide | omega | (split <;> omega) | assumption⟩) fa0) fa0), Or.inr (Or.inr ⟨by omega, by omega, rfl, z24.trans (cA_cg _ _ (fun a b _ _ => lostP_te (a := ovr sg [(0, 0)] []) (b := sg) rfl rfl))⟩)⟩)
theorem c_bridges (K : KT) (d : Nat) (h : MH) (m : Nat) (sg : TS) (day : Int) (hd : 8 ≤ d) (hF : WF sg) (hW : WayOk sg) (hcut : sg.1 5 = -1) (h2 : In day) : Mt K yiX2_bridges d [.ref m, vi day] (tov K h m sg) (Rz (Qy K h m sg (fun th v => (¬ (0 ≤ day ∧ day ≤ 27) ∧ th = 1) ∨ ((0 ≤ day ∧ day ≤ 27) ∧ th = 0 ∧ v = mskE (fun s => - cA (lostP sg day s) (sg.1 1).toNat (sg.1 1).toNat) 0 (sg.1 1).toNat)))) := by
  have hT := hF.1
  have := h2.1; have := h2.2; have f1 := of1 (hT.1 1)
  refine mt_ofQ (by decide) (Nat.le_of_ble_eq_true rfl) (fun Q hQ => ?_)
  show MW K yiX2_bridges d (tov K h m (ovr sg [] [])) 0 [some (.ref m), some (vi day), none, none] [] Q
  have f1 := of1 (hT.1 1)
  refine m_aload_n dX2_bridges_0 rfl ?_
  refine j_iload_n dX2_bridges_1 rfl ?_
  refine j_iconst dX2_bridges_2 ?_
  refine t_inv [(vi day), (vi 1)] dX2_bridges_3 q3297 q3299 qs80 q3300 rfl (c_isNoDay K 1 h m _ _ _ (by omega) ⟨by omega, by omega⟩) pdX2_isNoDay ⟨Nat.le_of_ble_eq_true rfl, by decide, by omega⟩ (kk_z fun r3 h3 q3 => ?_) kx_z
  obtain ⟨rfl, rfl⟩ := q3
  refine mw_tov (b := ovr sg [(0, (if ¬ (0 ≤ day ∧ day ≤ 27) then 1 else 0))] []) (ovr_ovr _ _ _ _ _) ?_
  refine mw_top (x' := bz (¬ (0 ≤ day ∧ day ≤ 27))) rfl ?_
  refine j_bz_eq 11 dX2_bridges_6 (by decide) (fun c6 => ?_) (fun c6 => ?_)
  · refine mw_tov (b := ovr sg [(0, 0)] []) (by rw [if_neg c6]) ?_
    refine j_iconst dX2_bridges_11 ?_
    refine j_istore_n [some (.ref m), some (vi day), some (vi 0), none] dX2_bridges_12 (by decide) rfl rfl ?_
    refine j_iconst dX2_bridges_13 ?_
    refine j_istore_n [some (.ref m), some (vi day), some (vi 0), some (vi 0)] dX2_bridges_14 (by decide) rfl rfl ?_
    have L15 : ∀ (N : Nat) (st k x y : Int) (f r B : Int → Int), (12 - k).toNat = N → (0 ≤ k ∧ k ≤ sg.1 1) → ((0 ≤ x ∧ x ≤ 27) ∧ (y = 0 ∨ y = 1)) → (okA 23 f ∧ okA 24 r ∧ okA 43 B) → (st = mskE (fun s => - cA (lostP sg day s) (sg.1 1).toNat (sg.1 1).toNat) 0 k.toNat) → MW K yiX2_bridges d (tov K h m (ovr sg [(0, 0), (22, x), (25, y)] [(23, f), (24, r), (43, B)])) 15 [some (.ref m), some (vi day), some (vi st), some (vi k)] [] Q := by
      intro N
      induction N using Nat.strongRecOn with
      | _ N ih15 =>
      intro st k x y f r B hN15 hk hx ho hs
      refine j_iload_n dX2_bridges_15 rfl ?_
      refine m_aload_n dX2_bridges_16 rfl ?_
      refine t_geti 1 (by decide) (sg.1 1) dX2_bridges_17 q3094 rfl ?_
      refine j_icmp_ge 48 dX2_bridges_20 (by decide) ⟨⟨by omega, by omega⟩, ⟨by omega, by omega⟩⟩ (fun c20 => ?_) (fun c20 => ?_)
      · refine j_iload_n dX2_bridges_48 rfl ?_
        subst hQ; exact j_iret dX2_bridges_49 rfl (⟨_, rfl, (Scr.ovr sg rfl rfl), (hT.ovr (fa1 (mf0 (v := 0) ⟨by first | decide | omega | (split <;> omega) | assumption, by first | decide | omega | (split <;> omega) | assumption⟩) (fa1 (mf22 (v := x) ⟨by first | decide | omega | (split <;> omega) | assumption, by first | decide | omega | (split <;> omega) | assumption⟩) (fa1 (mf25 (v := y) ⟨by first | decide | omega | (split <;> omega) | assumption, by first | decide | omega | (split <;> omega) | assumption⟩) fa0))) (fa1 ho.1 (fa1 ho.2.1 (fa1 ho.2.2 fa0)))), Or.inr ⟨by omega, rfl, by rw [hs, show k = sg.1 1 by omega]⟩⟩)
      · refine j_iload_n dX2_bridges_23 rfl ?_
        refine m_aload_n dX2_bridges_24 rfl ?_
        refine j_iload_n dX2_bridges_25 rfl ?_
        refine j_iload_n dX2_bridges_26 rfl ?_
        refine t_inv [(vi k), (vi day)] dX2_bridges_27 q3594 q3596 qs118 q3597 rfl (c_lostBy K 7 h m _ _ _ (by omega) ⟨(hT.ovr (fa1 (mf0 (v := 0) ⟨by first | decide | omega | (split <;> omega) | assumption, by first | decide | omega | (split <;> omega) | assumption⟩) (fa1 (mf22 (v := x) ⟨by first | decide | omega | (split <;> omega) | assumption, by first | decide | omega | (split <;> omega) | assumption⟩) (fa1 (mf25 (v := y) ⟨by first | decide | omega | (split <;> omega) | assumption, by first | decide | omega | (split <;> omega) | assumption⟩) fa0))) (fa1 ho.1 (fa1 ho.2.1 (fa1 ho.2.2 fa0)))), hF.2.1, hF.2.2.1, hF.2.2.2⟩ hW hcut ⟨by omega, show k < (sg.1 1) by omega⟩ ⟨by omega, by omega⟩) pdX2_lostBy ⟨Nat.le_of_ble_eq_true rfl, by decide, by omega⟩ (kk_z fun r27 h27 q27 => ?_) kx_z
        obtain ⟨x27, y27, f27, rr27, B27, rfl, g27, i27, o27, p27, u27, v27, z27⟩ := q27
        refine mw_tov (b := ovr sg [(0, 0), (22, x27), (25, y27)] [(23, f27), (24, rr27), (43, B27)]) (ovr_ovr _ _ _ _ _) ?_
        have z27' : r27 = cA (lostP sg day k) (sg.1 1).toNat (sg.1 1).toNat := z27.trans (cA_cg _ _ (fun a b _ _ => lostP_te (a := ovr sg [(0, 0), (22, x), (25, y)] [(23, f), (24, r), (43, B)]) (b := sg) rfl rfl))
        refine j_if_le 39 dX2_bridges_30 (by decide) ⟨by omega, by omega⟩ (fun c30 => ?_) (fun c30 => ?_)
        · refine j_iconst dX2_bridges_39 ?_
          refine j_ior0 dX2_bridges_40 ?_
          refine j_istore_n [some (.ref m), some (vi day), some (vi st), some (vi k)] dX2_bridges_41 (by decide) rfl rfl ?_
          refine j_iinc [some (.ref m), some (vi day), some (vi st), some (vi (k + 1))] dX2_bridges_42 rfl (by decide) rfl rfl ?_
          refine m_goto 15 dX2_bridges_45 (by decide) ?_
          exact ih15 _ (by omega) _ _ _ _ _ _ _ rfl (by omega) ⟨g27, i27⟩ ⟨o27, p27, u27⟩ (by rw [mskE_s hk.1, hs]; first | rw [if_pos (show - cA (lostP sg day k) (sg.1 1).toNat (sg.1 1).toNat < 0 by omega)] | rw [if_neg (show ¬ - cA (lostP sg day k) (sg.1 1).toNat (sg.1 1).toNat < 0 by omega), Int.add_zero])
        · refine j_iconst dX2_bridges_33 ?_
          refine j_iload_n dX2_bridges_34 rfl ?_
          refine j_ishl1 dX2_bridges_35 ⟨by omega, by omega⟩ ?_
          refine m_goto 40 dX2_bridges_36 (by decide) ?_
          refine j_iorM dX2_bridges_40 (by exact ⟨by rw [hs]; exact mskE_b _ _ _, by omega⟩) ?_
          refine j_istore_n [some (.ref m), some (vi day), some (vi (st + (2 ^ k.toNat))), some (vi k)] dX2_bridges_41 (by decide) rfl rfl ?_
          refine j_iinc [some (.ref m), some (vi day), some (vi (st + (2 ^ k.toNat))), some (vi (k + 1))] dX2_bridges_42 rfl (by decide) rfl rfl ?_
          refine m_goto 15 dX2_bridges_45 (by decide) ?_
          exact ih15 _ (by omega) _ _ _ _ _ _ _ rfl (by omega) ⟨g27, i27⟩ ⟨o27, p27, u27⟩ (by rw [mskE_s hk.1, hs]; first | rw [if_pos (show - cA (lostP sg day k) (sg.1 1).toNat (sg.1 1).toNat < 0 by omega)] | rw [if_neg (show ¬ - cA (lostP sg day k) (sg.1 1).toNat (sg.1 1).toNat < 0 by omega), Int.add_zero])
    refine mw_tov (b := ovr sg [(0, 0)] [(23, (sg.2 23))]) (ovr_addA _ _ _ 23) ?_
    refine mw_tov (b := ovr sg [(0, 0)] [(23, (sg.2 23)), (24, (sg.2 24))]) (ovr_addA _ _ _ 24) ?_
    refine mw_tov (b := ovr sg [(0, 0)] [(23, (sg.2 23)), (24, (sg.2 24)), (43, (sg.2 43))]) (ovr_addA _ _ _ 43) ?_
    refine mw_tov (b := ovr sg [(0, 0), (22, (sg.1 22))] [(23, (sg.2 23)), (24, (sg.2 24)), (43, (sg.2 43))]) (ovr_addF _ _ _ 22) ?_
    refine mw_tov (b := ovr sg [(0, 0), (22, (sg.1 22)), (25, (sg.1 25))] [(23, (sg.2 23)), (24, (sg.2 24)), (43, (sg.2 43))]) (ovr_addF _ _ _ 25) ?_
    exact L15 _ _ _ _ _ _ _ _ rfl (by omega) ⟨of22 (hT.1 22), by have := of25 (hT.1 25); omega⟩ ⟨hT.2 23, hT.2 24, hT.2 43⟩ rfl
  · refine mw_tov (b := ovr sg [(0, 1)] []) (by rw [if_pos c6]) ?_
    refine j_iconst dX2_bridges_9 ?_
    subst hQ; exact j_iret dX2_bridges_10 rfl (⟨_, rfl, (Scr.ovr sg rfl rfl), (hT.ovr (fa1 (mf0 (v := 1) ⟨by first | decide | omega | (split <;> omega) | assumption, by first | decide | omega | (split <;> omega) | assumption⟩) fa0) fa0), Or.inl ⟨by omega, rfl⟩⟩)
/-- the table with a trip moved -/
def mvS (sg : TS) (t mi : Int) : TS := ovr sg [] [(12, mvA (sg.2 12) t (sg.2 10 t) mi), (13, mvA (sg.2 13) t (sg.2 10 t) mi)]
theorem WF.mv {sg : TS} (hF : WF sg) {t mi : Int} (ht : 0 ≤ t ∧ t < sg.1 8) (hs : ∀ c, 0 ≤ c → c < sg.2 10 t → ¬ shB sg t mi c) : okA 12 (mvA (sg.2 12) t (sg.2 10 t) mi) ∧ okA 13 (mvA (sg.2 13) t (sg.2 10 t) mi) ∧ tmOk (mvS sg t mi) := by
  obtain ⟨hT, hS, hM, hW⟩ := hF
  have n8 := of8 (hT.1 8)
  have n10 := oa10 (hT.2 10) t ht.1 (by omega)
  have key : ∀ q, 8 * t ≤ q → q < 8 * t + sg.2 10 t → (0 ≤ sg.2 12 q + mi ∧ sg.2 12 q + mi ≤ 2879) ∧ (0 ≤ sg.2 13 q + mi ∧ sg.2 13 q + mi ≤ 2879) := fun q a b => by
    have := hs (q - 8 * t) (by omega) (by omega)
    unfold shB at this
    rw [show 8 * t + (q - 8 * t) = q by omega] at this
    omega
  refine ⟨fun q a b => ?_, fun q a b => ?_, fun t' c g1 g2 g3 g4 => ?_, fun t' c g1 g2 g3 g4 => ?_⟩
  · unfold mvA
    split
    · next e => exact (key q e.1 e.2).1
    · exact hT.2 12 q a b
  · unfold mvA
    split
    · next e => exact (key q e.1 e.2).2
    · exact hT.2 13 q a b
  · have z := hM.1 t' c g1 g2 g3 g4
    have n2 := oa10 (hT.2 10) t' g1 (by have : t' < sg.1 8 := g2; omega)
    have g4' : c + 1 < sg.2 10 t' := g4
    show mvA (sg.2 13) t (sg.2 10 t) mi (8 * t' + c) < mvA (sg.2 12) t (sg.2 10 t) mi (8 * t' + c + 1)
    unfold mvA
    by_cases e : t' = t
    · subst e; rw [if_pos (by omega), if_pos (by omega)]; omega
    · rw [if_neg (by omega), if_neg (by omega)]; exact z
  · have z := hM.2 t' c g1 g2 g3 g4
    have n2 := oa10 (hT.2 10) t' g1 (by have : t' < sg.1 8 := g2; omega)
    have g4' : c < sg.2 10 t' := g4
    show mvA (sg.2 12) t (sg.2 10 t) mi (8 * t' + c) ≤ mvA (sg.2 13) t (sg.2 10 t) mi (8 * t' + c)
    unfold mvA
    by_cases e : t' = t
    · subst e; rw [if_pos (by omega), if_pos (by omega)]; omega
    · rw [if_neg (by omega), if_neg (by omega)]; exact z
/-- one comes earlier by one table than by the other -/
def LtB (s1 s2 : TS) (mi a b : Int) : Prop := ∃ v v', EA s1 a mi b v ∧ EA s2 a mi b v' ∧ v < v'
theorem LtB_iff {s1 s2 : TS} {mi a b v v' : Int} (h1 : EA s1 a mi b v) (h2 : EA s2 a mi b v') : LtB s1 s2 mi a b ↔ v < v' :=
  ⟨fun ⟨w, w', g1, g2, g3⟩ => by have := g1.uniq h1; have := g2.uniq h2; omega, fun h => ⟨v, v', h1, h2, h⟩⟩
def othP (sg : TS) (t mn day mi : Int) (p : Prop) (a b : Int) : Prop := a ≠ b ∧ ((p ∧ LtB (sd (mvS sg t mn) day) (sd sg day) mi a b) ∨ (¬ p ∧ LtB (sd sg day) (sd (mvS sg t mn) day) mi a b))
theorem c_other (K : KT) (d : Nat) (h : MH) (m : Nat) (sg : TS) (t mn day mi : Int) (p : Prop) [Decidable p] (hd : 7 ≤ d) (hF : WF sg) (h1 : In t) (h2 : In mn) (h3 : In day) (h4 : In mi) : Mt K yiX2_other d [.ref m, vi t, vi mn, vi day, vi mi, vi (bz p)] (tov K h m sg) (Rz (Qy K h m sg (fun th v => (¬ (0 ≤ t ∧ t ≤ sg.1 8 - 1) ∧ th = 1) ∨ ((0 ≤ t ∧ t ≤ sg.1 8 - 1) ∧ (¬ ((-60 ≤ mn ∧ mn ≤ 60) ∧ (0 ≤ day ∧ day ≤ 27) ∧ 0 ≤ mi ∧ mi ≤ 1439) ∨ ∃ c, 0 ≤ c ∧ c < sg.2 10 t ∧ shB sg t mn c) ∧ th = 2) ∨ ((0 ≤ t ∧ t ≤ sg.1 8 - 1) ∧ (((-60 ≤ mn ∧ mn ≤ 60) ∧ (0 ≤ day ∧ day ≤ 27) ∧ 0 ≤ mi ∧ mi ≤ 1439) ∧ ∀ c, 0 ≤ c → c < sg.2 10 t → ¬ shB sg t mn c) ∧ th = 0 ∧ v = cA (othP sg t mn day mi p) (sg.1 1).toNat (sg.1 1).toNat)))) := by
  have hT := hF.1
  have := h1.1; have := h1.2; have := h2.1; have := h2.2; have := h3.1; have := h3.2; have := h4.1; have := h4.2; have f1' := of1 (hT.1 1); have f8' := of8 (hT.1 8)
  refine mt_ofQ (by decide) (Nat.le_of_ble_eq_true rfl) (fun Q hQ => ?_)
  show MW K yiX2_other d (tov K h m (ovr sg [] [])) 0 [some (.ref m), some (vi t), some (vi mn), some (vi day), some (vi mi), some (vi (bz p)), none, none, none, none, none] [] Q
  have f1 := of1 (hT.1 1)
  refine m_aload_n dX2_other_0 rfl ?_
  refine j_iload_n dX2_other_1 rfl ?_
  refine t_inv [(vi t)] dX2_other_2 q3321 q3323 qs82 q3324 rfl (c_isNoTrip K 1 h m _ _ (by omega) (hT.1 8) ⟨by omega, by omega⟩) pdX2_isNoTrip ⟨Nat.le_of_ble_eq_true rfl, by decide, by omega⟩ (kk_z fun r2 h2 q2 => ?_) kx_z
  obtain ⟨rfl, rfl⟩ := q2
  refine mw_tov (b := ovr sg [(0, (if ¬ (0 ≤ t ∧ t ≤ (sg.1 8) - 1) then 1 else 0))] []) (ovr_ovr _ _ _ _ _) ?_
  refine mw_top (x' := bz (¬ (0 ≤ t ∧ t ≤ (sg.1 8) - 1))) rfl ?_
  refine j_bz_ne 63 dX2_other_5 (by decide) (fun c5 => ?_) (fun c5 => ?_)
  · refine mw_tov (b := ovr sg [(0, 1)] []) (by rw [if_pos c5]) ?_
    refine j_iconst dX2_other_63 ?_
    subst hQ; exact j_iret dX2_other_64 rfl (⟨_, rfl, (Scr.ovr sg rfl rfl), (hT.ovr (fa1 (mf0 (v := 1) ⟨by first | decide | omega | (split <;> omega) | assumption, by first | decide | omega | (split <;> omega) | assumption⟩) fa0) fa0), by first | exact Or.inl ⟨by omega, rfl⟩ | exact Or.inr (Or.inl ⟨by omega, Or.inl (by omega), rfl⟩) | exact Or.inr (Or.inl ⟨by omega, Or.inr (y45.mp (by omega)), rfl⟩)⟩)
  · refine mw_tov (b := ovr sg [(0, 0)] []) (by rw [if_neg c5]) ?_
    refine m_aload_n dX2_other_8 rfl ?_
    refine j_iload_n dX2_other_9 rfl ?_
    refine j_bipush dX2_other_10 (by decide) ?_
    refine j_bipush dX2_other_12 (by decide) ?_
    refine m_invS [(vi mn), (vi (-60)), (vi 60)] dX2_other_14 q3253 q3254 q133 q3255 (c_isIn K 0 _ _ _ _ ⟨by omega, by omega⟩ ⟨by omega, by omega⟩ ⟨by omega, by omega⟩) pdX2_isIn ⟨Nat.le_of_ble_eq_true rfl, by decide, by omega⟩ (kk_z fun r14 h14 q14 => ?_) kx_z
    obtain ⟨rfl, rfl⟩ := q14
    refine mw_top (x' := bz ((-60) ≤ mn ∧ mn ≤ 60)) rfl ?_
    refine j_bz_eq 51 dX2_other_17 (by decide) (fun c17 => ?_) (fun c17 => ?_)
    · refine j_iconst dX2_other_51 ?_
      refine m_goto 56 dX2_other_52 (by decide) ?_
      refine j_iconst dX2_other_56 ?_
      refine t_inv [(vi 1), (vi 2)] dX2_other_57 q3256 q3258 qs76 q3259 rfl (c_isThrown1 K 0 h m _ _) pdX2_isThrown ⟨Nat.le_of_ble_eq_true rfl, by decide, by omega⟩ (kk_z fun r57 h57 q57 => ?_) kx_z
      obtain ⟨rfl, rfl⟩ := q57
      refine mw_tov (b := ovr sg [(0, 2)] []) (ovr_ovr _ _ _ _ _) ?_
      refine j_if_eq 65 dX2_other_60 (by decide) ⟨by decide, by decide⟩ (fun c => absurd c (by decide)) (fun _ => ?_)
      refine j_iconst dX2_other_63 ?_
      subst hQ; exact j_iret dX2_other_64 rfl (⟨_, rfl, (Scr.ovr sg rfl rfl), (hT.ovr (fa1 (mf0 (v := 2) ⟨by first | decide | omega | (split <;> omega) | assumption, by first | decide | omega | (split <;> omega) | assumption⟩) fa0) fa0), by first | exact Or.inl ⟨by omega, rfl⟩ | exact Or.inr (Or.inl ⟨by omega, Or.inl (by omega), rfl⟩) | exact Or.inr (Or.inl ⟨by omega, Or.inr (y45.mp (by omega)), rfl⟩)⟩)
    · refine j_iload_n dX2_other_20 rfl ?_
      refine j_iconst dX2_other_21 ?_
      refine j_bipush dX2_other_22 (by decide) ?_
      refine m_invS [(vi day), (vi 0), (vi 27)] dX2_other_24 q3253 q3254 q133 q3255 (c_isIn K 0 _ _ _ _ ⟨by omega, by omega⟩ ⟨by omega, by omega⟩ ⟨by omega, by omega⟩) pdX2_isIn ⟨Nat.le_of_ble_eq_true rfl, by decide, by omega⟩ (kk_z fun r24 h24 q24 => ?_) kx_z
      obtain ⟨rfl, rfl⟩ := q24
      refine mw_top (x' := bz (0 ≤ day ∧ day ≤ 27)) rfl ?_
      refine j_bz_eq 51 dX2_other_27 (by decide) (fun c27 => ?_) (fun c27 => ?_)
      · refine j_iconst dX2_other_51 ?_
        refine m_goto 56 dX2_other_52 (by decide) ?_
        refine j_iconst dX2_other_56 ?_
        refine t_inv [(vi 1), (vi 2)] dX2_other_57 q3256 q3258 qs76 q3259 rfl (c_isThrown1 K 0 h m _ _) pdX2_isThrown ⟨Nat.le_of_ble_eq_true rfl, by decide, by omega⟩ (kk_z fun r57 h57 q57 => ?_) kx_z
        obtain ⟨rfl, rfl⟩ := q57
        refine mw_tov (b := ovr sg [(0, 2)] []) (ovr_ovr _ _ _ _ _) ?_
        refine j_if_eq 65 dX2_other_60 (by decide) ⟨by decide, by decide⟩ (fun c => absurd c (by decide)) (fun _ => ?_)
        refine j_iconst dX2_other_63 ?_
        subst hQ; exact j_iret dX2_other_64 rfl (⟨_, rfl, (Scr.ovr sg rfl rfl), (hT.ovr (fa1 (mf0 (v := 2) ⟨by first | decide | omega | (split <;> omega) | assumption, by first | decide | omega | (split <;> omega) | assumption⟩) fa0) fa0), by first | exact Or.inl ⟨by omega, rfl⟩ | exact Or.inr (Or.inl ⟨by omega, Or.inl (by omega), rfl⟩) | exact Or.inr (Or.inl ⟨by omega, Or.inr (y45.mp (by omega)), rfl⟩)⟩)
      · refine j_iload dX2_other_30 rfl ?_
        refine j_iconst dX2_other_32 ?_
        refine j_sipush dX2_other_33 (by decide) ?_
        refine m_invS [(vi mi), (vi 0), (vi 1439)] dX2_other_36 q3253 q3254 q133 q3255 (c_isIn K 0 _ _ _ _ ⟨by omega, by omega⟩ ⟨by omega, by omega⟩ ⟨by omega, by omega⟩) pdX2_isIn ⟨Nat.le_of_ble_eq_true rfl, by decide, by omega⟩ (kk_z fun r36 h36 q36 => ?_) kx_z
        obtain ⟨rfl, rfl⟩ := q36
        refine mw_top (x' := bz (0 ≤ mi ∧ mi ≤ 1439)) rfl ?_
        refine j_bz_eq 51 dX2_other_39 (by decide) (fun c39 => ?_) (fun c39 => ?_)
        · refine j_iconst dX2_other_51 ?_
          refine m_goto 56 dX2_other_52 (by decide) ?_
          refine j_iconst dX2_other_56 ?_
          refine t_inv [(vi 1), (vi 2)] dX2_other_57 q3256 q3258 qs76 q3259 rfl (c_isThrown1 K 0 h m _ _) pdX2_isThrown ⟨Nat.le_of_ble_eq_true rfl, by decide, by omega⟩ (kk_z fun r57 h57 q57 => ?_) kx_z
          obtain ⟨rfl, rfl⟩ := q57
          refine mw_tov (b := ovr sg [(0, 2)] []) (ovr_ovr _ _ _ _ _) ?_
          refine j_if_eq 65 dX2_other_60 (by decide) ⟨by decide, by decide⟩ (fun c => absurd c (by decide)) (fun _ => ?_)
          refine j_iconst dX2_other_63 ?_
          subst hQ; exact j_iret dX2_other_64 rfl (⟨_, rfl, (Scr.ovr sg rfl rfl), (hT.ovr (fa1 (mf0 (v := 2) ⟨by first | decide | omega | (split <;> omega) | assumption, by first | decide | omega | (split <;> omega) | assumption⟩) fa0) fa0), by first | exact Or.inl ⟨by omega, rfl⟩ | exact Or.inr (Or.inl ⟨by omega, Or.inl (by omega), rfl⟩) | exact Or.inr (Or.inl ⟨by omega, Or.inr (y45.mp (by omega)), rfl⟩)⟩)
        · refine m_aload_n dX2_other_42 rfl ?_
          refine j_iload_n dX2_other_43 rfl ?_
          refine j_iload_n dX2_other_44 rfl ?_
          refine t_inv [(vi t), (vi mn)] dX2_other_45 q3349 q3351 qs84 q3352 rfl (c_isShiftWrong K 1 h m _ _ _ (by omega) (hT.ovr (fa1 (mf0 (v := 0) ⟨by first | decide | omega | (split <;> omega) | assumption, by first | decide | omega | (split <;> omega) | assumption⟩) fa0) fa0) ⟨by omega, by omega⟩ ⟨by omega, by omega⟩ ⟨by omega, by omega⟩ ⟨by omega, by omega⟩) pdX2_isShiftWrong ⟨Nat.le_of_ble_eq_true rfl, by decide, by omega⟩ (kk_z fun r45 h45 q45 => ?_) kx_z
          obtain ⟨rfl, x45, y45⟩ := q45
          refine j_if_eq 55 dX2_other_48 (by decide) ⟨by omega, by omega⟩ (fun c48 => ?_) (fun c48 => ?_)
          · refine j_iconst dX2_other_55 ?_
            refine j_iconst dX2_other_56 ?_
            refine t_inv [(vi 0), (vi 2)] dX2_other_57 q3256 q3258 qs76 q3259 rfl (c_isThrown0 K 0 h m _ _) pdX2_isThrown ⟨Nat.le_of_ble_eq_true rfl, by decide, by omega⟩ (kk_z fun r57 h57 q57 => ?_) kx_z
            obtain ⟨rfl, rfl⟩ := q57
            refine mw_tov (b := ovr sg [(0, 0)] []) (ovr_ovr _ _ _ _ _) ?_
            refine j_if_eq 65 dX2_other_60 (by decide) ⟨by decide, by decide⟩ (fun _ => ?_) (fun c => absurd c (by decide))
            have hsh : ∀ c, 0 ≤ c → c < sg.2 10 t → ¬ shB sg t mn c := fun c a b e => by { have := y45.mpr ⟨c, a, b, e⟩; omega }
            have hmv := hF.mv ⟨by omega, by omega⟩ hsh
            refine m_aload_n dX2_other_65 rfl ?_
            refine j_iload_n dX2_other_66 rfl ?_
            refine j_iload dX2_other_67 rfl ?_
            refine t_inv [(vi day), (vi mi)] dX2_other_69 q3598 q3600 qs119 q3601 rfl (c_tellAll K 6 h m _ _ _ (by omega) ⟨(hT.ovr (fa1 (mf0 (v := 0) ⟨by first | decide | omega | (split <;> omega) | assumption, by first | decide | omega | (split <;> omega) | assumption⟩) fa0) fa0), hF.2.1, hF.2.2.1, hF.2.2.2⟩ ⟨by omega, by omega⟩ ⟨by omega, by omega⟩) pdX2_tellAll ⟨Nat.le_of_ble_eq_true rfl, by decide, by omega⟩ (kk_v fun h69 q69 => ?_) kx_v
            obtain ⟨x69, y69, f69, r69, B69, rfl, g69, i69, o69, p69, u69, z69⟩ := q69
            refine mw_tov (b := ovr sg [(0, 0), (22, x69), (25, y69)] [(23, f69), (24, r69), (43, B69)]) (ovr_ovr _ _ _ _ _) ?_
            have hE : ∀ a b, 0 ≤ a → a < sg.1 1 → 0 ≤ b → b < sg.1 1 → EA (sd sg day) a mi b (B69 (12 * a + b)) := fun a b q1 q2 q3 q4 => EA.te (a := sd (ovr sg [(0, 0)] []) day) (b := sd sg day) rfl (z69 a b q1 q3 q4 (Or.inl q2))
            refine m_aload_n dX2_other_72 rfl ?_
            refine j_iload_n dX2_other_73 rfl ?_
            refine j_iload_n dX2_other_74 rfl ?_
            refine t_inv [(vi t), (vi mn)] dX2_other_75 q3353 q3355 qs85 q3356 rfl (c_move K 0 h m _ _ _ (by omega) (hT.ovr (fa1 (mf0 (v := 0) ⟨by first | decide | omega | (split <;> omega) | assumption, by first | decide | omega | (split <;> omega) | assumption⟩) (fa1 (mf22 (v := x69) ⟨by first | decide | omega | (split <;> omega) | assumption, by first | decide | omega | (split <;> omega) | assumption⟩) (fa1 (mf25 (v := y69) ⟨by first | decide | omega | (split <;> omega) | assumption, by first | decide | omega | (split <;> omega) | assumption⟩) fa0))) (fa1 o69 (fa1 p69 (fa1 u69 fa0)))) ⟨by omega, by omega⟩ ⟨by omega, by omega⟩ ⟨by omega, by omega⟩) pdX2_move ⟨Nat.le_of_ble_eq_true rfl, by decide, by omega⟩ (kk_v fun h75 q75 => ?_) kx_v
            obtain rfl := q75
            refine mw_tov (b := ovr sg [(0, 0), (22, x69), (25, y69)] [(12, (mvA (sg.2 12) t ((sg.2 10) t) mn)), (13, (mvA (sg.2 13) t ((sg.2 10) t) mn)), (23, f69), (24, r69), (43, B69)]) (ovr_ovr _ _ _ _ _) ?_
            refine j_iconst dX2_other_78 ?_
            refine j_istore [some (.ref m), some (vi t), some (vi mn), some (vi day), some (vi mi), some (vi (bz p)), some (vi 0), none, none, none, none] dX2_other_79 (by decide) rfl rfl ?_
            refine j_iconst dX2_other_81 ?_
            refine j_istore [some (.ref m), some (vi t), some (vi mn), some (vi day), some (vi mi), some (vi (bz p)), some (vi 0), some (vi 0), none, none, none] dX2_other_82 (by decide) rfl rfl ?_
            have L84 : ∀ (N : Nat) (n1 a x y : Int) (f r : Int → Int), (12 - a).toNat = N → (0 ≤ a ∧ a ≤ sg.1 1) → ((0 ≤ x ∧ x ≤ 27) ∧ (y = 0 ∨ y = 1)) → (okA 23 f ∧ okA 24 r) → (n1 = cA (othP sg t mn day mi p) (sg.1 1).toNat a.toNat) → MW K yiX2_other d (tov K h m (ovr sg [(0, 0), (22, x), (25, y)] [(12, (mvA (sg.2 12) t (sg.2 10 t) mn)), (13, (mvA (sg.2 13) t (sg.2 10 t) mn)), (23, f), (24, r), (43, B69)])) 84 [some (.ref m), some (vi t), some (vi mn), some (vi day), some (vi mi), some (vi (bz p)), some (vi n1), some (vi a), none, none, none] [] Q := by
              intro N
              induction N using Nat.strongRecOn with
              | _ N ih84 =>
              intro n1 a x y f r hN84 ha hx ho hm
              refine j_iload dX2_other_84 rfl ?_
              refine m_aload_n dX2_other_86 rfl ?_
              refine t_geti 1 (by decide) (sg.1 1) dX2_other_87 q3094 rfl ?_
              refine j_icmp_ge 192 dX2_other_90 (by decide) ⟨⟨by omega, by omega⟩, ⟨by omega, by omega⟩⟩ (fun c90 => ?_) (fun c90 => ?_)
              · refine m_aload_n dX2_other_192 rfl ?_
                refine j_iload_n dX2_other_193 rfl ?_
                refine j_iload_n dX2_other_194 rfl ?_
                refine j_ineg dX2_other_195 ?_
                refine t_inv [(vi t), (vi (-mn))] dX2_other_196 q3353 q3355 qs85 q3356 rfl (c_move K 0 h m _ _ _ (by omega) (hT.ovr (fa1 (mf0 (v := 0) ⟨by first | decide | omega | (split <;> omega) | assumption, by first | decide | omega | (split <;> omega) | assumption⟩) (fa1 (mf22 (v := x) ⟨by first | decide | omega | (split <;> omega) | assumption, by first | decide | omega | (split <;> omega) | assumption⟩) (fa1 (mf25 (v := y) ⟨by first | decide | omega | (split <;> omega) | assumption, by first | decide | omega | (split <;> omega) | assumption⟩) fa0))) (fa1 hmv.1 (fa1 hmv.2.1 (fa1 ho.1 (fa1 ho.2 (fa1 u69 fa0)))))) ⟨by omega, by omega⟩ ⟨by omega, by omega⟩ ⟨by omega, by omega⟩) pdX2_move ⟨Nat.le_of_ble_eq_true rfl, by decide, by omega⟩ (kk_v fun h196 q196 => ?_) kx_v
                obtain rfl := q196
                refine mw_tov (b := ovr sg [(0, 0), (22, x), (25, y)] [(12, (mvA (mvA (sg.2 12) t (sg.2 10 t) mn) t ((sg.2 10) t) (-mn))), (13, (mvA (mvA (sg.2 13) t (sg.2 10 t) mn) t ((sg.2 10) t) (-mn))), (23, f), (24, r), (43, B69)]) (ovr_ovr _ _ _ _ _) ?_
                refine j_iload dX2_other_199 rfl ?_
                subst hQ; exact j_iret dX2_other_201 rfl (⟨ovr sg [(0, 0), (22, x), (25, y)] [(23, f), (24, r), (43, B69)], by { rw [show (mvA (sg.2 12) t (sg.2 10 t) mn) = (mvA (sg.2 12) t (sg.2 10 t) mn) from rfl, mvA_back, mvA_back]; exact congrArg (tov K h m) ((ovr_addA sg [(0, 0), (22, x), (25, y)] [(23, f), (24, r), (43, B69)] 13).trans (ovr_addA sg [(0, 0), (22, x), (25, y)] [(13, sg.2 13), (23, f), (24, r), (43, B69)] 12)).symm }, Scr.ovr sg rfl rfl, hT.ovr (fa1 (mf0 (v := 0) ⟨by decide, by decide⟩) (fa1 (mf22 (v := x) hx.1) (fa1 (mf25 (v := y) (by omega)) fa0))) (fa1 ho.1 (fa1 ho.2 (fa1 u69 fa0))), Or.inr (Or.inr ⟨by omega, ⟨by omega, hsh⟩, rfl, by rw [hm, show a = sg.1 1 by omega]⟩)⟩)
              · refine m_aload_n dX2_other_93 rfl ?_
                refine j_iload dX2_other_94 rfl ?_
                refine j_iload dX2_other_96 rfl ?_
                refine j_iload_n dX2_other_98 rfl ?_
                refine j_iload dX2_other_99 rfl ?_
                refine t_inv [(vi a), (vi a), (vi day), (vi mi)] dX2_other_101 q3417 q3419 qs92 q3420 rfl (c_earliestOf K 5 h m _ _ _ _ _ (by omega) ⟨(hT.ovr (fa1 (mf0 (v := 0) ⟨by first | decide | omega | (split <;> omega) | assumption, by first | decide | omega | (split <;> omega) | assumption⟩) (fa1 (mf22 (v := x) ⟨by first | decide | omega | (split <;> omega) | assumption, by first | decide | omega | (split <;> omega) | assumption⟩) (fa1 (mf25 (v := y) ⟨by first | decide | omega | (split <;> omega) | assumption, by first | decide | omega | (split <;> omega) | assumption⟩) fa0))) (fa1 hmv.1 (fa1 hmv.2.1 (fa1 ho.1 (fa1 ho.2 (fa1 u69 fa0)))))), hF.2.1, hmv.2.2, hF.2.2.2⟩ ⟨by omega, by omega⟩ ⟨by omega, by omega⟩ ⟨by omega, by omega⟩ ⟨by omega, by omega⟩) pdX2_earliestOf ⟨Nat.le_of_ble_eq_true rfl, by decide, by omega⟩ (kk_z fun r101 h101 q101 => ?_) kx_z
                obtain ⟨f101, r101, rfl, x101, y101, z101, w101, rfl⟩ := q101
                refine mw_tov (b := ovr sg [(0, 0), (22, day), (25, 0)] [(12, (mvA (sg.2 12) t (sg.2 10 t) mn)), (13, (mvA (sg.2 13) t (sg.2 10 t) mn)), (23, f101), (24, r101), (43, B69)]) (ovr_ovr _ _ _ _ _) ?_
                refine mw_top (x' := (if f101 a < r101 a then f101 a else r101 a)) rfl ?_
                refine j_istore [some (.ref m), some (vi t), some (vi mn), some (vi day), some (vi mi), some (vi (bz p)), some (vi n1), some (vi a), some (vi (if f101 a < r101 a then f101 a else r101 a)), none, none] dX2_other_104 (by decide) rfl rfl ?_
                refine j_iconst dX2_other_106 ?_
                refine j_istore [some (.ref m), some (vi t), some (vi mn), some (vi day), some (vi mi), some (vi (bz p)), some (vi n1), some (vi a), some (vi (if f101 a < r101 a then f101 a else r101 a)), some (vi 0), none] dX2_other_107 (by decide) rfl rfl ?_
                have L109 : ∀ (N : Nat) (n2 b : Int), (12 - b).toNat = N → (0 ≤ b ∧ b ≤ sg.1 1) → (n2 = n1 + cB (othP sg t mn day mi p a) b.toNat) → MW K yiX2_other d (tov K h m (ovr sg [(0, 0), (22, day), (25, 0)] [(12, (mvA (sg.2 12) t (sg.2 10 t) mn)), (13, (mvA (sg.2 13) t (sg.2 10 t) mn)), (23, f101), (24, r101), (43, B69)])) 109 [some (.ref m), some (vi t), some (vi mn), some (vi day), some (vi mi), some (vi (bz p)), some (vi n2), some (vi a), none, some (vi b), none] [] Q := by
                  intro N
                  induction N using Nat.strongRecOn with
                  | _ N ih109 =>
                  intro n2 b hN109 hb hm2
                  refine j_iload dX2_other_109 rfl ?_
                  refine m_aload_n dX2_other_111 rfl ?_
                  refine t_geti 1 (by decide) (sg.1 1) dX2_other_112 q3094 rfl ?_
                  refine j_icmp_ge 186 dX2_other_115 (by decide) ⟨⟨by omega, by omega⟩, ⟨by omega, by omega⟩⟩ (fun c115 => ?_) (fun c115 => ?_)
                  · refine j_iinc [some (.ref m), some (vi t), some (vi mn), some (vi day), some (vi mi), some (vi (bz p)), some (vi n2), some (vi (a + 1)), none, some (vi b), none] dX2_other_186 rfl (by decide) rfl rfl ?_
                    refine m_goto 84 dX2_other_189 (by decide) ?_
                    refine mw_forget 9 ?_
                    exact ih84 _ (by omega) _ _ _ _ _ _ rfl (by omega) ⟨⟨by omega, by omega⟩, Or.inl rfl⟩ ⟨x101, y101⟩ (by rw [cA_s ha.1, ← hm, hm2, show b = sg.1 1 by omega])
                  · have hEa := hE a b (by omega) (by omega) (by omega) (by omega)
                    have hEm : EA (sd (mvS sg t mn) day) a mi b (if f101 b < r101 b then f101 b else r101 b) := EA.te (a := sd (ovr sg [(0, 0), (22, x), (25, y)] [(12, mvA (sg.2 12) t (sg.2 10 t) mn), (13, mvA (sg.2 13) t (sg.2 10 t) mn), (23, f), (24, r), (43, B69)]) day) (b := sd (mvS sg t mn) day) rfl (w101.ea (s := b) x101 y101 z101 ⟨by omega, by show b < sg.1 1; omega⟩ (by show sg.1 1 ≤ 12; omega))
                    have hlt1 := LtB_iff hEm hEa
                    have hlt2 := LtB_iff hEa hEm
                    have c23 := oa23 x101 b (by omega) (by omega)
                    have c24 := oa24 y101 b (by omega) (by omega)
                    refine m_aload_n dX2_other_118 rfl ?_
                    refine t_geta 43 30 (by decide) dX2_other_119 q3136 rfl ?_
                    refine j_bipush dX2_other_122 (by decide) ?_
                    refine j_iload dX2_other_124 rfl ?_
                    refine j_imul dX2_other_126 ?_
                    refine j_iload dX2_other_127 rfl ?_
                    refine j_iadd dX2_other_129 ?_
                    refine t_aldB 30 (by decide) (n := 144) B69 dX2_other_130 rfl (Nat.le_of_ble_eq_true rfl) (oa43 u69) ⟨by omega, by omega⟩ (fun b130 => ?_)
                    refine j_istore [some (.ref m), some (vi t), some (vi mn), some (vi day), some (vi mi), some (vi (bz p)), some (vi n2), some (vi a), none, some (vi b), some (vi (B69 ((12 * a) + b)))] dX2_other_131 (by decide) rfl rfl ?_
                    refine j_iload dX2_other_133 rfl ?_
                    refine j_iload dX2_other_135 rfl ?_
                    refine j_iload dX2_other_137 rfl ?_
                    refine j_icmp_eq 176 dX2_other_139 (by decide) ⟨⟨by omega, by omega⟩, ⟨by omega, by omega⟩⟩ (fun c139 => ?_) (fun c139 => ?_)
                    · refine j_iconst dX2_other_176 ?_
                      refine j_iadd dX2_other_177 ?_
                      refine j_istore [some (.ref m), some (vi t), some (vi mn), some (vi day), some (vi mi), some (vi (bz p)), some (vi (n2 + 0)), some (vi a), none, some (vi b), some (vi (B69 ((12 * a) + b)))] dX2_other_178 (by decide) rfl rfl ?_
                      refine j_iinc [some (.ref m), some (vi t), some (vi mn), some (vi day), some (vi mi), some (vi (bz p)), some (vi (n2 + 0)), some (vi a), none, some (vi (b + 1)), some (vi (B69 ((12 * a) + b)))] dX2_other_180 rfl (by decide) rfl rfl ?_
                      refine m_goto 109 dX2_other_183 (by decide) ?_
                      refine mw_forget 10 ?_
                      exact ih109 _ (by omega) _ _ rfl (by omega) (by first | (rw [cB_n hb.1 (fun q => by first | exact absurd q.1 (by omega) | (rcases q.2 with ⟨q1, q2⟩ | ⟨q1, q2⟩; { first | exact absurd q1 (by assumption) | exact absurd (hlt1.mp q2) (by omega) }; { first | exact absurd (by assumption) q1 | exact absurd (hlt2.mp q2) (by omega) })), hm2]; omega) | (rw [cB_y hb.1 ⟨by omega, Or.inl ⟨by assumption, hlt1.mpr (by omega)⟩⟩, hm2]; omega) | (rw [cB_y hb.1 ⟨by omega, Or.inr ⟨by assumption, hlt2.mpr (by omega)⟩⟩, hm2]; omega))
                    · refine j_iload dX2_other_142 rfl ?_
                      refine j_bz_eq 161 dX2_other_144 (by decide) (fun c144 => ?_) (fun c144 => ?_)
                      · refine m_aload_n dX2_other_161 rfl ?_
                        refine j_iload dX2_other_162 rfl ?_
                        refine t_inv [(vi b)] dX2_other_164 q3461 q3463 qs103 q3464 rfl (c_at K 0 h m _ _ (hT.ovr (fa1 (mf0 (v := 0) ⟨by first | decide | omega | (split <;> omega) | assumption, by first | decide | omega | (split <;> omega) | assumption⟩) (fa1 (mf22 (v := day) ⟨by first | decide | omega | (split <;> omega) | assumption, by first | decide | omega | (split <;> omega) | assumption⟩) (fa1 (mf25 (v := 0) ⟨by first | decide | omega | (split <;> omega) | assumption, by first | decide | omega | (split <;> omega) | assumption⟩) fa0))) (fa1 hmv.1 (fa1 hmv.2.1 (fa1 x101 (fa1 y101 (fa1 u69 fa0)))))) ⟨by omega, by omega⟩) pdX2_at ⟨Nat.le_of_ble_eq_true rfl, by decide, by omega⟩ (kk_z fun r164 h164 q164 => ?_) kx_z
                        obtain ⟨rfl, rfl⟩ := q164
                        refine mw_top (x' := (if f101 b < r101 b then f101 b else r101 b)) rfl ?_
                        refine j_iload dX2_other_167 rfl ?_
                        refine j_icmp_le 176 dX2_other_169 (by decide) ⟨⟨by omega, by omega⟩, ⟨by omega, by omega⟩⟩ (fun c169 => ?_) (fun c169 => ?_)
                        · refine j_iconst dX2_other_176 ?_
                          refine j_iadd dX2_other_177 ?_
                          refine j_istore [some (.ref m), some (vi t), some (vi mn), some (vi day), some (vi mi), some (vi (bz p)), some (vi (n2 + 0)), some (vi a), none, some (vi b), some (vi (B69 ((12 * a) + b)))] dX2_other_178 (by decide) rfl rfl ?_
                          refine j_iinc [some (.ref m), some (vi t), some (vi mn), some (vi day), some (vi mi), some (vi (bz p)), some (vi (n2 + 0)), some (vi a), none, some (vi (b + 1)), some (vi (B69 ((12 * a) + b)))] dX2_other_180 rfl (by decide) rfl rfl ?_
                          refine m_goto 109 dX2_other_183 (by decide) ?_
                          refine mw_forget 10 ?_
                          exact ih109 _ (by omega) _ _ rfl (by omega) (by first | (rw [cB_n hb.1 (fun q => by first | exact absurd q.1 (by omega) | (rcases q.2 with ⟨q1, q2⟩ | ⟨q1, q2⟩; { first | exact absurd q1 (by assumption) | exact absurd (hlt1.mp q2) (by omega) }; { first | exact absurd (by assumption) q1 | exact absurd (hlt2.mp q2) (by omega) })), hm2]; omega) | (rw [cB_y hb.1 ⟨by omega, Or.inl ⟨by assumption, hlt1.mpr (by omega)⟩⟩, hm2]; omega) | (rw [cB_y hb.1 ⟨by omega, Or.inr ⟨by assumption, hlt2.mpr (by omega)⟩⟩, hm2]; omega))
                        · refine j_iconst dX2_other_172 ?_
                          refine m_goto 177 dX2_other_173 (by decide) ?_
                          refine j_iadd dX2_other_177 ?_
                          refine j_istore [some (.ref m), some (vi t), some (vi mn), some (vi day), some (vi mi), some (vi (bz p)), some (vi (n2 + 1)), some (vi a), none, some (vi b), some (vi (B69 ((12 * a) + b)))] dX2_other_178 (by decide) rfl rfl ?_
                          refine j_iinc [some (.ref m), some (vi t), some (vi mn), some (vi day), some (vi mi), some (vi (bz p)), some (vi (n2 + 1)), some (vi a), none, some (vi (b + 1)), some (vi (B69 ((12 * a) + b)))] dX2_other_180 rfl (by decide) rfl rfl ?_
                          refine m_goto 109 dX2_other_183 (by decide) ?_
                          refine mw_forget 10 ?_
                          exact ih109 _ (by omega) _ _ rfl (by omega) (by first | (rw [cB_n hb.1 (fun q => by first | exact absurd q.1 (by omega) | (rcases q.2 with ⟨q1, q2⟩ | ⟨q1, q2⟩; { first | exact absurd q1 (by assumption) | exact absurd (hlt1.mp q2) (by omega) }; { first | exact absurd (by assumption) q1 | exact absurd (hlt2.mp q2) (by omega) })), hm2]; omega) | (rw [cB_y hb.1 ⟨by omega, Or.inl ⟨by assumption, hlt1.mpr (by omega)⟩⟩, hm2]; omega) | (rw [cB_y hb.1 ⟨by omega, Or.inr ⟨by assumption, hlt2.mpr (by omega)⟩⟩, hm2]; omega))
                      · refine m_aload_n dX2_other_147 rfl ?_
                        refine j_iload dX2_other_148 rfl ?_
                        refine t_inv [(vi b)] dX2_other_150 q3461 q3463 qs103 q3464 rfl (c_at K 0 h m _ _ (hT.ovr (fa1 (mf0 (v := 0) ⟨by first | decide | omega | (split <;> omega) | assumption, by first | decide | omega | (split <;> omega) | assumption⟩) (fa1 (mf22 (v := day) ⟨by first | decide | omega | (split <;> omega) | assumption, by first | decide | omega | (split <;> omega) | assumption⟩) (fa1 (mf25 (v := 0) ⟨by first | decide | omega | (split <;> omega) | assumption, by first | decide | omega | (split <;> omega) | assumption⟩) fa0))) (fa1 hmv.1 (fa1 hmv.2.1 (fa1 x101 (fa1 y101 (fa1 u69 fa0)))))) ⟨by omega, by omega⟩) pdX2_at ⟨Nat.le_of_ble_eq_true rfl, by decide, by omega⟩ (kk_z fun r150 h150 q150 => ?_) kx_z
                        obtain ⟨rfl, rfl⟩ := q150
                        refine mw_top (x' := (if f101 b < r101 b then f101 b else r101 b)) rfl ?_
                        refine j_iload dX2_other_153 rfl ?_
                        refine j_icmp_ge 176 dX2_other_155 (by decide) ⟨⟨by omega, by omega⟩, ⟨by omega, by omega⟩⟩ (fun c155 => ?_) (fun c155 => ?_)
                        · refine j_iconst dX2_other_176 ?_
                          refine j_iadd dX2_other_177 ?_
                          refine j_istore [some (.ref m), some (vi t), some (vi mn), some (vi day), some (vi mi), some (vi (bz p)), some (vi (n2 + 0)), some (vi a), none, some (vi b), some (vi (B69 ((12 * a) + b)))] dX2_other_178 (by decide) rfl rfl ?_
                          refine j_iinc [some (.ref m), some (vi t), some (vi mn), some (vi day), some (vi mi), some (vi (bz p)), some (vi (n2 + 0)), some (vi a), none, some (vi (b + 1)), some (vi (B69 ((12 * a) + b)))] dX2_other_180 rfl (by decide) rfl rfl ?_
                          refine m_goto 109 dX2_other_183 (by decide) ?_
                          refine mw_forget 10 ?_
                          exact ih109 _ (by omega) _ _ rfl (by omega) (by first | (rw [cB_n hb.1 (fun q => by first | exact absurd q.1 (by omega) | (rcases q.2 with ⟨q1, q2⟩ | ⟨q1, q2⟩; { first | exact absurd q1 (by assumption) | exact absurd (hlt1.mp q2) (by omega) }; { first | exact absurd (by assumption) q1 | exact absurd (hlt2.mp q2) (by omega) })), hm2]; omega) | (rw [cB_y hb.1 ⟨by omega, Or.inl ⟨by assumption, hlt1.mpr (by omega)⟩⟩, hm2]; omega) | (rw [cB_y hb.1 ⟨by omega, Or.inr ⟨by assumption, hlt2.mpr (by omega)⟩⟩, hm2]; omega))
                        · refine m_goto 172 dX2_other_158 (by decide) ?_
                          refine j_iconst dX2_other_172 ?_
                          refine m_goto 177 dX2_other_173 (by decide) ?_
                          refine j_iadd dX2_other_177 ?_
                          refine j_istore [some (.ref m), some (vi t), some (vi mn), some (vi day), some (vi mi), some (vi (bz p)), some (vi (n2 + 1)), some (vi a), none, some (vi b), some (vi (B69 ((12 * a) + b)))] dX2_other_178 (by decide) rfl rfl ?_
                          refine j_iinc [some (.ref m), some (vi t), some (vi mn), some (vi day), some (vi mi), some (vi (bz p)), some (vi (n2 + 1)), some (vi a), none, some (vi (b + 1)), some (vi (B69 ((12 * a) + b)))] dX2_other_180 rfl (by decide) rfl rfl ?_
                          refine m_goto 109 dX2_other_183 (by decide) ?_
                          refine mw_forget 10 ?_
                          exact ih109 _ (by omega) _ _ rfl (by omega) (by first | (rw [cB_n hb.1 (fun q => by first | exact absurd q.1 (by omega) | (rcases q.2 with ⟨q1, q2⟩ | ⟨q1, q2⟩; { first | exact absurd q1 (by assumption) | exact absurd (hlt1.mp q2) (by omega) }; { first | exact absurd (by assumption) q1 | exact absurd (hlt2.mp q2) (by omega) })), hm2]; omega) | (rw [cB_y hb.1 ⟨by omega, Or.inl ⟨by assumption, hlt1.mpr (by omega)⟩⟩, hm2]; omega) | (rw [cB_y hb.1 ⟨by omega, Or.inr ⟨by assumption, hlt2.mpr (by omega)⟩⟩, hm2]; omega))
                refine mw_forget 8 ?_
                exact L109 _ _ _ rfl (by omega) (by show n1 = n1 + 0; omega)
            exact L84 _ _ _ _ _ _ _ rfl (by omega) ⟨g69, i69⟩ ⟨o69, p69⟩ rfl
          · refine j_iconst dX2_other_51 ?_
            refine m_goto 56 dX2_other_52 (by decide) ?_
            refine j_iconst dX2_other_56 ?_
            refine t_inv [(vi 1), (vi 2)] dX2_other_57 q3256 q3258 qs76 q3259 rfl (c_isThrown1 K 0 h m _ _) pdX2_isThrown ⟨Nat.le_of_ble_eq_true rfl, by decide, by omega⟩ (kk_z fun r57 h57 q57 => ?_) kx_z
            obtain ⟨rfl, rfl⟩ := q57
            refine mw_tov (b := ovr sg [(0, 2)] []) (ovr_ovr _ _ _ _ _) ?_
            refine j_if_eq 65 dX2_other_60 (by decide) ⟨by decide, by decide⟩ (fun c => absurd c (by decide)) (fun _ => ?_)
            refine j_iconst dX2_other_63 ?_
            subst hQ; exact j_iret dX2_other_64 rfl (⟨_, rfl, (Scr.ovr sg rfl rfl), (hT.ovr (fa1 (mf0 (v := 2) ⟨by first | decide | omega | (split <;> omega) | assumption, by first | decide | omega | (split <;> omega) | assumption⟩) fa0) fa0), by first | exact Or.inl ⟨by omega, rfl⟩ | exact Or.inr (Or.inl ⟨by omega, Or.inl (by omega), rfl⟩) | exact Or.inr (Or.inl ⟨by omega, Or.inr (y45.mp (by omega)), rfl⟩)⟩)
theorem c_gains (K : KT) (d : Nat) (h : MH) (m : Nat) (sg : TS) (t mn day mi : Int) (hd : 8 ≤ d) (hF : WF sg) (h1 : In t) (h2 : In mn) (h3 : In day) (h4 : In mi) : Mt K yiX2_gains d [.ref m, vi t, vi mn, vi day, vi mi] (tov K h m sg) (Rz (Qy K h m sg (fun th v => (¬ (0 ≤ t ∧ t ≤ sg.1 8 - 1) ∧ th = 1) ∨ ((0 ≤ t ∧ t ≤ sg.1 8 - 1) ∧ (¬ ((-60 ≤ mn ∧ mn ≤ 60) ∧ (0 ≤ day ∧ day ≤ 27) ∧ 0 ≤ mi ∧ mi ≤ 1439) ∨ ∃ c, 0 ≤ c ∧ c < sg.2 10 t ∧ shB sg t mn c) ∧ th = 2) ∨ ((0 ≤ t ∧ t ≤ sg.1 8 - 1) ∧ (((-60 ≤ mn ∧ mn ≤ 60) ∧ (0 ≤ day ∧ day ≤ 27) ∧ 0 ≤ mi ∧ mi ≤ 1439) ∧ ∀ c, 0 ≤ c → c < sg.2 10 t → ¬ shB sg t mn c) ∧ th = 0 ∧ v = cA (othP sg t mn day mi True) (sg.1 1).toNat (sg.1 1).toNat)))) := by
  have hT := hF.1
  refine mt_ofQ (by decide) (Nat.le_of_ble_eq_true rfl) (fun Q hQ => ?_)
  show MW K yiX2_gains d (tov K h m (ovr sg [] [])) 0 [some (.ref m), some (vi t), some (vi mn), some (vi day), some (vi mi)] [] Q
  refine m_aload_n dX2_gains_0 rfl ?_
  refine j_iload_n dX2_gains_1 rfl ?_
  refine j_iload_n dX2_gains_2 rfl ?_
  refine j_iload_n dX2_gains_3 rfl ?_
  refine j_iload dX2_gains_4 rfl ?_
  refine j_iconst dX2_gains_6 ?_
  refine t_inv [(vi t), (vi mn), (vi day), (vi mi), (vi 1)] dX2_gains_7 q3626 q3628 qs121 q3629 rfl (c_other K 7 h m sg _ _ _ _ True (by omega) hF h1 h2 h3 h4) pdX2_other ⟨Nat.le_of_ble_eq_true rfl, by decide, by omega⟩ (kk_z fun r7 h7 q7 => ?_) kx_z
  obtain q7 := q7
  subst hQ; exact j_iret dX2_gains_10 rfl q7
theorem c_loses (K : KT) (d : Nat) (h : MH) (m : Nat) (sg : TS) (t mn day mi : Int) (hd : 8 ≤ d) (hF : WF sg) (h1 : In t) (h2 : In mn) (h3 : In day) (h4 : In mi) : Mt K yiX2_loses d [.ref m, vi t, vi mn, vi day, vi mi] (tov K h m sg) (Rz (Qy K h m sg (fun th v => (¬ (0 ≤ t ∧ t ≤ sg.1 8 - 1) ∧ th = 1) ∨ ((0 ≤ t ∧ t ≤ sg.1 8 - 1) ∧ (¬ ((-60 ≤ mn ∧ mn ≤ 60) ∧ (0 ≤ day ∧ day ≤ 27) ∧ 0 ≤ mi ∧ mi ≤ 1439) ∨ ∃ c, 0 ≤ c ∧ c < sg.2 10 t ∧ shB sg t mn c) ∧ th = 2) ∨ ((0 ≤ t ∧ t ≤ sg.1 8 - 1) ∧ (((-60 ≤ mn ∧ mn ≤ 60) ∧ (0 ≤ day ∧ day ≤ 27) ∧ 0 ≤ mi ∧ mi ≤ 1439) ∧ ∀ c, 0 ≤ c → c < sg.2 10 t → ¬ shB sg t mn c) ∧ th = 0 ∧ v = cA (othP sg t mn day mi False) (sg.1 1).toNat (sg.1 1).toNat)))) := by
  have hT := hF.1
  refine mt_ofQ (by decide) (Nat.le_of_ble_eq_true rfl) (fun Q hQ => ?_)
  show MW K yiX2_loses d (tov K h m (ovr sg [] [])) 0 [some (.ref m), some (vi t), some (vi mn), some (vi day), some (vi mi)] [] Q
  refine m_aload_n dX2_loses_0 rfl ?_
  refine j_iload_n dX2_loses_1 rfl ?_
  refine j_iload_n dX2_loses_2 rfl ?_
  refine j_iload_n dX2_loses_3 rfl ?_
  refine j_iload dX2_loses_4 rfl ?_
  refine j_iconst dX2_loses_6 ?_
  refine t_inv [(vi t), (vi mn), (vi day), (vi mi), (vi 0)] dX2_loses_7 q3626 q3628 qs121 q3629 rfl (c_other K 7 h m sg _ _ _ _ False (by omega) hF h1 h2 h3 h4) pdX2_other ⟨Nat.le_of_ble_eq_true rfl, by decide, by omega⟩ (kk_z fun r7 h7 q7 => ?_) kx_z
  obtain q7 := q7
  subst hQ; exact j_iret dX2_loses_10 rfl q7
