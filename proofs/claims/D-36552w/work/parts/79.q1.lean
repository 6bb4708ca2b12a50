/-! Lastbus: wall, rounds asked, choices -/
theorem q_wall (K : KT) (d : Nat) (h : MH) (z x : Nat) (sg : TS) (fr day mi ah : Int) (hd : 18 ≤ d) (hIv : Iv sg) (hW : World K h z x sg) (hz1 : z ≤ h.1) (i1 : In fr) (i2 : In day) (i3 : In mi) (i4 : In ah) (hz : h.1 + 25000 ≤ kC K ∧ h.2.1 + 304000 ≤ kS K) : Mt K yiX1_wall d [.ref x, vi fr, vi day, vi mi, vi ah] h (Rw [RJ14, RJ12] fun th v h' => QFr h h' ∧ ((¬ (0 ≤ fr ∧ fr ≤ sg.1 1 - 1) ∧ th = 1) ∨ ((0 ≤ fr ∧ fr ≤ sg.1 1 - 1) ∧ ¬ ((0 ≤ day ∧ day ≤ 27) ∧ (0 ≤ mi ∧ mi ≤ 1439) ∧ 0 ≤ ah ∧ ah ≤ 4319) ∧ th = 2) ∨ ((0 ≤ fr ∧ fr ≤ sg.1 1 - 1) ∧ ((0 ≤ day ∧ day ≤ 27) ∧ (0 ≤ mi ∧ mi ≤ 1439) ∧ 0 ≤ ah ∧ ah ≤ 4319) ∧ th = 0 ∧ ∃ e : Int → Int, (∀ s, 0 ≤ s → s < sg.1 1 → EA (sd sg day) fr mi s (e s)) ∧ v = mskE e ah (sg.1 1).toNat))) := by
  have hF := hIv.1
  have f1b := of1 (hF.1.1 1)
  have := i1.1; have := i1.2; have := i2.1; have := i2.2; have := i3.1; have := i3.2; have := i4.1; have := i4.2
  have hW0 := hW
  obtain ⟨own, e0, cc, ch, wk, sv, tr, lt, ws, tx, se, te, we, kp, sp, tp, wp, T, hK, hE, hI, hx, hch, hwk, hsv, htr, hlt, hws, htx, hkp, hR0⟩ := hW
  obtain ⟨hx, hxz, -⟩ := tg_at hx
  obtain ⟨hch, hchz, -⟩ := tg_at hch
  have hE1 := hE.1
  obtain ⟨hE2, hE2z, -⟩ := tg_at hE.2
  obtain ⟨k0, k1, k3, k4, k5, k8, k9, k10, k11, k12⟩ := hK
  have hwk := And.intro hwk.1.C hwk.2
  refine mt_ofQ (by decide) (Nat.le_of_ble_eq_true rfl) (fun Q hQ => ?_)
  show MW K yiX1_wall d h 0 [some (.ref x), some (vi fr), some (vi day), some (vi mi), some (vi ah), none, none, none] [] Q
  refine mw_wf (fun hwf => ?_)
  have l_hx := hwf _ _ hx
  have fR : ∀ b, (b < h.1) → h.2.2 b = h.2.2 b := fun _ _ => rfl
  refine m_aload_n (y := yiX1_wall) dX1_wall_0 rfl ?_
  refine j_iload_n (y := yiX1_wall) dX1_wall_1 rfl ?_
  refine m_invV (y := yiX1_wall) (rB := (RX1, TX1, 10)) [(vi fr)] dX1_wall_2 hx rfl q889 q891 qs2 q123 q892 rfl (c_X1_isStop (d := 1) fr (by omega) hx ⟨by omega, by omega⟩ ⟨by omega, by omega⟩) pdX1_isStop ⟨Nat.le_of_ble_eq_true rfl, by decide, by omega⟩ (kk_z fun r2 h2 q2 => ?_) kx_z
  obtain ⟨rfl, rfl⟩ := q2
  refine mw_top (x' := bz (0 ≤ fr ∧ fr ≤ (sg.1 1) - 1)) rfl ?_
  by_cases c5 : (0 ≤ fr ∧ fr ≤ (sg.1 1) - 1)
  · refine mw_top (x' := 1) ((bz_t c5).symm) ?_
    refine m_invS (y := yiX1_wall) [(vi 1)] dX1_wall_5 q893 q894 q123 q895 (c_X1_requireIndex_1 K 0 h) pdX1_requireIndex ⟨Nat.le_of_ble_eq_true rfl, by decide, by omega⟩ (kk_v fun h5 q5 => ?_) kx_v
    obtain rfl := q5
    refine j_iload_n (y := yiX1_wall) dX1_wall_8 rfl ?_
    refine m_invS (y := yiX1_wall) [(vi day)] dX1_wall_9 q1049 q1050 q123 q1051 (c_X1_isDay K 1 h day (by omega) ⟨by omega, by omega⟩) pdX1_isDay ⟨Nat.le_of_ble_eq_true rfl, by decide, by omega⟩ (kk_z fun r9 h9 q9 => ?_) kx_z
    obtain ⟨rfl, rfl⟩ := q9
    refine mw_top (x' := bz (0 ≤ day ∧ day ≤ 27)) rfl ?_
    refine j_bz_eq (y := yiX1_wall) 42 dX1_wall_12 (by decide) (fun c12 => ?_) (fun c12 => ?_)
    · refine j_iconst (y := yiX1_wall) dX1_wall_42 ?_
      refine m_invS (y := yiX1_wall) [(vi 0)] dX1_wall_43 q853 q854 q123 q855 (c_X1_require_0 K 6 h (by omega) ⟨by omega, by omega⟩) pdX1_require ⟨Nat.le_of_ble_eq_true rfl, by decide, by omega⟩ kk_t (kx_t fun q43 h43 x43 => ?_)
      subst hQ; exact mx_ret rfl (Or.inr ⟨1, RJ12, q43, rfl, rfl, fun _ => ⟨QFr.th x43 ⟨by omega, by omega⟩ ⟨by omega, by omega⟩ (fun _ _ => rfl), Or.inr (Or.inl ⟨c5, by omega, rfl⟩)⟩⟩)
    · refine j_iload_n (y := yiX1_wall) dX1_wall_15 rfl ?_
      refine j_iconst (y := yiX1_wall) dX1_wall_16 ?_
      refine j_sipush (y := yiX1_wall) dX1_wall_17 (by decide) ?_
      refine m_invS (y := yiX1_wall) [(vi mi), (vi 0), (vi 1439)] dX1_wall_20 q850 q851 q123 q852 (c_X1_isBetween K 0 h mi 0 1439 ⟨by omega, by omega⟩ ⟨by omega, by omega⟩ ⟨by omega, by omega⟩) pdX1_isBetween ⟨Nat.le_of_ble_eq_true rfl, by decide, by omega⟩ (kk_z fun r20 h20 q20 => ?_) kx_z
      obtain ⟨rfl, rfl⟩ := q20
      refine mw_top (x' := bz (0 ≤ mi ∧ mi ≤ 1439)) rfl ?_
      refine j_bz_eq (y := yiX1_wall) 42 dX1_wall_23 (by decide) (fun c23 => ?_) (fun c23 => ?_)
      · refine j_iconst (y := yiX1_wall) dX1_wall_42 ?_
        refine m_invS (y := yiX1_wall) [(vi 0)] dX1_wall_43 q853 q854 q123 q855 (c_X1_require_0 K 6 h (by omega) ⟨by omega, by omega⟩) pdX1_require ⟨Nat.le_of_ble_eq_true rfl, by decide, by omega⟩ kk_t (kx_t fun q43 h43 x43 => ?_)
        subst hQ; exact mx_ret rfl (Or.inr ⟨1, RJ12, q43, rfl, rfl, fun _ => ⟨QFr.th x43 ⟨by omega, by omega⟩ ⟨by omega, by omega⟩ (fun _ _ => rfl), Or.inr (Or.inl ⟨c5, by omega, rfl⟩)⟩⟩)
      · refine j_iload (y := yiX1_wall) dX1_wall_26 rfl ?_
        refine j_iconst (y := yiX1_wall) dX1_wall_28 ?_
        refine j_sipush (y := yiX1_wall) dX1_wall_29 (by decide) ?_
        refine m_invS (y := yiX1_wall) [(vi ah), (vi 0), (vi 4319)] dX1_wall_32 q850 q851 q123 q852 (c_X1_isBetween K 0 h ah 0 4319 ⟨by omega, by omega⟩ ⟨by omega, by omega⟩ ⟨by omega, by omega⟩) pdX1_isBetween ⟨Nat.le_of_ble_eq_true rfl, by decide, by omega⟩ (kk_z fun r32 h32 q32 => ?_) kx_z
        obtain ⟨rfl, rfl⟩ := q32
        refine mw_top (x' := bz (0 ≤ ah ∧ ah ≤ 4319)) rfl ?_
        refine j_bz_eq (y := yiX1_wall) 42 dX1_wall_35 (by decide) (fun c35 => ?_) (fun c35 => ?_)
        · refine j_iconst (y := yiX1_wall) dX1_wall_42 ?_
          refine m_invS (y := yiX1_wall) [(vi 0)] dX1_wall_43 q853 q854 q123 q855 (c_X1_require_0 K 6 h (by omega) ⟨by omega, by omega⟩) pdX1_require ⟨Nat.le_of_ble_eq_true rfl, by decide, by omega⟩ kk_t (kx_t fun q43 h43 x43 => ?_)
          subst hQ; exact mx_ret rfl (Or.inr ⟨1, RJ12, q43, rfl, rfl, fun _ => ⟨QFr.th x43 ⟨by omega, by omega⟩ ⟨by omega, by omega⟩ (fun _ _ => rfl), Or.inr (Or.inl ⟨c5, by omega, rfl⟩)⟩⟩)
        · refine j_iconst (y := yiX1_wall) dX1_wall_38 ?_
          refine m_goto (y := yiX1_wall) 43 dX1_wall_39 (by decide) ?_
          refine m_invS (y := yiX1_wall) [(vi 1)] dX1_wall_43 q853 q854 q123 q855 (c_X1_require_1 K 0 h) pdX1_require ⟨Nat.le_of_ble_eq_true rfl, by decide, by omega⟩ (kk_v fun h43 q43 => ?_) kx_v
          obtain rfl := q43
          refine m_aload_n (y := yiX1_wall) dX1_wall_46 rfl ?_
          refine j_iload_n (y := yiX1_wall) dX1_wall_47 rfl ?_
          refine j_iload_n (y := yiX1_wall) dX1_wall_48 rfl ?_
          refine j_iload_n (y := yiX1_wall) dX1_wall_49 rfl ?_
          refine m_invV (y := yiX1_wall) (rB := (RX1, TX1, 10)) [(vi fr), (vi day), (vi mi)] dX1_wall_50 hx rfl q1865 q1867 qs32 q123 q1868 rfl (c_X1_scanned K 15 h z x sg fr day mi (by omega) hIv hW0 hz1 ⟨by omega, by omega⟩ ⟨by omega, by omega⟩ ⟨by omega, by omega⟩ ⟨by omega, by omega⟩) pdX1_scanned ⟨Nat.le_of_ble_eq_true rfl, by decide, by omega⟩ (kk_r fun r50 h50 q50 => ?_) kx_r
          obtain q50 := q50
          obtain ⟨A, B, R, wy, chg, fa, fb, fd, k1, k2, k3, hEA, hBR, hRg, y50, z50, f50⟩ := q50.lab (hF.sd ⟨by omega, by omega⟩)
          have hx : h50.2.2 x = some (true, .inr (0, [(.ref ch), (.ref wk), (vi (sg.1 1)), (.ref sv), (.ref tr), (.ref lt), (.ref ws), (.ref tx), (vi (sg.1 21)), (va_rf kp)])) := (f50 _ (by omega)).trans hx
          have fR : ∀ b, (b < h.1) → h50.2.2 b = h.2.2 b := fun b hb => (f50 b (by omega)).trans (fR b hb)
          refine mw_wf (fun hwf50 => ?_)
          have l_k150 := hwf50 _ _ k1
          have l_k250 := hwf50 _ _ k2
          refine m_astore (y := yiX1_wall) dX1_wall_53 (by decide) rfl ?_
          show MW K yiX1_wall d h50 55 [some (.ref x), some (vi fr), some (vi day), some (vi mi), some (vi ah), some (.ref r50), none, none] [] Q
          refine j_iconst (y := yiX1_wall) dX1_wall_55 ?_
          refine j_istore (y := yiX1_wall) [some (.ref x), some (vi fr), some (vi day), some (vi mi), some (vi ah), some (.ref r50), some (vi 0), none] dX1_wall_56 (by decide) rfl rfl ?_
          refine j_iconst (y := yiX1_wall) dX1_wall_58 ?_
          refine j_istore (y := yiX1_wall) [some (.ref x), some (vi fr), some (vi day), some (vi mi), some (vi ah), some (.ref r50), some (vi 0), some (vi 0)] dX1_wall_59 (by decide) rfl rfl ?_
          have L61 : ∀ (N : Nat) (st k : Int), (12 - k).toNat = N → (0 ≤ k ∧ k ≤ sg.1 1) → (st = mskE fa ah k.toNat) → MW K yiX1_wall d h50 61 [some (.ref x), some (vi fr), some (vi day), some (vi mi), some (vi ah), some (.ref r50), some (vi st), some (vi k)] [] Q := by
            intro N
            induction N using Nat.strongRecOn with
            | _ N ih61 =>
            intro st k hN61 hk hs
            refine j_iload (y := yiX1_wall) dX1_wall_61 rfl ?_
            refine m_aload_n (y := yiX1_wall) dX1_wall_63 rfl ?_
            refine m_getfS (y := yiX1_wall) kc_0 2 (by decide) dX1_wall_64 q300 hx rfl ?_
            refine j_icmp_ge (y := yiX1_wall) 102 dX1_wall_67 (by decide) ⟨⟨by omega, by omega⟩, ⟨by omega, by omega⟩⟩ (fun c67 => ?_) (fun c67 => ?_)
            · refine j_iload (y := yiX1_wall) dX1_wall_102 rfl ?_
              subst hQ; exact j_wret (y := yiX1_wall) dX1_wall_104 rfl (⟨QFr.of (by omega) (by omega) fR, Or.inr (Or.inr ⟨c5, by omega, rfl, fa, fun s a b => hEA s a b, by rw [hs, show k = sg.1 1 by omega]⟩)⟩)
            · refine j_iload (y := yiX1_wall) dX1_wall_70 rfl ?_
              have hvk := hRg.1.v (s := k) ⟨by omega, by omega⟩
              refine m_aload (y := yiX1_wall) dX1_wall_72 rfl ?_
              refine m_getfN (y := yiX1_wall) kc_9 2 (by decide) dX1_wall_74 q2113 k1 rfl ?_
              refine j_iload (y := yiX1_wall) dX1_wall_77 rfl ?_
              refine j_iald (y := yiX1_wall) dX1_wall_79 k2 (by omega) ⟨by omega, by omega⟩ ?_
              refine j_iload (y := yiX1_wall) dX1_wall_80 rfl ?_
              refine j_icmp_ge (y := yiX1_wall) 92 dX1_wall_82 (by decide) ⟨⟨by omega, by omega⟩, ⟨by omega, by omega⟩⟩ (fun c82 => ?_) (fun c82 => ?_)
              · refine j_iconst (y := yiX1_wall) dX1_wall_92 ?_
                refine j_ior0 (y := yiX1_wall) dX1_wall_93 ?_
                refine j_istore (y := yiX1_wall) [some (.ref x), some (vi fr), some (vi day), some (vi mi), some (vi ah), some (.ref r50), some (vi st), some (vi k)] dX1_wall_94 (by decide) rfl rfl ?_
                refine j_iinc (y := yiX1_wall) [some (.ref x), some (vi fr), some (vi day), some (vi mi), some (vi ah), some (.ref r50), some (vi st), some (vi (k + 1))] dX1_wall_96 rfl (by decide) rfl rfl ?_
                refine m_goto (y := yiX1_wall) 61 dX1_wall_99 (by decide) ?_
                exact ih61 _ (by omega) _ _ rfl (by omega) (by rw [mskE_s hk.1, hs]; first | rw [if_pos (by omega)] | rw [if_neg (by omega), Int.add_zero])
              · refine j_iconst (y := yiX1_wall) dX1_wall_85 ?_
                refine j_iload (y := yiX1_wall) dX1_wall_86 rfl ?_
                refine j_ishl1 (y := yiX1_wall) dX1_wall_88 ⟨by omega, by omega⟩ ?_
                refine m_goto (y := yiX1_wall) 93 dX1_wall_89 (by decide) ?_
                refine j_iorM (y := yiX1_wall) dX1_wall_93 (by exact ⟨by rw [hs]; exact mskE_b _ _ _, by omega⟩) ?_
                refine j_istore (y := yiX1_wall) [some (.ref x), some (vi fr), some (vi day), some (vi mi), some (vi ah), some (.ref r50), some (vi (st + (2 ^ k.toNat))), some (vi k)] dX1_wall_94 (by decide) rfl rfl ?_
                refine j_iinc (y := yiX1_wall) [some (.ref x), some (vi fr), some (vi day), some (vi mi), some (vi ah), some (.ref r50), some (vi (st + (2 ^ k.toNat))), some (vi (k + 1))] dX1_wall_96 rfl (by decide) rfl rfl ?_
                refine m_goto (y := yiX1_wall) 61 dX1_wall_99 (by decide) ?_
                exact ih61 _ (by omega) _ _ rfl (by omega) (by rw [mskE_s hk.1, hs]; first | rw [if_pos (by omega)] | rw [if_neg (by omega), Int.add_zero])
          exact L61 _ _ _ rfl (by omega) rfl
  · refine mw_top (x' := 0) ((bz_f c5).symm) ?_
    refine m_invS (y := yiX1_wall) [(vi 0)] dX1_wall_5 q893 q894 q123 q895 (c_X1_requireIndex_0 K 6 h (by omega) ⟨by omega, by omega⟩) pdX1_requireIndex ⟨Nat.le_of_ble_eq_true rfl, by decide, by omega⟩ kk_t (kx_t fun q5 h5 x5 => ?_)
    subst hQ; exact mx_ret rfl (Or.inr ⟨0, RJ14, q5, rfl, rfl, fun _ => ⟨QFr.th x5 ⟨by omega, by omega⟩ ⟨by omega, by omega⟩ (fun _ _ => rfl), Or.inl ⟨c5, rfl⟩⟩⟩)
theorem q_earliestByRounds (K : KT) (d : Nat) (h : MH) (z x : Nat) (sg : TS) (fr to day mi : Int) (hd : 18 ≤ d) (hIv : Iv sg) (hW : World K h z x sg) (hz1 : z ≤ h.1) (i1 : In fr) (i2 : In to) (i3 : In day) (i4 : In mi) (hz : h.1 + 25000 ≤ kC K ∧ h.2.1 + 304000 ≤ kS K) : Mt K yiX1_earliestByRounds d [.ref x, vi fr, vi to, vi day, vi mi] h (Rw [RJ14, RJ12, RJ17] fun th v h' => QFr h h' ∧ earP sg fr to day mi th v) := by
  have hF := hIv.1
  have f1b := of1 (hF.1.1 1)
  have hW0 := hW
  obtain ⟨own, e0, cc, ch, wk, sv, tr, lt, ws, tx, se, te, we, kp, sp, tp, wp, T, hK, hE, hI, hx, hch, hwk, hsv, htr, hlt, hws, htx, hkp, hR0⟩ := hW
  obtain ⟨hx, hxz, -⟩ := tg_at hx
  obtain ⟨hch, hchz, -⟩ := tg_at hch
  have hE1 := hE.1
  obtain ⟨hE2, hE2z, -⟩ := tg_at hE.2
  obtain ⟨k0, k1, k3, k4, k5, k8, k9, k10, k11, k12⟩ := hK
  have hwk := And.intro hwk.1.C hwk.2
  refine mt_ofQ (by decide) (Nat.le_of_ble_eq_true rfl) (fun Q hQ => ?_)
  show MW K yiX1_earliestByRounds d h 0 [some (.ref x), some (vi fr), some (vi to), some (vi day), some (vi mi), none] [] Q
  refine mw_wf (fun hwf => ?_)
  have l_hx := hwf _ _ hx
  have fR : ∀ b, (b < h.1) → h.2.2 b = h.2.2 b := fun _ _ => rfl
  refine m_aload_n (y := yiX1_earliestByRounds) dX1_earliestByRounds_0 rfl ?_
  refine j_iload_n (y := yiX1_earliestByRounds) dX1_earliestByRounds_1 rfl ?_
  refine j_iload_n (y := yiX1_earliestByRounds) dX1_earliestByRounds_2 rfl ?_
  refine j_iload_n (y := yiX1_earliestByRounds) dX1_earliestByRounds_3 rfl ?_
  refine j_iload (y := yiX1_earliestByRounds) dX1_earliestByRounds_4 rfl ?_
  by_cases c6 : (0 ≤ fr ∧ fr ≤ sg.1 1 - 1) ∧ 0 ≤ to ∧ to ≤ sg.1 1 - 1
  · by_cases c6_1 : (0 ≤ day ∧ day ≤ 27) ∧ 0 ≤ mi ∧ mi ≤ 1439
    · refine m_invV (y := yiX1_earliestByRounds) (rB := (RX1, TX1, 10)) [(vi fr), (vi to), (vi day), (vi mi)] dX1_earliestByRounds_6 hx rfl q1861 q1863 qs31 q123 q1864 rfl (c_reqAsked (d := 2) fr to day mi (by omega) hx ⟨by omega, by omega⟩ i1 i2 i3 i4 c6 c6_1) pdX1_requireAsked ⟨Nat.le_of_ble_eq_true rfl, by decide, by omega⟩ (kk_v fun h6 q6 => ?_) kx_v
      obtain rfl := q6
      refine m_aload_n (y := yiX1_earliestByRounds) dX1_earliestByRounds_9 rfl ?_
      refine m_aload_n (y := yiX1_earliestByRounds) dX1_earliestByRounds_10 rfl ?_
      refine j_iload_n (y := yiX1_earliestByRounds) dX1_earliestByRounds_11 rfl ?_
      refine m_invV (y := yiX1_earliestByRounds) (rB := (RX1, TX1, 10)) [(vi day)] dX1_earliestByRounds_12 hx rfl q1869 q1871 qs33 q123 q1872 rfl (c_X1_runsAbout K 9 h z x sg day (by omega) hF.1 hIv.2.1 hIv.2.2.1 hW0 hz1 c6_1.1 ⟨by omega, by omega⟩) pdX1_runsAbout ⟨Nat.le_of_ble_eq_true rfl, by decide, by omega⟩ (kk_r fun r12 h12 q12 => ?_) kx_r
      obtain ⟨e0', re, n, rix, p, hRu, n3, y3, z3, f3, l3, k03⟩ := q12
      have hx : h12.2.2 x = some (true, .inr (0, [(.ref ch), (.ref wk), (vi (sg.1 1)), (.ref sv), (.ref tr), (.ref lt), (.ref ws), (.ref tx), (vi (sg.1 21)), (va_rf kp)])) := (f3 _ (by omega)).trans hx
      have fR : ∀ b, (b < h.1) → h12.2.2 b = h.2.2 b := fun b hb => (f3 b (by omega)).trans (fR b hb)
      refine mw_wf (fun hwf12 => ?_)
      refine j_iload_n (y := yiX1_earliestByRounds) dX1_earliestByRounds_15 rfl ?_
      refine j_iload (y := yiX1_earliestByRounds) dX1_earliestByRounds_16 rfl ?_
      refine m_invV (y := yiX1_earliestByRounds) (rB := (RX1, TX1, 10)) [(.ref r12), (vi fr), (vi mi)] dX1_earliestByRounds_18 hx rfl q2315 q2317 qs50 q123 q2318 rfl (c_rounds K 8 h12 z x sg day e0' r12 re n rix p fr mi (by omega) hIv (hW0.cg (fun b hb => f3 b (by omega))) (by omega) c6_1.1 hRu ⟨by omega, by omega⟩ ⟨by omega, by omega⟩ ⟨by omega, by omega⟩) pdX1_rounds ⟨Nat.le_of_ble_eq_true rfl, by decide, by omega⟩ (kk_r fun r18 h18 q18 => ?_) kx_r
      obtain ⟨e0q, eq, wy, N, pq, AR, BY, RD, hLq, hN, hLb, hEn, y18, z18, f18, l18⟩ := q18
      obtain ⟨wq, capq, mcq, frq, hoq, heq, haeq, h0q, hwq, hcapq, hfq, hnoq⟩ := hLq
      have hx : h18.2.2 x = some (true, .inr (0, [(.ref ch), (.ref wk), (vi (sg.1 1)), (.ref sv), (.ref tr), (.ref lt), (.ref ws), (.ref tx), (vi (sg.1 21)), (va_rf kp)])) := (f18 _ (by omega)).trans hx
      have fR : ∀ b, (b < h.1) → h18.2.2 b = h.2.2 b := fun b hb => (f18 b (by omega)).trans (fR b hb)
      refine mw_wf (fun hwf18 => ?_)
      have l_hoq18 := hwf18 _ _ hoq
      have l_heq18 := hwf18 _ _ heq
      refine m_astore (y := yiX1_earliestByRounds) dX1_earliestByRounds_21 (by decide) rfl ?_
      show MW K yiX1_earliestByRounds d h18 23 [some (.ref x), some (vi fr), some (vi to), some (vi day), some (vi mi), some (.ref r18)] [] Q
      refine m_aload (y := yiX1_earliestByRounds) dX1_earliestByRounds_23 rfl ?_
      refine m_aload (y := yiX1_earliestByRounds) dX1_earliestByRounds_25 rfl ?_
      refine m_invV (y := yiX1_earliestByRounds) (rB := (RJ2, TJ2, 3)) [] dX1_earliestByRounds_27 hoq rfl q333 q334 q335 q126 q336 rfl (c_J2_size K 0 h18 _ _ _ _ hoq) pdJ2_size ⟨Nat.le_of_ble_eq_true rfl, by decide, by omega⟩ (kk_z fun r27 h27 q27 => ?_) kx_z
      obtain ⟨rfl, rfl⟩ := q27
      refine mw_top (x' := N) rfl ?_
      refine j_iconst (y := yiX1_earliestByRounds) dX1_earliestByRounds_30 ?_
      refine j_isub (y := yiX1_earliestByRounds) dX1_earliestByRounds_31 ?_
      refine m_invV (y := yiX1_earliestByRounds) (rB := (RJ2, TJ2, 3)) [(vi (N - 1))] dX1_earliestByRounds_32 hoq rfl q1035 q1036 q1037 q126 q1038 rfl (c_J2_get K 2 h18 _ _ _ _ _ _ _ _ _ (by omega) hoq heq ⟨by omega, by omega⟩ ⟨by omega, by omega⟩ (hfq _ (by omega) (by omega))) pdJ2_get ⟨Nat.le_of_ble_eq_true rfl, by decide, by omega⟩ (kk_r fun r32 h32 q32 => ?_) kx_r
      obtain ⟨rfl, rfl⟩ := q32
      obtain ⟨A, B, R, chg, ⟨k1, k2, k3, k4⟩, hCL, hRg⟩ := hLb (N - 1).toNat (by omega)
      have eN : (((N - 1).toNat : Nat) : Int) = N - 1 := by omega
      rw [eN] at k1 k2 hRg
      have k1 : h18.2.2 (pq (N - 1)) = some (true, .inr (9, [(vi (-1)), (.ref wy), (.ref A), (.ref B), (.ref R), (vi chg), (.ref x)])) := k1
      have l_k1 := hwf18 _ _ k1
      have k2 : h18.2.2 A = some (true, ia K 12 (AR (N - 1))) := k2
      have l_k2 := hwf18 _ _ k2
      refine m_cast (y := yiX1_earliestByRounds) dX1_earliestByRounds_35 k1 rfl q2100 (Or.inl rfl) ?_
      refine m_getfN (y := yiX1_earliestByRounds) kc_9 2 (by decide) dX1_earliestByRounds_38 q2113 k1 rfl ?_
      refine j_iload_n (y := yiX1_earliestByRounds) dX1_earliestByRounds_41 rfl ?_
      refine j_iald (y := yiX1_earliestByRounds) dX1_earliestByRounds_42 k2 (by omega) ⟨by omega, by omega⟩ ?_
      have hvt := hRg.1.v (s := to) ⟨by omega, by omega⟩
      have hea : EA (sd sg day) fr mi to (AR (N - 1) to) := EA_of (n0 := (N - 1).toNat) (fun k hk => hEn k (by omega) to c6.2.1 (by show to < sg.1 1; omega))
      by_cases c43 : AR (N - 1) to < 1000000
      · refine m_invS (y := yiX1_earliestByRounds) [(vi ((AR (N - 1)) to))] dX1_earliestByRounds_43 q2161 q2162 q123 q2163 (c_X1_told_1 K 1 h18 (AR (N - 1) to) (by omega) ⟨by omega, by omega⟩ c43) pdX1_told ⟨Nat.le_of_ble_eq_true rfl, by decide, by omega⟩ (kk_z fun r43 h43 q43 => ?_) kx_z
        obtain ⟨rfl, rfl⟩ := q43
        refine mw_top (x' := AR (N - 1) to) rfl ?_
        subst hQ; exact j_wret (y := yiX1_earliestByRounds) dX1_earliestByRounds_46 rfl (⟨QFr.of (by omega) (by omega) fR, Or.inr ⟨ask3 c6 c6_1, AR (N - 1) to, hea, by rw [if_neg (by omega)], fun _ => rfl⟩⟩)
      · refine m_invS (y := yiX1_earliestByRounds) [(vi ((AR (N - 1)) to))] dX1_earliestByRounds_43 q2161 q2162 q123 q2163 (c_X1_told_0 K 7 h18 (AR (N - 1) to) (by omega) ⟨by omega, by omega⟩ c43 ⟨by omega, by omega⟩) pdX1_told ⟨Nat.le_of_ble_eq_true rfl, by decide, by omega⟩ kk_t (kx_t fun q43 h43 x43 => ?_)
        subst hQ; exact mx_ret rfl (Or.inr ⟨2, RJ17, q43, rfl, rfl, fun _ => ⟨QFr.th x43 ⟨by omega, by omega⟩ ⟨by omega, by omega⟩ fR, Or.inr ⟨ask3 c6 c6_1, AR (N - 1) to, hea, by rw [if_pos (by omega)]; rfl, fun h9 => absurd h9 c43⟩⟩⟩)
    · refine m_invV (y := yiX1_earliestByRounds) (rB := (RX1, TX1, 10)) [(vi fr), (vi to), (vi day), (vi mi)] dX1_earliestByRounds_6 hx rfl q1861 q1863 qs31 q123 q1864 rfl (c_reqAsked_2 (d := 8) fr to day mi (by omega) hx ⟨by omega, by omega⟩ i1 i2 i3 i4 c6 c6_1 ⟨by omega, by omega⟩) pdX1_requireAsked ⟨Nat.le_of_ble_eq_true rfl, by decide, by omega⟩ kk_t (kx_t fun q6 h6 x6 => ?_)
      subst hQ; exact mx_ret rfl (Or.inr ⟨1, RJ12, q6, rfl, rfl, fun _ => (by first | exact ⟨QFr.th x6 ⟨by omega, by omega⟩ ⟨by omega, by omega⟩ (fun _ _ => rfl), Or.inl (by rw [ask1 c6]; exact ⟨by decide, rfl⟩)⟩ | exact ⟨QFr.th x6 ⟨by omega, by omega⟩ ⟨by omega, by omega⟩ (fun _ _ => rfl), Or.inl (by rw [ask2 c6 c6_1]; exact ⟨by decide, rfl⟩)⟩)⟩)
  · refine m_invV (y := yiX1_earliestByRounds) (rB := (RX1, TX1, 10)) [(vi fr), (vi to), (vi day), (vi mi)] dX1_earliestByRounds_6 hx rfl q1861 q1863 qs31 q123 q1864 rfl (c_reqAsked_1 (d := 8) fr to day mi (by omega) hx ⟨by omega, by omega⟩ i1 i2 c6 ⟨by omega, by omega⟩) pdX1_requireAsked ⟨Nat.le_of_ble_eq_true rfl, by decide, by omega⟩ kk_t (kx_t fun q6 h6 x6 => ?_)
    subst hQ; exact mx_ret rfl (Or.inr ⟨0, RJ14, q6, rfl, rfl, fun _ => (by first | exact ⟨QFr.th x6 ⟨by omega, by omega⟩ ⟨by omega, by omega⟩ (fun _ _ => rfl), Or.inl (by rw [ask1 c6]; exact ⟨by decide, rfl⟩)⟩ | exact ⟨QFr.th x6 ⟨by omega, by omega⟩ ⟨by omega, by omega⟩ (fun _ _ => rfl), Or.inl (by rw [ask2 c6 c6_1]; exact ⟨by decide, rfl⟩)⟩)⟩)
/-- the choices in a list: each is 5000 times the rides and the arrival -/
def ChoQ (K : KT) (h h' : MH) (sg : TS) (fr to day mi : Int) (r : Nat) : Prop := ∃ (e0 e : Nat) (m N : Int) (a : Int → Int) (p : Int → Nat), chR sg fr to day mi N a ∧ LsB K h' e0 r e m p ∧ m = chM a N.toNat ∧ (∀ i, 0 ≤ i → i < m → ∃ q w, chI a N i q w ∧ IgA h' (p i) (5000 * q + w) ∧ In (5000 * q + w)) ∧ (h.1 ≤ h'.1 ∧ h'.1 ≤ h.1 + 1200) ∧ (h.2.1 ≤ h'.2.1 ∧ h'.2.1 ≤ h.2.1 + 40000) ∧ ∀ b, b < h.1 → h'.2.2 b = h.2.2 b
theorem chB_le {a : Int → Int} {k : Int} (hk : 0 ≤ k) : chB a (k + 1).toNat ≤ a k := by
  rw [chB_s hk]; split <;> omega
theorem chI.s {a : Int → Int} {N i q w : Int} (h : chI a N i q w) : chI a (N + 1) i q w := by
  obtain ⟨k, h1, h2, h3⟩ := h; exact ⟨k, h1, by omega, h3⟩
theorem chI.le {a : Int → Int} {N M i q w : Int} (h : chI a N i q w) (hm : N ≤ M) : chI a M i q w := by
  obtain ⟨k, h1, h2, h3⟩ := h; exact ⟨k, h1, by omega, h3⟩
/-- the list of choices under way -/
def ChoI (K : KT) (g : MH) (e0 L e2 : Nat) (a : Int → Int) (k m : Int) (p : Int → Nat) : Prop := LsB K g e0 L e2 m p ∧ (e2 = e0 ∨ L + 1 < e2) ∧ m = chM a k.toNat ∧ ∀ i, 0 ≤ i → i < m → ∃ q w, chI a k i q w ∧ IgA (exc L e2 g) (p i) (5000 * q + w) ∧ In (5000 * q + w)
theorem ChoI.skip {K : KT} {g : MH} {e0 L e2 : Nat} {a : Int → Int} {k m : Int} {p : Int → Nat} (I : ChoI K g e0 L e2 a k m p) (hk : 0 ≤ k) (hn : ¬ a k < chB a k.toNat) : ChoI K g e0 L e2 a (k + 1) m p := ⟨I.1, I.2.1, by rw [chM_s hk, if_neg hn]; exact I.2.2.1, fun i b c => by obtain ⟨q, w, h1, h2⟩ := I.2.2.2 i b c; exact ⟨q, w, h1.s, h2⟩⟩
theorem ChoI.add {K : KT} {g g' : MH} {e0 L e2 e' v : Nat} {a : Int → Int} {k m : Int} {p : Int → Nat} (I : ChoI K g e0 L e2 a k m p) (hk : 0 ≤ k) (hn : a k < chB a k.toNat) (hL : LsB K g' e0 L e' (m + 1) (upn p m v)) (he : e' = e2 ∨ L + 1 < e') (hx : ∀ b c, (exc L e2 g).2.2 b = some c → (exc L e' g').2.2 b = some c) (hv : IgA (exc L e' g') v (5000 * k + a k)) (hi : In (5000 * k + a k)) : ChoI K g' e0 L e' a (k + 1) (m + 1) (upn p m v) := by
  obtain ⟨i1, i2, i3, i4⟩ := I
  refine ⟨hL, by omega, by rw [chM_s hk, if_pos hn, i3], fun i b c => ?_⟩
  by_cases e : i = m
  · rw [e, upn_at]; exact ⟨k, a k, ⟨k, hk, by omega, hn, i3.symm, rfl, rfl⟩, hv, hi⟩
  · rw [upn_ne e]
    obtain ⟨q, w, h1, h2, h3⟩ := i4 i b (by omega)
    exact ⟨q, w, h1.s, h2.up hx, h3⟩
theorem ChoI.it {K : KT} {g g' : MH} {e0 L e2 it : Nat} {a : Int → Int} {k m : Int} {p : Int → Nat} {w : Bool} {fs : List Value} (I : ChoI K g e0 L e2 a k m p) (hit : g.2.2 it = some (w, .inr (15, fs))) (e : ∀ b c, g.2.2 b = some c → b ≠ it → g'.2.2 b = some c) : ChoI K g' e0 L e2 a k m p := by
  obtain ⟨⟨w1, cap, mc, f, i1, i2, i3⟩, j1, j2, j3⟩ := I
  refine ⟨⟨w1, cap, mc, f, e _ _ i1 (ne_oo i1 hit (by decide)), e _ _ i2 (ne_oa hit i2).symm, i3⟩, j1, j2, fun i b c => ?_⟩
  obtain ⟨q, x, h1, ⟨w2, h2⟩, h3⟩ := j3 i b c
  have u := exc_at h2
  exact ⟨q, x, h1, ⟨w2, exc_mk (e _ _ u.1 (ne_oo u.1 hit (by decide))) u.2.1 u.2.2⟩, h3⟩
set_option maxHeartbeats 4000000 in
theorem c_choicesC (K : KT) (d : Nat) (h : MH) (z x : Nat) (sg : TS) (fr to day mi : Int) (hd : 12 ≤ d) (hIv : Iv sg) (hW : World K h z x sg) (hz1 : z ≤ h.1) (hf : 0 ≤ fr ∧ fr < sg.1 1) (ht : 0 ≤ to ∧ to < sg.1 1) (hy : 0 ≤ day ∧ day ≤ 27) (hmi : 0 ≤ mi ∧ mi ≤ 1439) (hz : h.1 + 1300 ≤ kC K ∧ h.2.1 + 41000 ≤ kS K) : Mt K yiX1_choicesOf d [.ref x, vi fr, vi to, vi day, vi mi] h (Rr fun r h' => ChoQ K h h' sg fr to day mi r) := by
  have hF := hIv.1
  have f1b := of1 (hF.1.1 1)
  have hW0 := hW
  obtain ⟨own, e0, cc, ch, wk, sv, tr, lt, ws, tx, se, te, we, kp, sp, tp, wp, T, hK, hE, hI, hx, hch, hwk, hsv, htr, hlt, hws, htx, hkp, hR0⟩ := hW
  obtain ⟨hx, hxz, -⟩ := tg_at hx
  obtain ⟨hch, hchz, -⟩ := tg_at hch
  have hE1 := hE.1
  obtain ⟨hE2, hE2z, -⟩ := tg_at hE.2
  obtain ⟨k0, k1, k3, k4, k5, k8, k9, k10, k11, k12⟩ := hK
  have hwk := And.intro hwk.1.C hwk.2
  refine mt_ofQ (by decide) (Nat.le_of_ble_eq_true rfl) (fun Q hQ => ?_)
  show MW K yiX1_choicesOf d h 0 [some (.ref x), some (vi fr), some (vi to), some (vi day), some (vi mi), none, none, none, none, none] [] Q
  refine mw_wf (fun hwf => ?_)
  have l_hx := hwf _ _ hx
  have l_hE2 := hwf _ _ hE2
  have fR : ∀ b, (b < h.1) → h.2.2 b = h.2.2 b := fun _ _ => rfl
  refine m_new (y := yiX1_choicesOf) kc_14 3 dX1_choicesOf_0 q199 q200 q126 _ rfl ⟨by omega, by omega⟩ (hp_new fun g1 g1H => ?_)
  have hx : g1.2.2 x = some (true, .inr (0, [(.ref ch), (.ref wk), (vi (sg.1 1)), (.ref sv), (.ref tr), (.ref lt), (.ref ws), (.ref tx), (vi (sg.1 21)), (va_rf kp)])) := (g1H.2.2.2 _ (by (repeat' apply And.intro) <;> omega)).trans hx
  have hE2 : g1.2.2 e0 = some (false, oaE K 0 (fun _ => none)) := (g1H.2.2.2 _ (by (repeat' apply And.intro) <;> omega)).trans hE2
  have fR : ∀ b, (b < h.1) → g1.2.2 b = h.2.2 b := fun b hb => (g1H.2.2.2 b (by (repeat' apply And.intro) <;> omega)).trans (fR b hb)
  have fg1 : g1.2.2 h.1 = some (true, .inr (14, [(vi 0), .null, (vi 0)])) := g1H.2.2.1
  have g11 := g1H.1
  have g12 := g1H.2.1
  refine m_dup (y := yiX1_choicesOf) dX1_choicesOf_3 rfl ?_
  refine m_invI (y := yiX1_choicesOf) [] dX1_choicesOf_4 q201 q202 q126 q203 rfl rfl (c_J2_init K 3 g1 h.1 e0 (by omega) k0 fg1) pdJ2_init ⟨Nat.le_of_ble_eq_true rfl, by decide, by omega⟩ (kk_v fun h4 q4 => ?_) kx_v
  obtain q4 := q4
  have y4 := q4.1
  have z4 := q4.2.1
  have u4 := q4.2.2.1
  have hx : h4.2.2 x = some (true, .inr (0, [(.ref ch), (.ref wk), (vi (sg.1 1)), (.ref sv), (.ref tr), (.ref lt), (.ref ws), (.ref tx), (vi (sg.1 21)), (va_rf kp)])) := (q4.2.2.2 _ (by (repeat' apply And.intro) <;> omega)).trans hx
  have hE2 : h4.2.2 e0 = some (false, oaE K 0 (fun _ => none)) := (q4.2.2.2 _ (by (repeat' apply And.intro) <;> omega)).trans hE2
  have fR : ∀ b, (b < h.1) → h4.2.2 b = h.2.2 b := fun b hb => (q4.2.2.2 b (by (repeat' apply And.intro) <;> omega)).trans (fR b hb)
  refine mw_wf (fun hwf4 => ?_)
  have l_u44 := hwf4 _ _ u4
  refine m_astore (y := yiX1_choicesOf) dX1_choicesOf_7 (by decide) rfl ?_
  show MW K yiX1_choicesOf d h4 9 [some (.ref x), some (vi fr), some (vi to), some (vi day), some (vi mi), some (.ref h.1), none, none, none, none] [] Q
  refine j_ldc (y := yiX1_choicesOf) (1000000) dX1_choicesOf_9 q920 (by decide) ?_
  refine j_istore (y := yiX1_choicesOf) [some (.ref x), some (vi fr), some (vi to), some (vi day), some (vi mi), some (.ref h.1), some (vi 1000000), none, none, none] dX1_choicesOf_11 (by decide) rfl rfl ?_
  refine j_iconst (y := yiX1_choicesOf) dX1_choicesOf_13 ?_
  refine j_istore (y := yiX1_choicesOf) [some (.ref x), some (vi fr), some (vi to), some (vi day), some (vi mi), some (.ref h.1), some (vi 1000000), some (vi 0), none, none] dX1_choicesOf_14 (by decide) rfl rfl ?_
  refine m_aload_n (y := yiX1_choicesOf) dX1_choicesOf_16 rfl ?_
  refine m_aload_n (y := yiX1_choicesOf) dX1_choicesOf_17 rfl ?_
  refine j_iload_n (y := yiX1_choicesOf) dX1_choicesOf_18 rfl ?_
  refine m_invV (y := yiX1_choicesOf) (rB := (RX1, TX1, 10)) [(vi day)] dX1_choicesOf_19 hx rfl q1869 q1871 qs33 q123 q1872 rfl (c_X1_runsAbout K 9 h4 z x sg day (by omega) hF.1 hIv.2.1 hIv.2.2.1 (hW0.cg (fun b hb => fR b (by omega))) (by omega) hy ⟨by omega, by omega⟩) pdX1_runsAbout ⟨Nat.le_of_ble_eq_true rfl, by decide, by omega⟩ (kk_r fun r19 h19 q19 => ?_) kx_r
  obtain ⟨e0', re, n, rix, p, hRu, n3, y3, z3, f3, l3, k03⟩ := q19
  have hx : h19.2.2 x = some (true, .inr (0, [(.ref ch), (.ref wk), (vi (sg.1 1)), (.ref sv), (.ref tr), (.ref lt), (.ref ws), (.ref tx), (vi (sg.1 21)), (va_rf kp)])) := (f3 _ (by (repeat' apply And.intro) <;> omega)).trans hx
  have hE2 : h19.2.2 e0 = some (false, oaE K 0 (fun _ => none)) := (f3 _ (by (repeat' apply And.intro) <;> omega)).trans hE2
  have u4 : h19.2.2 h.1 = some (true, .inr (14, [(vi 0), (.ref e0), (vi 0)])) := (f3 _ (by (repeat' apply And.intro) <;> omega)).trans u4
  have fR : ∀ b, (b < h.1) → h19.2.2 b = h.2.2 b := fun b hb => (f3 b (by (repeat' apply And.intro) <;> omega)).trans (fR b hb)
  refine mw_wf (fun hwf19 => ?_)
  refine j_iload_n (y := yiX1_choicesOf) dX1_choicesOf_22 rfl ?_
  refine j_iload (y := yiX1_choicesOf) dX1_choicesOf_23 rfl ?_
  refine m_invV (y := yiX1_choicesOf) (rB := (RX1, TX1, 10)) [(.ref r19), (vi fr), (vi mi)] dX1_choicesOf_25 hx rfl q2315 q2317 qs50 q123 q2318 rfl (c_rounds K 8 h19 z x sg day e0' r19 re n rix p fr mi (by omega) hIv (hW0.cg (fun b hb => fR b (by omega))) (by omega) hy hRu hf ⟨by omega, by omega⟩ ⟨by omega, by omega⟩) pdX1_rounds ⟨Nat.le_of_ble_eq_true rfl, by decide, by omega⟩ (kk_r fun r25 h25 q25 => ?_) kx_r
  obtain ⟨e0q, eq, wy, Nr, pq, AR, BY, RD, hLq, hN, hLb, hEn, y18, z18, f18, l18⟩ := q25
  obtain ⟨wq, capq, mcq, frq, hoq, heq, haeq, h0q, hwq, hcapq, hfq, hnoq⟩ := hLq
  have hx : h25.2.2 x = some (true, .inr (0, [(.ref ch), (.ref wk), (vi (sg.1 1)), (.ref sv), (.ref tr), (.ref lt), (.ref ws), (.ref tx), (vi (sg.1 21)), (va_rf kp)])) := (f18 _ (by (repeat' apply And.intro) <;> omega)).trans hx
  have hE2 : h25.2.2 e0 = some (false, oaE K 0 (fun _ => none)) := (f18 _ (by (repeat' apply And.intro) <;> omega)).trans hE2
  have u4 : h25.2.2 h.1 = some (true, .inr (14, [(vi 0), (.ref e0), (vi 0)])) := (f18 _ (by (repeat' apply And.intro) <;> omega)).trans u4
  have fR : ∀ b, (b < h.1) → h25.2.2 b = h.2.2 b := fun b hb => (f18 b (by (repeat' apply And.intro) <;> omega)).trans (fR b hb)
  refine mw_wf (fun hwf25 => ?_)
  have l_hoq25 := hwf25 _ _ hoq
  have l_heq25 := hwf25 _ _ heq
  have hwf25' := hwf25
  have hbq : eq < h25.1 := hwf25 _ _ heq
  have u425 := u4
  have nq : eq ≠ h.1 := (ne_oa u425 heq).symm
  have fq : ∀ b, (b < h25.1 ∧ b ≠ h.1) → h25.2.2 b = h25.2.2 b := fun _ _ => rfl
  refine m_invV (y := yiX1_choicesOf) (rB := (RJ2, TJ2, 3)) [] dX1_choicesOf_28 hoq rfl q716 q717 q718 q126 q719 rfl (c_J2_iterator K 2 h25 _ _ _ _ (by omega) hoq ⟨by omega, by omega⟩) pdJ2_iterator ⟨Nat.le_of_ble_eq_true rfl, by decide, by omega⟩ (kk_r fun r28 h28 q28 => ?_) kx_r
  obtain ⟨rfl, q28⟩ := q28
  have y28 := q28.1
  have z28 := q28.2.1
  have it28 := q28.2.2.1
  have hx : h28.2.2 x = some (true, .inr (0, [(.ref ch), (.ref wk), (vi (sg.1 1)), (.ref sv), (.ref tr), (.ref lt), (.ref ws), (.ref tx), (vi (sg.1 21)), (va_rf kp)])) := (q28.2.2.2 _ (by (repeat' apply And.intro) <;> omega)).trans hx
  have hE2 : h28.2.2 e0 = some (false, oaE K 0 (fun _ => none)) := (q28.2.2.2 _ (by (repeat' apply And.intro) <;> omega)).trans hE2
  have u4 : h28.2.2 h.1 = some (true, .inr (14, [(vi 0), (.ref e0), (vi 0)])) := (q28.2.2.2 _ (by (repeat' apply And.intro) <;> omega)).trans u4
  have hoq : h28.2.2 r25 = some (true, .inr (14, [(vi mcq), (.ref eq), (vi Nr)])) := (q28.2.2.2 _ (by (repeat' apply And.intro) <;> omega)).trans hoq
  have heq : h28.2.2 eq = some (wq, oaE K capq frq) := (q28.2.2.2 _ (by (repeat' apply And.intro) <;> omega)).trans heq
  have fR : ∀ b, (b < h.1) → h28.2.2 b = h.2.2 b := fun b hb => (q28.2.2.2 b (by (repeat' apply And.intro) <;> omega)).trans (fR b hb)
  have fq : ∀ b, (b < h25.1 ∧ b ≠ h.1) → h28.2.2 b = h25.2.2 b := fun b hb => (q28.2.2.2 b (by (repeat' apply And.intro) <;> omega)).trans (fq b hb)
  refine mw_wf (fun hwf28 => ?_)
  have l_it2828 := hwf28 _ _ it28
  obtain ⟨a, ha⟩ : ∃ a : Int → Int, a = (fun k => if k < Nr then AR k to else AR (Nr - 1) to) := ⟨_, rfl⟩
  have ha1 : ∀ k, k < Nr → a k = AR k to := fun k hk => by rw [ha]; exact if_pos hk
  have ha2 : a Nr = AR (Nr - 1) to := by rw [ha]; exact if_neg (by omega)
  have hchR : chR sg fr to day mi (Nr + 1) a := ⟨⟨by omega, by omega⟩, fun k hk => by { by_cases e9 : (k : Int) < Nr; { obtain ⟨A', B', R', cg', hLb', hCL', hRg'⟩ := hLb k e9; rw [ha1 _ e9]; exact hCL'.ean (hF.sd hy).2.2.2 (by show sg.1 1 ≤ 12; omega) hRg'.1 ht }; { have e8 : (k : Int) = Nr := (by omega); rw [e8, ha2]; exact hEn k (by omega) to ht.1 ht.2 } }, fun k hk => by { rw [Int.add_sub_cancel, ha2]; exact hEn k (by omega) to ht.1 ht.2 }⟩
  refine m_astore (y := yiX1_choicesOf) dX1_choicesOf_31 (by decide) rfl ?_
  show MW K yiX1_choicesOf d h28 33 [some (.ref x), some (vi fr), some (vi to), some (vi day), some (vi mi), some (.ref h.1), some (vi 1000000), some (vi 0), some (.ref h25.1), none] [] Q
  have L33 : ∀ (N : Nat) (k l bst m : Int) (e2 : Nat) (p2 : Int → Nat) (g : MH), (Nr - k).toNat = N → (g.2.2 e0 = some (false, oaE K 0 (fun _ => none))) → (g.2.2 r25 = some (true, .inr (14, [(vi mcq), (.ref eq), (vi Nr)]))) → (g.2.2 eq = some (wq, oaE K capq frq)) → (g.2.2 h25.1 = some (true, .inr (15, [(vi k), (vi l), (vi mcq), (.ref r25)]))) → (∀ b, (b < h.1) → g.2.2 b = h.2.2 b) → (∀ b, (b < h25.1 ∧ b ≠ h.1) → g.2.2 b = h25.2.2 b) → (0 ≤ k ∧ k ≤ Nr) → (ChoI K g e0 h.1 e2 a k m p2) → (bst = chB a k.toNat) → (-2000 ≤ bst ∧ bst ≤ 1000000) → (Imp True (e2 = e0 ∨ h25.1 < e2)) → ((h25.1 + 1 ≤ g.1 ∧ (g.1 : Int) ≤ h25.1 + 1 + 2 * k) ∧ h25.2.1 ≤ g.2.1 ∧ (g.2.1 : Int) ≤ h25.2.1 + 4 + 111 * k) → MW K yiX1_choicesOf d g 33 [some (.ref x), some (vi fr), some (vi to), some (vi day), some (vi mi), some (.ref h.1), some (vi bst), some (vi k), some (.ref h25.1), none] [] Q := by
    intro N
    induction N using Nat.strongRecOn with
    | _ N ih33 =>
    intro k l bst m e2 p2 g hN33 hE2 hoq heq it28 fR fq hk hCI hbs hbr he2 hg
    refine mw_wf (fun hwf33 => ?_)
    have l_hE233 := hwf33 _ _ hE2
    have l_hoq33 := hwf33 _ _ hoq
    have l_heq33 := hwf33 _ _ heq
    have l_it2833 := hwf33 _ _ it28
    have itg := it28
    obtain ⟨w2, cap2, mc2, fx2, ho2, he2', hae2, h02, hw2, hcap2, hf2, hno2⟩ := id hCI.1
    have l_he2 := hwf33 _ _ he2'
    have hmb := chM_b a k.toNat
    have hm9 := hCI.2.2.1
    have ho2 : g.2.2 h.1 = some (true, .inr (14, [(vi mc2), (.ref e2), (vi m)])) := ho2
    have l_ho2 := hwf33 _ _ ho2
    refine m_aload (y := yiX1_choicesOf) dX1_choicesOf_33 rfl ?_
    refine m_invF (y := yiX1_choicesOf) (rB := (RJ28, TJ28, 4)) [] dX1_choicesOf_35 it28 rfl q744 q746 q745 rfl q748 q750 q751 q749 q747 q156 q752 ⟨by decide, by decide⟩ (by show _ = some 0; decide +kernel) (c_J28_hasNext K 0 g _ _ _ _ _ _ _ it28 hoq ⟨by omega, by omega, by omega⟩) pdJ28_hasNext ⟨Nat.le_of_ble_eq_true rfl, by decide, by omega⟩ (kk_z fun r35 h35 q35 => ?_) kx_z
    obtain ⟨rfl, rfl⟩ := q35
    refine mw_top (x' := bz (k ≠ Nr)) rfl ?_
    refine j_bz_eq (y := yiX1_choicesOf) 100 dX1_choicesOf_40 (by decide) (fun c40 => ?_) (fun c40 => ?_)
    · refine m_aload (y := yiX1_choicesOf) dX1_choicesOf_100 rfl ?_
      subst hQ; exact m_aret (y := yiX1_choicesOf) (x := (some h.1)) dX1_choicesOf_102 rfl (Or.inl ⟨_, rfl⟩) ⟨h.1, rfl, ⟨e0, e2, m, Nr + 1, a, p2, hchR, hCI.1, (by { rw [chM_s (by omega), if_neg (by have := chB_le (a := a) (k := Nr - 1) (by omega); rw [show Nr - 1 + 1 = Nr by omega, ha1 (Nr - 1) (by omega)] at this; rw [ha2]; omega), hCI.2.2.1, show k = Nr by omega] }), fun i b c => (by { obtain ⟨q9, w9, u1, u2, u3⟩ := hCI.2.2.2 i b c; exact ⟨q9, w9, u1.le (by omega), u2.up (fun b c e9 => (exc_at e9).1), u3⟩ }), by omega, by omega, fR⟩⟩
    · refine m_aload (y := yiX1_choicesOf) dX1_choicesOf_43 rfl ?_
      refine m_invF (y := yiX1_choicesOf) (rB := (RJ28, TJ28, 4)) [] dX1_choicesOf_45 it28 rfl q757 q759 q758 rfl q760 q762 q763 q761 q747 q156 q764 ⟨by decide, by decide⟩ (by show _ = some 0; decide +kernel) (c_J28_next K 1 g _ _ _ _ _ _ _ _ _ _ _ (by omega) it28 hoq heq ⟨by omega, by omega, by omega⟩ ⟨by omega, by omega, by omega, by omega⟩ (hfq _ (by omega) (by omega))) pdJ28_next ⟨Nat.le_of_ble_eq_true rfl, by decide, by omega⟩ (kk_r fun r45 h45 q45 => ?_) kx_r
      obtain ⟨rfl, q45⟩ := q45
      have y45 := q45.1
      have z45 := q45.2.1
      have it28 := q45.2.2.1
      have hE2 : h45.2.2 e0 = some (false, oaE K 0 (fun _ => none)) := (q45.2.2.2 _ (by (repeat' apply And.intro) <;> omega)).trans hE2
      have hoq : h45.2.2 r25 = some (true, .inr (14, [(vi mcq), (.ref eq), (vi Nr)])) := (q45.2.2.2 _ (by (repeat' apply And.intro) <;> omega)).trans hoq
      have heq : h45.2.2 eq = some (wq, oaE K capq frq) := (q45.2.2.2 _ (by (repeat' apply And.intro) <;> omega)).trans heq
      have ho2 : h45.2.2 h.1 = some (true, .inr (14, [(vi mc2), (.ref e2), (vi m)])) := (q45.2.2.2 _ (by (repeat' apply And.intro) <;> omega)).trans ho2
      have fR : ∀ b, (b < h.1) → h45.2.2 b = h.2.2 b := fun b hb => (q45.2.2.2 b (by (repeat' apply And.intro) <;> omega)).trans (fR b hb)
      have fq : ∀ b, (b < h25.1 ∧ b ≠ h.1) → h45.2.2 b = h25.2.2 b := fun b hb => (q45.2.2.2 b (by (repeat' apply And.intro) <;> omega)).trans (fq b hb)
      refine mw_wf (fun hwf45 => ?_)
      have l_it2845 := hwf45 _ _ it28
      have hCI45 := hCI.it itg (fun b c e9 n9 => (q45.2.2.2 b n9).trans e9)
      obtain ⟨w2, cap2, mc2, fx2, ho2', he2', hae2, h02, hw2, hcap2, hf2, hno2⟩ := id hCI45.1
      have l_he2 := hwf45 _ _ he2'
      obtain ⟨A, B, R, chg, ⟨k1', k2', k3', k4'⟩, hCL, hRg⟩ := hLb k.toNat (by omega)
      have eN : ((k.toNat : Nat) : Int) = k := by omega
      rw [eN] at k1' k2' hRg
      have lk1 := hwf25' _ _ k1'
      have lk2 := hwf25' _ _ k2'
      have n1 : pq k ≠ h.1 := ne_oo k1' u425 (by decide)
      have n2 : A ≠ h.1 := (ne_oa u425 k2').symm
      have ho2 : h45.2.2 h.1 = some (true, .inr (14, [(vi mc2), (.ref e2), (vi m)])) := ho2'
      have l_ho2 := hwf45 _ _ ho2
      have k1 : h45.2.2 (pq k) = some (true, .inr (9, [(vi (-1)), (.ref wy), (.ref A), (.ref B), (.ref R), (vi chg), (.ref x)])) := (fq _ (by omega)).trans k1'
      have l_k1 := hwf45 _ _ k1
      have k2 : h45.2.2 A = some (true, ia K 12 (AR k)) := (fq _ (by omega)).trans k2'
      have l_k2 := hwf45 _ _ k2
      refine m_cast (y := yiX1_choicesOf) dX1_choicesOf_50 k1 rfl q2100 (Or.inl rfl) ?_
      refine m_astore (y := yiX1_choicesOf) dX1_choicesOf_53 (by decide) rfl ?_
      show MW K yiX1_choicesOf d h45 55 [some (.ref x), some (vi fr), some (vi to), some (vi day), some (vi mi), some (.ref h.1), some (vi bst), some (vi k), some (.ref h25.1), some (.ref (pq k))] [] Q
      refine m_aload (y := yiX1_choicesOf) dX1_choicesOf_55 rfl ?_
      refine m_getfN (y := yiX1_choicesOf) kc_9 2 (by decide) dX1_choicesOf_57 q2113 k1 rfl ?_
      refine j_iload_n (y := yiX1_choicesOf) dX1_choicesOf_60 rfl ?_
      refine j_iald (y := yiX1_choicesOf) dX1_choicesOf_61 k2 (by omega) ⟨by omega, by omega⟩ ?_
      have hvt := hRg.1.v (s := to) ⟨by omega, by omega⟩
      refine j_iload (y := yiX1_choicesOf) dX1_choicesOf_62 rfl ?_
      refine j_icmp_ge (y := yiX1_choicesOf) 94 dX1_choicesOf_64 (by decide) ⟨⟨by omega, by omega⟩, ⟨by omega, by omega⟩⟩ (fun c64 => ?_) (fun c64 => ?_)
      · refine j_iinc (y := yiX1_choicesOf) [some (.ref x), some (vi fr), some (vi to), some (vi day), some (vi mi), some (.ref h.1), some (vi bst), some (vi (k + 1)), some (.ref h25.1), some (.ref (pq k))] dX1_choicesOf_94 rfl (by decide) rfl rfl ?_
        refine m_goto (y := yiX1_choicesOf) 33 dX1_choicesOf_97 (by decide) ?_
        refine mw_forget 9 ?_
        exact ih33 _ (by omega) (k + 1) k (bst) (m) (e2) (p2) _ rfl hE2 hoq heq it28 fR fq (by omega) (hCI45.skip hk.1 (by rw [ha1 k (by omega)]; omega)) (by rw [chB_s hk.1, if_neg (by rw [ha1 k (by omega)]; omega), hbs]) (by omega) he2 (by omega)
      · refine m_aload (y := yiX1_choicesOf) dX1_choicesOf_67 rfl ?_
        refine m_getfN (y := yiX1_choicesOf) kc_9 2 (by decide) dX1_choicesOf_69 q2113 k1 rfl ?_
        refine j_iload_n (y := yiX1_choicesOf) dX1_choicesOf_72 rfl ?_
        refine j_iald (y := yiX1_choicesOf) dX1_choicesOf_73 k2 (by omega) ⟨by omega, by omega⟩ ?_
        refine j_istore (y := yiX1_choicesOf) [some (.ref x), some (vi fr), some (vi to), some (vi day), some (vi mi), some (.ref h.1), some (vi ((AR k) to)), some (vi k), some (.ref h25.1), some (.ref (pq k))] dX1_choicesOf_74 (by decide) rfl rfl ?_
        refine m_aload (y := yiX1_choicesOf) dX1_choicesOf_76 rfl ?_
        refine j_sipush (y := yiX1_choicesOf) dX1_choicesOf_78 (by decide) ?_
        refine j_iload (y := yiX1_choicesOf) dX1_choicesOf_81 rfl ?_
        refine j_imul (y := yiX1_choicesOf) dX1_choicesOf_83 ?_
        refine j_iload (y := yiX1_choicesOf) dX1_choicesOf_84 rfl ?_
        refine j_iadd (y := yiX1_choicesOf) dX1_choicesOf_86 ?_
        refine m_invS (y := yiX1_choicesOf) [(vi ((5000 * k) + ((AR k) to)))] dX1_choicesOf_87 q1493 q1379 q151 q1380 (c_J25_valueOf K 4 h45 cc _ (by omega) k9 k10 (hI.up (fun b c e9 => (fR b (by have := (tg_at e9).2.1; omega)).trans (tg_at e9).1)) ⟨by omega, by omega⟩ ⟨by omega, by omega⟩) pdJ25_valueOf ⟨Nat.le_of_ble_eq_true rfl, by decide, by omega⟩ (kk_r fun r87 h87 q87 => ?_) kx_r
        obtain ⟨v1, v2, v3, v4, v5, v6⟩ := q87
        have hE2 : h87.2.2 e0 = some (false, oaE K 0 (fun _ => none)) := (v5 _ (by (repeat' apply And.intro) <;> omega)).trans hE2
        have hoq : h87.2.2 r25 = some (true, .inr (14, [(vi mcq), (.ref eq), (vi Nr)])) := (v5 _ (by (repeat' apply And.intro) <;> omega)).trans hoq
        have heq : h87.2.2 eq = some (wq, oaE K capq frq) := (v5 _ (by (repeat' apply And.intro) <;> omega)).trans heq
        have it28 : h87.2.2 h25.1 = some (true, .inr (15, [(vi (k + 1)), (vi k), (vi mcq), (.ref r25)])) := (v5 _ (by (repeat' apply And.intro) <;> omega)).trans it28
        have ho2 : h87.2.2 h.1 = some (true, .inr (14, [(vi mc2), (.ref e2), (vi m)])) := (v5 _ (by (repeat' apply And.intro) <;> omega)).trans ho2
        have fR : ∀ b, (b < h.1) → h87.2.2 b = h.2.2 b := fun b hb => (v5 b (by (repeat' apply And.intro) <;> omega)).trans (fR b hb)
        have fq : ∀ b, (b < h25.1 ∧ b ≠ h.1) → h87.2.2 b = h25.2.2 b := fun b hb => (v5 b (by (repeat' apply And.intro) <;> omega)).trans (fq b hb)
        refine mw_wf (fun hwf87 => ?_)
        have he2c : ∀ b, b ≤ h25.1 → (b ≠ e2 ∨ b = e0) := fun b hb => by { have := he2 trivial; omega }
        have gr9 : (grC m).toNat ≤ 110 := by { unfold grC; (repeat' split) <;> omega }
        refine m_invV (y := yiX1_choicesOf) (rB := (RJ2, TJ2, 3)) [(.ref r87)] dX1_choicesOf_90 ho2 rfl q953 q954 q955 q126 q956 rfl (c_Ladd K 6 h87 e0 h.1 e2 r87 m p2 22 (r := _) (by omega) ⟨k0, hE2⟩ (hCI45.1.up (fun b c e9 => (v5 b (hwf45 _ _ e9)).trans e9)) (by omega) rfl (by decide) (by obtain ⟨w9, e9⟩ := v1; exact ⟨_, _, e9⟩) (fun i b c => by { obtain ⟨q9, w9, -, ⟨u9, e9⟩, -⟩ := hCI45.2.2.2 i b c; have e8 := exc_at e9; exact ⟨_, _, (v5 _ (hwf45 _ _ e8.1)).trans e8.1⟩ }) ⟨by omega, by omega⟩) pdJ2_add ⟨Nat.le_of_ble_eq_true rfl, by decide, by omega⟩ (kk_z fun r90 h90 q90 => ?_) kx_z
        obtain ⟨rfl, e5, p1, p3, p3', p4, p5⟩ := q90
        have hE2 : h90.2.2 e0 = some (false, oaE K 0 (fun _ => none)) := ((fun b (hb : b ≤ h25.1 ∧ b ≠ h.1) => p5 b ⟨by omega, hb.2, he2c b hb.1⟩) _ (by (repeat' apply And.intro) <;> omega)).trans hE2
        have hoq : h90.2.2 r25 = some (true, .inr (14, [(vi mcq), (.ref eq), (vi Nr)])) := ((fun b (hb : b ≤ h25.1 ∧ b ≠ h.1) => p5 b ⟨by omega, hb.2, he2c b hb.1⟩) _ (by (repeat' apply And.intro) <;> omega)).trans hoq
        have heq : h90.2.2 eq = some (wq, oaE K capq frq) := ((fun b (hb : b ≤ h25.1 ∧ b ≠ h.1) => p5 b ⟨by omega, hb.2, he2c b hb.1⟩) _ (by (repeat' apply And.intro) <;> omega)).trans heq
        have it28 : h90.2.2 h25.1 = some (true, .inr (15, [(vi (k + 1)), (vi k), (vi mcq), (.ref r25)])) := ((fun b (hb : b ≤ h25.1 ∧ b ≠ h.1) => p5 b ⟨by omega, hb.2, he2c b hb.1⟩) _ (by (repeat' apply And.intro) <;> omega)).trans it28
        have fR : ∀ b, (b < h.1) → h90.2.2 b = h.2.2 b := fun b hb => ((fun b (hb : b ≤ h25.1 ∧ b ≠ h.1) => p5 b ⟨by omega, hb.2, he2c b hb.1⟩) b (by (repeat' apply And.intro) <;> omega)).trans (fR b hb)
        have fq : ∀ b, (b < h25.1 ∧ b ≠ h.1) → h90.2.2 b = h25.2.2 b := fun b hb => ((fun b (hb : b ≤ h25.1 ∧ b ≠ h.1) => p5 b ⟨by omega, hb.2, he2c b hb.1⟩) b (by (repeat' apply And.intro) <;> omega)).trans (fq b hb)
        refine mw_wf (fun hwf90 => ?_)
        have hCIy : ChoI K h90 e0 h.1 e5 a (k + 1) (m + 1) (upn p2 m r87) := hCI45.add hk.1 (by rw [ha1 k (by omega)]; omega) p4 (p1.imp id (fun h9 => by omega)) (fun b c e9 => by { have u9 := exc_at e9; have l9 := hwf45 _ _ u9.1; exact exc_mk ((p5 b ⟨by omega, u9.2.1, Or.inl u9.2.2⟩).trans ((v5 b l9).trans u9.1)) u9.2.1 (by omega) }) (by { obtain ⟨w9, e9⟩ := v1; have n9 : r87 ≠ h.1 := ne_oo e9 ((v5 _ (by omega)).trans ho2') (by decide); have n8 : r87 ≠ e2 := ne_oa e9 ((v5 _ l_he2).trans he2'); rw [ha1 k (by omega)]; exact ⟨w9, exc_mk ((p5 _ ⟨by omega, n9, Or.inl n8⟩).trans e9) n9 (by omega)⟩ }) (by rw [ha1 k (by omega)]; exact ⟨by omega, by omega⟩)
        have he5 : Imp True (e5 = e0 ∨ h25.1 < e5) := Imp.mk (by { have a9 := he2 trivial; omega })
        clear p1
        refine m_pop (y := yiX1_choicesOf) dX1_choicesOf_93 rfl ?_
        refine j_iinc (y := yiX1_choicesOf) [some (.ref x), some (vi fr), some (vi to), some (vi day), some (vi mi), some (.ref h.1), some (vi ((AR k) to)), some (vi (k + 1)), some (.ref h25.1), some (.ref (pq k))] dX1_choicesOf_94 rfl (by decide) rfl rfl ?_
        refine m_goto (y := yiX1_choicesOf) 33 dX1_choicesOf_97 (by decide) ?_
        refine mw_forget 9 ?_
        exact ih33 _ (by omega) (k + 1) k ((AR k to)) ((m + 1)) (e5) ((upn p2 m r87)) _ rfl hE2 hoq heq it28 fR fq (by omega) hCIy (by rw [chB_s hk.1, if_pos (by rw [ha1 k (by omega)]; omega), ha1 k (by omega)]) (by omega) he5 (by omega)
  exact L33 _ 0 (-1) 1000000 0 e0 (fun _ => 0) _ rfl hE2 hoq heq it28 fR fq (by omega) (⟨⟨false, 0, 0, _, (q28.2.2.2 _ (by omega)).trans u425, hE2, by omega, fun _ => rfl, fun h9 => absurd rfl h9, ⟨by omega, by omega, by omega⟩, fun i a b => by omega, fun _ _ => rfl⟩, Or.inl rfl, rfl, fun i b c => by omega⟩) rfl (⟨by omega, by omega⟩) (Imp.mk (Or.inl rfl)) (by omega)
