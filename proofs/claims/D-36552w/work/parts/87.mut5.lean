/-! Lastbus: wishes, lateness dropped -/
theorem c_Lclear (K : KT) (d : Nat) (h : MH) (e0 a e : Nat) (n : Int) (p : Int → Nat) (hE : E0A K h e0) (hL : LsB K h e0 a e n p) : Mt K yiJ2_clear d [.ref a] h (Rv fun h' => LsB K h' e0 a e 0 p ∧ h'.1 = h.1 ∧ h'.2.1 = h.2.1 ∧ ∀ b, (b ≠ a ∧ (b ≠ e ∨ b = e0)) → h'.2.2 b = h.2.2 b) := by
  obtain ⟨w, cap, mc, f, ho, he, hae, h0, hw, hcap, hf, hno⟩ := hL
  by_cases hc : cap = 0
  · have hn : n = 0 := by omega
    subst hn
    refine mt_mono (c_J2_clear0 K d h a e mc ho) ?_
    rintro o h' ⟨r1, q1, q2, q3, q4⟩
    exact ⟨r1, ⟨w, cap, mc + 1, f, q3, (q4 _ (fun h9 => hae h9.symm)).trans he, hae, h0, hw, ⟨by omega, by omega, hcap.2.2⟩, fun i a b => by omega, fun i a => hno i a⟩, by omega, by omega, fun b hb => q4 b hb.1⟩
  · have hwt := hw hc
    subst hwt
    have nee : e ≠ e0 := (ne_w hE.2 he (by decide)).symm
    refine mt_mono (c_J2_clear K d h a e cap mc n f ho he hae hcap) ?_
    rintro o h' ⟨r1, f', q1, q2, q3, q4, q5, q6, q7⟩
    exact ⟨r1, ⟨true, cap, mc + 1, f', q1, q2, hae, h0, fun _ => rfl, ⟨by omega, by omega, hcap.2.2⟩, fun i a b => by omega, fun i a => by
      by_cases e9 : i < n
      · exact q3 i a e9
      · rw [q4 i (by omega)]; exact hno i (by omega)⟩, by omega, by omega, fun b hb => q7 b ⟨hb.1, by omega⟩⟩
def sgWish (sg : TS) (t c o oc n : Int) : TS := ovr sg [(36, sg.1 36 + 1)] [(37, upz (sg.2 37) (sg.1 36) t), (38, upz (sg.2 38) (sg.1 36) c), (39, upz (sg.2 39) (sg.1 36) o), (40, upz (sg.2 40) (sg.1 36) oc), (41, upz (sg.2 41) (sg.1 36) n)]
section WSH
variable (K : KT) (d : Nat) (own : Nat → Nat) (h : MH) (z x : Nat) (sg : TS)
theorem u_wish (t c o oc n : Int) (hd : 9 ≤ d) (hT : TB sg) (hS : stOk sg) (hW : WorldO own K h z x sg) (hz1 : z ≤ h.1) (i1 : In t) (i2 : In c) (i3 : In o) (i4 : In oc) (i5 : In n) (hz : h.1 + 25000 ≤ kC K ∧ h.2.1 + 304000 ≤ kS K) : Mt K yiX1_wish d [.ref x, vi t, vi c, vi o, vi oc, vi n] h (Rw [RJ14, RJ12, RJ31, RJ13] fun th v h' => (¬ (((0 ≤ t ∧ t ≤ sg.1 8 - 1) ∧ (0 ≤ c ∧ c ≤ sg.2 10 t - 1)) ∧ ((0 ≤ o ∧ o ≤ sg.1 8 - 1) ∧ (0 ≤ oc ∧ oc ≤ sg.2 10 o - 1))) ∧ th = 1 ∧ QFr h h') ∨ ((((0 ≤ t ∧ t ≤ sg.1 8 - 1) ∧ (0 ≤ c ∧ c ≤ sg.2 10 t - 1)) ∧ ((0 ≤ o ∧ o ≤ sg.1 8 - 1) ∧ (0 ≤ oc ∧ oc ≤ sg.2 10 o - 1))) ∧ ¬ ((1 ≤ n ∧ n ≤ 99) ∧ t ≠ o ∧ c ≠ 0 ∧ oc ≠ sg.2 10 o - 1) ∧ th = 2 ∧ QFr h h') ∨ ((((0 ≤ t ∧ t ≤ sg.1 8 - 1) ∧ (0 ≤ c ∧ c ≤ sg.2 10 t - 1)) ∧ ((0 ≤ o ∧ o ≤ sg.1 8 - 1) ∧ (0 ≤ oc ∧ oc ≤ sg.2 10 o - 1))) ∧ ((1 ≤ n ∧ n ≤ 99) ∧ t ≠ o ∧ c ≠ 0 ∧ oc ≠ sg.2 10 o - 1) ∧ sg.2 11 (8 * t + c) ≠ sg.2 11 (8 * o + oc) ∧ th = 3 ∧ QFr h h') ∨ ((((0 ≤ t ∧ t ≤ sg.1 8 - 1) ∧ (0 ≤ c ∧ c ≤ sg.2 10 t - 1)) ∧ ((0 ≤ o ∧ o ≤ sg.1 8 - 1) ∧ (0 ≤ oc ∧ oc ≤ sg.2 10 o - 1))) ∧ ((1 ≤ n ∧ n ≤ 99) ∧ t ≠ o ∧ c ≠ 0 ∧ oc ≠ sg.2 10 o - 1) ∧ sg.2 11 (8 * t + c) = sg.2 11 (8 * o + oc) ∧ sg.1 36 = 6 ∧ th = 4 ∧ QFr h h') ∨ ((((0 ≤ t ∧ t ≤ sg.1 8 - 1) ∧ (0 ≤ c ∧ c ≤ sg.2 10 t - 1)) ∧ ((0 ≤ o ∧ o ≤ sg.1 8 - 1) ∧ (0 ≤ oc ∧ oc ≤ sg.2 10 o - 1))) ∧ ((1 ≤ n ∧ n ≤ 99) ∧ t ≠ o ∧ c ≠ 0 ∧ oc ≠ sg.2 10 o - 1) ∧ sg.2 11 (8 * t + c) = sg.2 11 (8 * o + oc) ∧ sg.1 36 < 6 ∧ th = 0 ∧ MutQ K own h h' z x (sgWish sg t c o oc n) ∧ v = sg.1 36)) := by
  have f1b := of1 (hT.1 1)
  have f8 := of8 (hT.1 8)
  have f36 := of36 (hT.1 36)
  have := i1.1; have := i1.2; have := i2.1; have := i2.2; have := i3.1; have := i3.2; have := i4.1; have := i4.2; have := i5.1; have := i5.2
  have hW0 : World K h z x sg := ⟨own, hW⟩
  obtain ⟨e0, cc, ch, wk, sv, tr, lt, ws, tx, se, te, we, kp, sp, tp, wp, T, hKt, hEt, hIt, hxt, hcht, hwkt, hsvt, htrt, hltt, hwst, htxt, hkpt, hR0⟩ := id hW
  obtain ⟨hx, hxz, -⟩ := tg_at hxt
  obtain ⟨hch, hchz, -⟩ := tg_at hcht
  have hxo := hR0.own hxt
  have hcho := hR0.own hcht
  have hE1 := hEt.1
  obtain ⟨hE2, hE2z, -⟩ := tg_at hEt.2
  obtain ⟨k0, k1, k3, k4, k5, k8, k9, k10, k11, k12⟩ := id hKt
  have hwk := And.intro hwkt.1.C hwkt.2
  have hsv := hsvt
  have htr := htrt
  have hlt := hltt
  have hws := hwst
  have htx := htxt
  have hW9 : World K h z x sg := ⟨own, hW⟩
  have hLs := hws.1
  obtain ⟨⟨ww, capw, mcw, fw, hwo, hwe, hwne, hw0, hww, hwcap, hwf0, hwno⟩, hwt⟩ := hws
  obtain ⟨hwo, hwoz, -⟩ := tg_at hwo
  obtain ⟨hwe, hwez, -⟩ := tg_at hwe
  obtain ⟨w_0, c_0, m_0, f_0, hwo9, hwe9, -⟩ := id hLs
  have hwo1 := hwo
  have hwe1 := hwe
  have hwoo := hR0.own hwo9
  have hweo := (tg_at hwe9).2.2
  have n1 : x ≠ ws := ne_oo hx hwo (by decide)
  have n2 : x ≠ we := ne_oa hx hwe
  have n3 : ws ≠ e0 := ne_oa hwo hE2
  have n4 : ws ≠ we := ne_oa hwo hwe
  refine mt_ofQ (by decide) (Nat.le_of_ble_eq_true rfl) (fun Q hQ => ?_)
  show MW K yiX1_wish d h 0 [some (.ref x), some (vi t), some (vi c), some (vi o), some (vi oc), some (vi n), none, none] [] Q
  refine mw_wf (fun hwf => ?_)
  have l_hx := hwf _ _ hx
  have l_hwo := hwf _ _ hwo
  have l_hwe := hwf _ _ hwe
  have l_hE2 := hwf _ _ hE2
  have fR : ∀ b, (b < h.1 ∧ b ≠ ws ∧ (b ≠ we ∨ b = e0)) → h.2.2 b = h.2.2 b := fun _ _ => rfl
  refine m_aload_n (y := yiX1_wish) dX1_wish_0 rfl ?_
  refine j_iload_n (y := yiX1_wish) dX1_wish_1 rfl ?_
  refine j_iload_n (y := yiX1_wish) dX1_wish_2 rfl ?_
  by_cases c3 : (0 ≤ t ∧ t ≤ sg.1 8 - 1) ∧ 0 ≤ c ∧ c ≤ sg.2 10 t - 1
  · refine m_invV (y := yiX1_wish) (rB := (RX1, TX1, 10)) [(vi t), (vi c)] dX1_wish_3 hx rfl q1205 q1207 qs13 q123 q1208 rfl (c_callOf_1 K 4 h z x sg t c (by omega) hT hW9 c3.1 c3.2) pdX1_callOf ⟨Nat.le_of_ble_eq_true rfl, by decide, by omega⟩ (kk_r fun r3 h3 q3 => ?_) kx_r
    obtain ⟨rfl, hc3⟩ := q3
    have hc3 : h.2.2 r3 = some (true, .inr (3, [(vi (trS sg t c)), (vi (trA sg t c)), (vi (trD sg t c))])) := hc3
    have l_hc3 := hwf _ _ hc3
    refine m_astore (y := yiX1_wish) dX1_wish_6 (by decide) rfl ?_
    show MW K yiX1_wish d h 8 [some (.ref x), some (vi t), some (vi c), some (vi o), some (vi oc), some (vi n), some (.ref r3), none] [] Q
    refine m_aload_n (y := yiX1_wish) dX1_wish_8 rfl ?_
    refine j_iload_n (y := yiX1_wish) dX1_wish_9 rfl ?_
    refine j_iload (y := yiX1_wish) dX1_wish_10 rfl ?_
    by_cases c12 : (0 ≤ o ∧ o ≤ sg.1 8 - 1) ∧ 0 ≤ oc ∧ oc ≤ sg.2 10 o - 1
    · refine m_invV (y := yiX1_wish) (rB := (RX1, TX1, 10)) [(vi o), (vi oc)] dX1_wish_12 hx rfl q1205 q1207 qs13 q123 q1208 rfl (c_callOf_1 K 4 h z x sg o oc (by omega) hT hW9 c12.1 c12.2) pdX1_callOf ⟨Nat.le_of_ble_eq_true rfl, by decide, by omega⟩ (kk_r fun r12 h12 q12 => ?_) kx_r
      obtain ⟨rfl, hc12⟩ := q12
      have hc12 : h.2.2 r12 = some (true, .inr (3, [(vi (trS sg o oc)), (vi (trA sg o oc)), (vi (trD sg o oc))])) := hc12
      have l_hc12 := hwf _ _ hc12
      refine m_astore (y := yiX1_wish) dX1_wish_15 (by decide) rfl ?_
      show MW K yiX1_wish d h 17 [some (.ref x), some (vi t), some (vi c), some (vi o), some (vi oc), some (vi n), some (.ref r3), some (.ref r12)] [] Q
      have hn8 := oa10 (hT.2 10) t (by omega) (by omega)
      have ho8 := oa10 (hT.2 10) o (by omega) (by omega)
      have hs1 := hS t c (by omega) (by omega) (by omega) (by omega)
      have hs2 := hS o oc (by omega) (by omega) (by omega) (by omega)
      have eS1 : trS sg t c = sg.2 11 (8 * t + c) := rfl
      have eS2 : trS sg o oc = sg.2 11 (8 * o + oc) := rfl
      refine m_aload_n (y := yiX1_wish) dX1_wish_17 rfl ?_
      refine j_iload_n (y := yiX1_wish) dX1_wish_18 rfl ?_
      refine j_iload_n (y := yiX1_wish) dX1_wish_19 rfl ?_
      refine j_iload_n (y := yiX1_wish) dX1_wish_20 rfl ?_
      refine j_iload (y := yiX1_wish) dX1_wish_21 rfl ?_
      by_cases c23 : t ≠ o ∧ 0 < c ∧ oc < sg.2 10 o - 1
      · refine m_invV (y := yiX1_wish) (rB := (RX1, TX1, 10)) [(vi t), (vi c), (vi o), (vi oc)] dX1_wish_23 hx rfl q2812 q2814 qs61 q123 q2815 rfl (c_reqChange_1 K 3 h z x sg t c o oc (by omega) hT hW9 c12.1 i1 i2 i4 c23) pdX1_requireChange ⟨Nat.le_of_ble_eq_true rfl, by decide, by omega⟩ (kk_v fun h23 q23 => ?_) kx_v
        obtain rfl := q23
        refine j_iload (y := yiX1_wish) dX1_wish_26 rfl ?_
        refine j_iconst (y := yiX1_wish) dX1_wish_28 ?_
        refine j_bipush (y := yiX1_wish) dX1_wish_29 (by decide) ?_
        refine m_invS (y := yiX1_wish) [(vi n), (vi 1), (vi 99)] dX1_wish_31 q850 q851 q123 q852 (c_X1_isBetween K 0 h n 1 99 ⟨by omega, by omega⟩ ⟨by omega, by omega⟩ ⟨by omega, by omega⟩) pdX1_isBetween ⟨Nat.le_of_ble_eq_true rfl, by decide, by omega⟩ (kk_z fun r31 h31 q31 => ?_) kx_z
        obtain ⟨rfl, rfl⟩ := q31
        refine mw_top (x' := bz (1 ≤ n ∧ n ≤ 99)) rfl ?_
        by_cases c34 : (1 ≤ n ∧ n ≤ 99)
        · refine mw_top (x' := 1) ((bz_t c34).symm) ?_
          refine m_invS (y := yiX1_wish) [(vi 1)] dX1_wish_34 q853 q854 q123 q855 (c_X1_require_1 K 0 h) pdX1_require ⟨Nat.le_of_ble_eq_true rfl, by decide, by omega⟩ (kk_v fun h34 q34 => ?_) kx_v
          obtain rfl := q34
          refine m_aload (y := yiX1_wish) dX1_wish_37 rfl ?_
          refine m_invV (y := yiX1_wish) (rB := (RX4, TX4, 3)) [] dX1_wish_39 hc3 rfl q796 q797 q798 q155 q799 rfl (c_X4_stop (d := 0) hc3) pdX4_stop ⟨Nat.le_of_ble_eq_true rfl, by decide, by omega⟩ (kk_z fun r39 h39 q39 => ?_) kx_z
          obtain ⟨rfl, rfl⟩ := q39
          refine mw_top (x' := (trS sg t c)) rfl ?_
          refine m_aload (y := yiX1_wish) dX1_wish_42 rfl ?_
          refine m_invV (y := yiX1_wish) (rB := (RX4, TX4, 3)) [] dX1_wish_44 hc12 rfl q796 q797 q798 q155 q799 rfl (c_X4_stop (d := 0) hc12) pdX4_stop ⟨Nat.le_of_ble_eq_true rfl, by decide, by omega⟩ (kk_z fun r44 h44 q44 => ?_) kx_z
          obtain ⟨rfl, rfl⟩ := q44
          refine mw_top (x' := (trS sg o oc)) rfl ?_
          refine j_icmp_ne (y := yiX1_wish) 54 dX1_wish_47 (by decide) ⟨⟨by omega, by omega⟩, ⟨by omega, by omega⟩⟩ (fun c47 => ?_) (fun c47 => ?_)
          · refine j_iconst (y := yiX1_wish) dX1_wish_54 ?_
            refine m_invS (y := yiX1_wish) [(vi 0)] dX1_wish_55 q1449 q1450 q123 q1451 (c_X1_requireSupported_0 K 6 h (by omega) ⟨by omega, by omega⟩) pdX1_requireSupported ⟨Nat.le_of_ble_eq_true rfl, by decide, by omega⟩ kk_t (kx_t fun q55 h55 x55 => ?_)
            subst hQ; exact mx_ret rfl (Or.inr ⟨2, RJ31, q55, rfl, rfl, fun _ => Or.inr (Or.inr (Or.inl ⟨⟨c3, c12⟩, ⟨c34, c23.1, by omega, by omega⟩, by omega, rfl, QFr.th x55 ⟨by omega, by omega⟩ ⟨by omega, by omega⟩ (fun _ _ => rfl)⟩))⟩)
          · refine j_iconst (y := yiX1_wish) dX1_wish_50 ?_
            refine m_goto (y := yiX1_wish) 55 dX1_wish_51 (by decide) ?_
            refine m_invS (y := yiX1_wish) [(vi 1)] dX1_wish_55 q1449 q1450 q123 q1451 (c_X1_requireSupported_1 K 0 h) pdX1_requireSupported ⟨Nat.le_of_ble_eq_true rfl, by decide, by omega⟩ (kk_v fun h55 q55 => ?_) kx_v
            obtain rfl := q55
            refine m_aload_n (y := yiX1_wish) dX1_wish_58 rfl ?_
            refine m_getfS (y := yiX1_wish) kc_0 6 (by decide) dX1_wish_59 q304 hx rfl ?_
            refine m_invV (y := yiX1_wish) (rB := (RJ2, TJ2, 3)) [] dX1_wish_62 hwo rfl q333 q334 q335 q126 q336 rfl (c_J2_size K 0 h _ _ _ _ hwo) pdJ2_size ⟨Nat.le_of_ble_eq_true rfl, by decide, by omega⟩ (kk_z fun r62 h62 q62 => ?_) kx_z
            obtain ⟨rfl, rfl⟩ := q62
            refine mw_top (x' := sg.1 36) rfl ?_
            refine j_bipush (y := yiX1_wish) dX1_wish_65 (by decide) ?_
            refine j_icmp_ge (y := yiX1_wish) 74 dX1_wish_67 (by decide) ⟨⟨by omega, by omega⟩, ⟨by omega, by omega⟩⟩ (fun c67 => ?_) (fun c67 => ?_)
            · refine j_iconst (y := yiX1_wish) dX1_wish_74 ?_
              refine m_invS (y := yiX1_wish) [(vi 0)] dX1_wish_75 q861 q862 q123 q863 (c_X1_requireState_0 K 6 h (by omega) ⟨by omega, by omega⟩) pdX1_requireState ⟨Nat.le_of_ble_eq_true rfl, by decide, by omega⟩ kk_t (kx_t fun q75 h75 x75 => ?_)
              subst hQ; exact mx_ret rfl (Or.inr ⟨3, RJ13, q75, rfl, rfl, fun _ => Or.inr (Or.inr (Or.inr (Or.inl ⟨⟨c3, c12⟩, ⟨c34, c23.1, by omega, by omega⟩, by omega, by omega, rfl, QFr.th x75 ⟨by omega, by omega⟩ ⟨by omega, by omega⟩ (fun _ _ => rfl)⟩)))⟩)
            · refine j_iconst (y := yiX1_wish) dX1_wish_70 ?_
              refine m_goto (y := yiX1_wish) 75 dX1_wish_71 (by decide) ?_
              refine m_invS (y := yiX1_wish) [(vi 1)] dX1_wish_75 q861 q862 q123 q863 (c_X1_requireState_1 K 0 h) pdX1_requireState ⟨Nat.le_of_ble_eq_true rfl, by decide, by omega⟩ (kk_v fun h75 q75 => ?_) kx_v
              obtain rfl := q75
              refine m_aload_n (y := yiX1_wish) dX1_wish_78 rfl ?_
              refine m_getfS (y := yiX1_wish) kc_0 6 (by decide) dX1_wish_79 q304 hx rfl ?_
              refine m_new (y := yiX1_wish) kc_13 5 dX1_wish_82 q2823 q2824 q186 _ rfl ⟨by omega, by omega⟩ (hp_new fun g1 g1H => ?_)
              have hx : g1.2.2 x = some (true, .inr (0, [(.ref ch), (.ref wk), (vi (sg.1 1)), (.ref sv), (.ref tr), (.ref lt), (.ref ws), (.ref tx), (vi (sg.1 21)), (va_rf kp)])) := (g1H.2.2.2 _ (by omega)).trans hx
              have hwo : g1.2.2 ws = some (true, .inr (14, [(vi mcw), (.ref we), (vi (sg.1 36))])) := (g1H.2.2.2 _ (by omega)).trans hwo
              have hwe : g1.2.2 we = some (ww, oaE K capw fw) := (g1H.2.2.2 _ (by omega)).trans hwe
              have hE2 : g1.2.2 e0 = some (false, oaE K 0 (fun _ => none)) := (g1H.2.2.2 _ (by omega)).trans hE2
              have fR : ∀ b, (b < h.1 ∧ b ≠ ws ∧ (b ≠ we ∨ b = e0)) → g1.2.2 b = h.2.2 b := fun b hb => (g1H.2.2.2 b (by omega)).trans (fR b hb)
              have fg1 : g1.2.2 h.1 = some (true, .inr (13, [(vi 0), (vi 0), (vi 0), (vi 0), (vi 0)])) := g1H.2.2.1
              have g11 := g1H.1
              have g12 := g1H.2.1
              refine m_dup (y := yiX1_wish) dX1_wish_85 rfl ?_
              refine j_iload_n (y := yiX1_wish) dX1_wish_86 rfl ?_
              refine j_iload_n (y := yiX1_wish) dX1_wish_87 rfl ?_
              refine j_iload_n (y := yiX1_wish) dX1_wish_88 rfl ?_
              refine j_iload (y := yiX1_wish) dX1_wish_89 rfl ?_
              refine j_iload (y := yiX1_wish) dX1_wish_91 rfl ?_
              refine m_invIN (y := yiX1_wish) [(vi t), (vi c), (vi o), (vi oc), (vi n)] dX1_wish_93 q2825 q2826 q186 q2827 rfl rfl (c_X14_init t c o oc n (d := 2) (by omega) fg1) pdX14_init ⟨Nat.le_of_ble_eq_true rfl, by decide, by omega⟩ (kk_v fun h93 q93 => ?_) kx_v
              obtain q93 := q93
              have y93 := q93.1
              have z93 := q93.2.1
              have fg1 := q93.2.2.1
              have hx : h93.2.2 x = some (true, .inr (0, [(.ref ch), (.ref wk), (vi (sg.1 1)), (.ref sv), (.ref tr), (.ref lt), (.ref ws), (.ref tx), (vi (sg.1 21)), (va_rf kp)])) := (q93.2.2.2 _ (by omega)).trans hx
              have hwo : h93.2.2 ws = some (true, .inr (14, [(vi mcw), (.ref we), (vi (sg.1 36))])) := (q93.2.2.2 _ (by omega)).trans hwo
              have hwe : h93.2.2 we = some (ww, oaE K capw fw) := (q93.2.2.2 _ (by omega)).trans hwe
              have hE2 : h93.2.2 e0 = some (false, oaE K 0 (fun _ => none)) := (q93.2.2.2 _ (by omega)).trans hE2
              have fR : ∀ b, (b < h.1 ∧ b ≠ ws ∧ (b ≠ we ∨ b = e0)) → h93.2.2 b = h.2.2 b := fun b hb => (q93.2.2.2 b (by omega)).trans (fR b hb)
              refine mw_wf (fun hwf93 => ?_)
              have l_fg193 := hwf93 _ _ fg1
              have gr9 : (grC (sg.1 36)).toNat ≤ 110 := by { unfold grC; (repeat' split) <;> omega }
              have hel : ∀ i, 0 ≤ i → i < sg.1 36 → ∃ w fs, h93.2.2 (wp i) = some (w, .inr (13, fs)) := fun i a b => by { have u9 := tg_at (hwt i a b); exact ⟨_, _, (fR _ ⟨by omega, ne_oo u9.1 hwo1 (by decide), Or.inl (ne_oa u9.1 hwe1)⟩).trans u9.1⟩ }
              refine m_invV (y := yiX1_wish) (rB := (RJ2, TJ2, 3)) [(.ref h.1)] dX1_wish_96 hwo rfl q953 q954 q955 q126 q956 rfl (c_Ladd K 6 h93 e0 ws we h.1 (sg.1 36) wp 13 (r := _) (by omega) ⟨k0, hE2⟩ (hLs.up (fun b c e9 => by { have u9 := tg_at e9; by_cases e8 : b = ws; { rw [e8] at u9 ⊢; exact hwo.trans (hwo1.symm.trans u9.1) }; { by_cases e7 : b = we; { rw [e7] at u9 ⊢; exact hwe.trans (hwe1.symm.trans u9.1) }; { exact (fR b ⟨by omega, e8, Or.inl e7⟩).trans u9.1 } } })) (by omega) rfl (by decide) ⟨_, _, fg1⟩ hel ⟨by omega, by omega⟩) pdJ2_add ⟨Nat.le_of_ble_eq_true rfl, by decide, by omega⟩ (kk_z fun r96 h96 q96 => ?_) kx_z
              obtain ⟨rfl, e6, r1, r2, r2', r4, r5⟩ := q96
              have fR96 := fR
              obtain ⟨w9, cap9, mc9, fx9, ho9, he9, hae9, h09, hw9, hcap9, hf9, hno9⟩ := id r4
              have hx : h96.2.2 x = some (true, .inr (0, [(.ref ch), (.ref wk), (vi (sg.1 1)), (.ref sv), (.ref tr), (.ref lt), (.ref ws), (.ref tx), (vi (sg.1 21)), (va_rf kp)])) := (r5 _ (by omega)).trans hx
              have hE2 : h96.2.2 e0 = some (false, oaE K 0 (fun _ => none)) := (r5 _ (by omega)).trans hE2
              have fg1 : h96.2.2 h.1 = some (true, .inr (13, [(vi t), (vi c), (vi o), (vi oc), (vi n)])) := (r5 _ (by omega)).trans fg1
              have fR : ∀ b, (b < h.1 ∧ b ≠ ws ∧ (b ≠ we ∨ b = e0)) → h96.2.2 b = h.2.2 b := fun b hb => (r5 b (by omega)).trans (fR b hb)
              refine mw_wf (fun hwf96 => ?_)
              have l_ho996 := hwf96 _ _ ho9
              have eJ : ∀ b, b < z → own b ≠ 7 → h96.2.2 b = h.2.2 b := fun b hb hn => fR b ⟨by omega, fun e9 => by { rw [e9] at hn; exact hn hwoo }, by { by_cases e8 : b = we; { right; rcases hweo with h8 | h8; { rw [e8] at hn; exact absurd h8 hn }; { by_cases e7 : capw = 0; { rw [e8]; exact hw0 e7 }; { exfalso; have w7 := hww e7; have u7 := hwe1; rw [w7] at u7; exact hR0 we _ hwez h8 u7 } } }; { exact Or.inl e8 } }⟩
              have hz9 : z ≤ h96.1 := by omega
              have U := upO (j := 7) (by decide) hz9 eJ
              have tmO : ∀ q c, h96.2.2 q = some c → (z ≤ q ∨ own q = 7 ∨ own q = 0) → (tg (ownJ own z 7) h96.1 7 h96).2.2 q = some c := fun q c l3 l2 => tg_mk l3 (hwf96 _ _ l3) (by { unfold ownJ; by_cases e9 : q < z; { rw [if_pos e9]; omega }; { rw [if_neg e9]; exact Or.inl rfl } })
              have hnew : LsB K (tg (ownJ own z 7) h96.1 7 h96) e0 ws e6 (sg.1 36 + 1) (upn wp (sg.1 36) h.1) := ⟨w9, cap9, mc9, fx9, tmO _ _ ho9 (Or.inr (Or.inl hwoo)), tmO _ _ he9 (by { rcases r1 with h9 | h9; { rw [h9]; exact Or.inr hweo }; { exact Or.inl (by omega) } }), hae9, h09, hw9, hcap9, hf9, hno9⟩
              have hnew2 : ∀ w, 0 ≤ w → w < sg.1 36 + 1 → WsA (tg (ownJ own z 7) h96.1 7 h96) (sgWish sg t c o oc n) w (upn wp (sg.1 36) h.1 w) := fun w a b => by { show (tg (ownJ own z 7) h96.1 7 h96).2.2 _ = some (true, .inr (13, [vi (upz _ _ _ w), vi (upz _ _ _ w), vi (upz _ _ _ w), vi (upz _ _ _ w), vi (upz _ _ _ w)])); by_cases e9 : w = sg.1 36; { rw [e9, upn_at, upz_at, upz_at, upz_at, upz_at, upz_at]; exact tmO _ _ fg1 (Or.inl hz1) }; { rw [upn_ne e9, upz_ne e9, upz_ne e9, upz_ne e9, upz_ne e9, upz_ne e9]; have v9 := hwt w a (by omega); have u9 := tg_at v9; exact tmO _ _ ((fR _ ⟨by omega, ne_oo u9.1 hwo1 (by decide), Or.inl (ne_oa u9.1 hwe1)⟩).trans u9.1) (Or.inr u9.2.2) } }
              refine m_pop (y := yiX1_wish) dX1_wish_99 rfl ?_
              refine m_aload_n (y := yiX1_wish) dX1_wish_100 rfl ?_
              refine m_getfS (y := yiX1_wish) kc_0 6 (by decide) dX1_wish_101 q304 hx rfl ?_
              refine m_invV (y := yiX1_wish) (rB := (RJ2, TJ2, 3)) [] dX1_wish_104 ho9 rfl q333 q334 q335 q126 q336 rfl (c_J2_size K 0 h96 _ _ _ _ ho9) pdJ2_size ⟨Nat.le_of_ble_eq_true rfl, by decide, by omega⟩ (kk_z fun r104 h104 q104 => ?_) kx_z
              obtain ⟨rfl, rfl⟩ := q104
              refine mw_top (x' := sg.1 36 + 1) rfl ?_
              refine j_iconst (y := yiX1_wish) dX1_wish_107 ?_
              refine j_isub (y := yiX1_wish) dX1_wish_108 ?_
              subst hQ; exact j_wret (y := yiX1_wish) dX1_wish_109 rfl (Or.inr (Or.inr (Or.inr (Or.inr ⟨⟨c3, c12⟩, ⟨c34, c23.1, by omega, by omega⟩, by omega, by omega, rfl, ⟨ownJ own z 7, fun b hb => if_pos hb, ⟨e0, cc, ch, wk, sv, tr, lt, ws, tx, se, te, e6, kp, sp, tp, upn wp (sg.1 36) h.1, T, hKt, (by rw [U 0 (by decide)]; exact hEt), (by rw [U 0 (by decide)]; exact hIt), (by rw [U 1 (by decide)]; exact hxt), (by rw [U 2 (by decide)]; exact hcht), (by rw [U 3 (by decide)]; exact hwkt), ⟨by rw [U 4 (by decide)]; exact hsvt.1, fun s a b => by rw [U (100 + s.toNat) (by have b9 : s < sg.1 6 := b; omega)]; exact hsvt.2 s a b⟩, ⟨by rw [U 5 (by decide)]; exact htrt.1, fun t a b => by rw [U (200 + t.toNat) (by have b9 : t < sg.1 8 := b; omega)]; exact htrt.2 t a b⟩, (by rw [U 6 (by decide)]; exact hltt), ⟨hnew, hnew2⟩, (by rw [U 8 (by decide)]; exact htxt), (by rw [U 9 (by decide)]; exact hkpt), hR0.up (J := fun q => q = 7) (fun b hb => if_pos hb) (fun b hb => if_neg (by omega)) (by decide) eJ⟩, fun b hb h10 => eJ b hb (by omega), by omega, by omega⟩, by omega⟩))))
        · refine mw_top (x' := 0) ((bz_f c34).symm) ?_
          refine m_invS (y := yiX1_wish) [(vi 0)] dX1_wish_34 q853 q854 q123 q855 (c_X1_require_0 K 6 h (by omega) ⟨by omega, by omega⟩) pdX1_require ⟨Nat.le_of_ble_eq_true rfl, by decide, by omega⟩ kk_t (kx_t fun q34 h34 x34 => ?_)
          subst hQ; exact mx_ret rfl (Or.inr ⟨1, RJ12, q34, rfl, rfl, fun _ => Or.inr (Or.inl ⟨⟨c3, c12⟩, fun h9 => c34 h9.1, rfl, QFr.th x34 ⟨by omega, by omega⟩ ⟨by omega, by omega⟩ (fun _ _ => rfl)⟩)⟩)
      · refine m_invV (y := yiX1_wish) (rB := (RX1, TX1, 10)) [(vi t), (vi c), (vi o), (vi oc)] dX1_wish_23 hx rfl q2812 q2814 qs61 q123 q2815 rfl (c_reqChange_0 K 7 h z x sg t c o oc (by omega) hT hW9 c12.1 i1 i2 i4 c23 ⟨by omega, by omega⟩) pdX1_requireChange ⟨Nat.le_of_ble_eq_true rfl, by decide, by omega⟩ kk_t (kx_t fun q23 h23 x23 => ?_)
        subst hQ; exact mx_ret rfl (Or.inr ⟨1, RJ12, q23, rfl, rfl, fun _ => Or.inr (Or.inl ⟨⟨c3, c12⟩, fun h9 => c23 ⟨h9.2.1, by omega, by omega⟩, rfl, QFr.th x23 ⟨by omega, by omega⟩ ⟨by omega, by omega⟩ (fun _ _ => rfl)⟩)⟩)
    · refine m_invV (y := yiX1_wish) (rB := (RX1, TX1, 10)) [(vi o), (vi oc)] dX1_wish_12 hx rfl q1205 q1207 qs13 q123 q1208 rfl (c_callOf_0 K 8 h z x sg o oc (by omega) hT hW9 i3 i4 c12 ⟨by omega, by omega⟩) pdX1_callOf ⟨Nat.le_of_ble_eq_true rfl, by decide, by omega⟩ kk_t (kx_t fun q12 h12 x12 => ?_)
      subst hQ; exact mx_ret rfl (Or.inr ⟨0, RJ14, q12, rfl, rfl, fun _ => Or.inl ⟨fun h9 => c12 h9.2, rfl, QFr.th x12 ⟨by omega, by omega⟩ ⟨by omega, by omega⟩ (fun _ _ => rfl)⟩⟩)
  · refine m_invV (y := yiX1_wish) (rB := (RX1, TX1, 10)) [(vi t), (vi c)] dX1_wish_3 hx rfl q1205 q1207 qs13 q123 q1208 rfl (c_callOf_0 K 8 h z x sg t c (by omega) hT hW9 i1 i2 c3 ⟨by omega, by omega⟩) pdX1_callOf ⟨Nat.le_of_ble_eq_true rfl, by decide, by omega⟩ kk_t (kx_t fun q3 h3 x3 => ?_)
    subst hQ; exact mx_ret rfl (Or.inr ⟨0, RJ14, q3, rfl, rfl, fun _ => Or.inl ⟨fun h9 => c3 h9.1, rfl, QFr.th x3 ⟨by omega, by omega⟩ ⟨by omega, by omega⟩ (fun _ _ => rfl)⟩⟩)
theorem u_dropWishes (hd : 3 ≤ d) (hT : TB sg) (hW : WorldO own K h z x sg) (hz1 : z ≤ h.1) : Mt K yiX1_dropWishes d [.ref x] h (Rz fun v h' => MutQ K own h h' z x (ovr sg [(36, 0)] []) ∧ sg.1 36 = v) := by
  have f36 := of36 (hT.1 36)
  have hW0 : World K h z x sg := ⟨own, hW⟩
  obtain ⟨e0, cc, ch, wk, sv, tr, lt, ws, tx, se, te, we, kp, sp, tp, wp, T, hKt, hEt, hIt, hxt, hcht, hwkt, hsvt, htrt, hltt, hwst, htxt, hkpt, hR0⟩ := id hW
  obtain ⟨hx, hxz, -⟩ := tg_at hxt
  obtain ⟨hch, hchz, -⟩ := tg_at hcht
  have hxo := hR0.own hxt
  have hcho := hR0.own hcht
  have hE1 := hEt.1
  obtain ⟨hE2, hE2z, -⟩ := tg_at hEt.2
  obtain ⟨k0, k1, k3, k4, k5, k8, k9, k10, k11, k12⟩ := id hKt
  have hwk := And.intro hwkt.1.C hwkt.2
  have hsv := hsvt
  have htr := htrt
  have hlt := hltt
  have hws := hwst
  have htx := htxt
  have hLs := hws.1
  obtain ⟨⟨ww, capw, mcw, fw, hwo, hwe, hwne, hw0, hww, hwcap, hwf0, hwno⟩, hwt⟩ := hws
  obtain ⟨hwo, hwoz, -⟩ := tg_at hwo
  obtain ⟨hwe, hwez, -⟩ := tg_at hwe
  obtain ⟨w_0, c_0, m_0, f_0, hwo9, hwe9, -⟩ := id hLs
  have hwo1 := hwo
  have hwe1 := hwe
  have hwoo := hR0.own hwo9
  have hweo := (tg_at hwe9).2.2
  have n1 : x ≠ ws := ne_oo hx hwo (by decide)
  have n2 : x ≠ we := ne_oa hx hwe
  refine mt_ofQ (by decide) (Nat.le_of_ble_eq_true rfl) (fun Q hQ => ?_)
  show MW K yiX1_dropWishes d h 0 [some (.ref x), none] [] Q
  refine mw_wf (fun hwf => ?_)
  have l_hx := hwf _ _ hx
  have l_hwo := hwf _ _ hwo
  refine m_aload_n (y := yiX1_dropWishes) dX1_dropWishes_0 rfl ?_
  refine m_getfS (y := yiX1_dropWishes) kc_0 6 (by decide) dX1_dropWishes_1 q304 hx rfl ?_
  refine m_invV (y := yiX1_dropWishes) (rB := (RJ2, TJ2, 3)) [] dX1_dropWishes_4 hwo rfl q333 q334 q335 q126 q336 rfl (c_J2_size K 0 h _ _ _ _ hwo) pdJ2_size ⟨Nat.le_of_ble_eq_true rfl, by decide, by omega⟩ (kk_z fun r4 h4 q4 => ?_) kx_z
  obtain ⟨rfl, rfl⟩ := q4
  refine mw_top (x' := sg.1 36) rfl ?_
  refine j_istore_n (y := yiX1_dropWishes) [some (.ref x), some (vi (sg.1 36))] dX1_dropWishes_7 (by decide) rfl rfl ?_
  refine m_aload_n (y := yiX1_dropWishes) dX1_dropWishes_8 rfl ?_
  refine m_getfS (y := yiX1_dropWishes) kc_0 6 (by decide) dX1_dropWishes_9 q304 hx rfl ?_
  refine m_invV (y := yiX1_dropWishes) (rB := (RJ2, TJ2, 3)) [] dX1_dropWishes_12 hwo rfl q706 q707 q708 q126 q709 rfl (c_Lclear K 0 h e0 ws we (sg.1 36) wp ⟨k0, hE2⟩ (hLs.up tg_h)) pdJ2_clear ⟨Nat.le_of_ble_eq_true rfl, by decide, by omega⟩ (kk_v fun h12 q12 => ?_) kx_v
  obtain ⟨q1, q2, q3, q4⟩ := q12
  have hx : h12.2.2 x = some (true, .inr (0, [(.ref ch), (.ref wk), (vi (sg.1 1)), (.ref sv), (.ref tr), (.ref lt), (.ref ws), (.ref tx), (vi (sg.1 21)), (va_rf kp)])) := (q4 _ (by omega)).trans hx
  refine mw_wf (fun hwf12 => ?_)
  refine j_iload_n (y := yiX1_dropWishes) dX1_dropWishes_15 rfl ?_
  have eJ : ∀ b, b < z → own b ≠ 7 → h12.2.2 b = h.2.2 b := fun b hb hn => q4 b ⟨fun e9 => by { rw [e9] at hn; exact hn hwoo }, by { by_cases e8 : b = we; { right; rcases hweo with h8 | h8; { rw [e8] at hn; exact absurd h8 hn }; { by_cases e7 : capw = 0; { rw [e8]; exact hw0 e7 }; { exfalso; have w7 := hww e7; have u7 := hwe1; rw [w7] at u7; exact hR0 we _ hwez h8 u7 } } }; { exact Or.inl e8 } }⟩
  have U := upO (j := 7) (by decide) (show z ≤ h12.1 by omega) eJ
  obtain ⟨w9, cap9, mc9, fx9, ho9, he9, hae9, h09, hw9, hcap9, hf9, hno9⟩ := id q1
  have hnew : LsB K (tg (ownJ own z 7) h12.1 7 h12) e0 ws we 0 wp := ⟨w9, cap9, mc9, fx9, tg_mk ho9 (by omega) (by unfold ownJ; rw [if_pos hwoz]; exact Or.inl hwoo), tg_mk he9 (by omega) (by unfold ownJ; rw [if_pos hwez]; exact hweo), hae9, h09, hw9, hcap9, hf9, hno9⟩
  subst hQ; exact j_iret (y := yiX1_dropWishes) dX1_dropWishes_16 rfl (⟨⟨ownJ own z 7, fun b hb => if_pos hb, ⟨e0, cc, ch, wk, sv, tr, lt, ws, tx, se, te, we, kp, sp, tp, wp, T, hKt, (by rw [U 0 (by decide)]; exact hEt), (by rw [U 0 (by decide)]; exact hIt), (by rw [U 1 (by decide)]; exact hxt), (by rw [U 2 (by decide)]; exact hcht), (by rw [U 3 (by decide)]; exact hwkt), ⟨by rw [U 4 (by decide)]; exact hsvt.1, fun s a b => by rw [U (100 + s.toNat) (by have b9 : s < sg.1 6 := b; omega)]; exact hsvt.2 s a b⟩, ⟨by rw [U 5 (by decide)]; exact htrt.1, fun t a b => by rw [U (200 + t.toNat) (by have b9 : t < sg.1 8 := b; omega)]; exact htrt.2 t a b⟩, (by rw [U 6 (by decide)]; exact hltt), ⟨hnew, fun w a b => absurd b (by show ¬ w < 0; omega)⟩, (by rw [U 8 (by decide)]; exact htxt), (by rw [U 9 (by decide)]; exact hkpt), hR0.up (J := fun q => q = 7) (fun b hb => if_pos hb) (fun b hb => if_neg (by omega)) (by decide) eJ⟩, fun b hb h10 => eJ b hb (by omega), by omega, by omega⟩, rfl⟩)
theorem c_J4_clear (K : KT) (d : Nat) (h : MH) (m : Nat) (root : Option Nat) (n mc : Int) (hm : h.2.2 m = some (true, .inr (17, [.null, .null, .null, va_rf root, vi n, vi mc, .null, .null, .null]))) : Mt K yiJ4_clear d [.ref m] h (Rv fun h' => Hp h h' m (true, .inr (17, [.null, .null, .null, .null, vi 0, vi (mc + 1), .null, .null, .null])) 0 0) := by
  refine mt_ofQ (by decide) (Nat.le_of_ble_eq_true rfl) (fun Q hQ => ?_)
  show MW K yiJ4_clear d h 0 [some (.ref m)] [] Q
  refine mw_wf (fun hwf => ?_)
  have l_hm := hwf _ _ hm
  refine m_aload_n (y := yiJ4_clear) dJ4_clear_0 rfl ?_
  refine m_dup (y := yiJ4_clear) dJ4_clear_1 rfl ?_
  refine m_getfS (y := yiJ4_clear) kc_17 5 (by decide) dJ4_clear_2 q242 hm rfl ?_
  refine j_iconst (y := yiJ4_clear) dJ4_clear_5 ?_
  refine j_iadd (y := yiJ4_clear) dJ4_clear_6 ?_
  refine m_putfS (y := yiJ4_clear) kc_17 5 (by decide) dJ4_clear_7 q242 rfl hm rfl rfl (hp_put fun g1 g1H => ?_)
  have hm : g1.2.2 m = some (true, .inr (17, [.null, .null, .null, (va_rf root), (vi n), (vi (mc + 1)), .null, .null, .null])) := g1H.2.2.1
  have g11 := g1H.1
  have g12 := g1H.2.1
  refine m_aload_n (y := yiJ4_clear) dJ4_clear_10 rfl ?_
  refine j_iconst (y := yiJ4_clear) dJ4_clear_11 ?_
  refine m_putfS (y := yiJ4_clear) kc_17 4 (by decide) dJ4_clear_12 q241 rfl hm rfl rfl (hp_put fun g2 g2H => ?_)
  have hm : g2.2.2 m = some (true, .inr (17, [.null, .null, .null, (va_rf root), (vi 0), (vi (mc + 1)), .null, .null, .null])) := g2H.2.2.1
  have g21 := g2H.1
  have g22 := g2H.2.1
  refine m_aload_n (y := yiJ4_clear) dJ4_clear_15 rfl ?_
  refine m_null (y := yiJ4_clear) dJ4_clear_16 ?_
  refine m_putfS (y := yiJ4_clear) kc_17 3 (by decide) dJ4_clear_17 q240 rfl hm rfl rfl (hp_put fun g3 g3H => ?_)
  have hm : g3.2.2 m = some (true, .inr (17, [.null, .null, .null, .null, (vi 0), (vi (mc + 1)), .null, .null, .null])) := g3H.2.2.1
  have g31 := g3H.1
  have g32 := g3H.2.1
  subst hQ; exact j_vret (y := yiJ4_clear) dJ4_clear_20 rfl (⟨by omega, by omega, hm, fun b hb => (g3H.2.2.2 b hb).trans ((g2H.2.2.2 b hb).trans (g1H.2.2.2 b hb))⟩)
theorem c_J4_size (K : KT) (d : Nat) (h : MH) (m : Nat) (root : Option Nat) (n mc : Int) (hm : h.2.2 m = some (true, .inr (17, [.null, .null, .null, va_rf root, vi n, vi mc, .null, .null, .null]))) : Mt K yiJ4_size d [.ref m] h (Rz fun v h' => h = h' ∧ n = v) := by
  refine mt_ofQ (by decide) (Nat.le_of_ble_eq_true rfl) (fun Q hQ => ?_)
  show MW K yiJ4_size d h 0 [some (.ref m)] [] Q
  refine mw_wf (fun hwf => ?_)
  have l_hm := hwf _ _ hm
  refine m_aload_n (y := yiJ4_size) dJ4_size_0 rfl ?_
  refine m_getfS (y := yiJ4_size) kc_17 4 (by decide) dJ4_size_1 q241 hm rfl ?_
  subst hQ; exact j_iret (y := yiJ4_size) dJ4_size_4 rfl (⟨rfl, rfl⟩)
theorem TmS.nil {key : Nat → Int} {lf rt pa : Nat → Option Nat} {lo hi : Nat → Int} {LO HI : Int} : TmS [] key lf rt pa lo hi none LO HI := ⟨List.nodup_nil, ⟨fun _ => rfl, fun _ => rfl⟩, fun r h => (nomatch h), fun a h => (nomatch h), fun a b h => (nomatch h), fun a b h => (nomatch h), fun a b h => (nomatch h), fun a h => (nomatch h), fun a b h => (nomatch h), fun a b h => (nomatch h), fun a b h => (nomatch h)⟩
theorem TmL.nil {key lo hi : Nat → Int} {LO HI : Int} : TmL [] key lo hi LO HI := ⟨fun a h => (nomatch h), fun a h => (nomatch h), fun a b h => (nomatch h), fun a b h => (nomatch h)⟩
theorem u_onTime (hd : 3 ≤ d) (hT : TB sg) (hW : WorldO own K h z x sg) (hz1 : z ≤ h.1) : Mt K yiX1_onTime d [.ref x] h (Rz fun v h' => MutQ K own h h' z x (ovr sg [(14, 0)] []) ∧ sg.1 14 = v) := by
  have hW0 : World K h z x sg := ⟨own, hW⟩
  obtain ⟨e0, cc, ch, wk, sv, tr, lt, ws, tx, se, te, we, kp, sp, tp, wp, T, hKt, hEt, hIt, hxt, hcht, hwkt, hsvt, htrt, hltt, hwst, htxt, hkpt, hR0⟩ := id hW
  obtain ⟨hx, hxz, -⟩ := tg_at hxt
  obtain ⟨hch, hchz, -⟩ := tg_at hcht
  have hxo := hR0.own hxt
  have hcho := hR0.own hcht
  have hE1 := hEt.1
  obtain ⟨hE2, hE2z, -⟩ := tg_at hEt.2
  obtain ⟨k0, k1, k3, k4, k5, k8, k9, k10, k11, k12⟩ := id hKt
  have hwk := And.intro hwkt.1.C hwkt.2
  have hsv := hsvt
  have htr := htrt
  have hlt := hltt
  have hws := hwst
  have htx := htxt
  obtain ⟨L, ko, key, vl, lf, rt, pa, co, lo, hi, root, mc, hF9, hKk, hS9, hLn, hv, hi1, hu⟩ := id hlt
  have hC := hF9.C
  obtain ⟨hm, hmz, -⟩ := tg_at hC.1
  have hmo := hR0.own hC.1
  have n1 : x ≠ lt := ne_oo hx hm (by decide)
  refine mt_ofQ (by decide) (Nat.le_of_ble_eq_true rfl) (fun Q hQ => ?_)
  show MW K yiX1_onTime d h 0 [some (.ref x), none] [] Q
  refine mw_wf (fun hwf => ?_)
  have l_hx := hwf _ _ hx
  have l_hm := hwf _ _ hm
  refine m_aload_n (y := yiX1_onTime) dX1_onTime_0 rfl ?_
  refine m_getfS (y := yiX1_onTime) kc_0 5 (by decide) dX1_onTime_1 q303 hx rfl ?_
  refine m_invV (y := yiX1_onTime) (rB := (RJ4, TJ4, 9)) [] dX1_onTime_4 hm rfl q694 q695 q696 q128 q697 rfl (c_J4_size K 0 h lt root (L.length : Int) mc hm) pdJ4_size ⟨Nat.le_of_ble_eq_true rfl, by decide, by omega⟩ (kk_z fun r4 h4 q4 => ?_) kx_z
  obtain ⟨rfl, rfl⟩ := q4
  refine mw_top (x' := (L.length : Int)) rfl ?_
  refine j_istore_n (y := yiX1_onTime) [some (.ref x), some (vi (L.length : Int))] dX1_onTime_7 (by decide) rfl rfl ?_
  refine m_aload_n (y := yiX1_onTime) dX1_onTime_8 rfl ?_
  refine m_getfS (y := yiX1_onTime) kc_0 5 (by decide) dX1_onTime_9 q303 hx rfl ?_
  refine m_invV (y := yiX1_onTime) (rB := (RJ4, TJ4, 9)) [] dX1_onTime_12 hm rfl q698 q699 q700 q128 q701 rfl (c_J4_clear K 0 h lt root (L.length : Int) mc hm) pdJ4_clear ⟨Nat.le_of_ble_eq_true rfl, by decide, by omega⟩ (kk_v fun h12 q12 => ?_) kx_v
  obtain q12 := q12
  have y12 := q12.1
  have z12 := q12.2.1
  have hm := q12.2.2.1
  have hx : h12.2.2 x = some (true, .inr (0, [(.ref ch), (.ref wk), (vi (sg.1 1)), (.ref sv), (.ref tr), (.ref lt), (.ref ws), (.ref tx), (vi (sg.1 21)), (va_rf kp)])) := (q12.2.2.2 _ (by omega)).trans hx
  refine mw_wf (fun hwf12 => ?_)
  have l_hm12 := hwf12 _ _ hm
  refine j_iload_n (y := yiX1_onTime) dX1_onTime_15 rfl ?_
  have eJ : ∀ b, b < z → own b ≠ 6 → h12.2.2 b = h.2.2 b := fun b hb hn => q12.2.2.2 b (fun e9 => by { rw [e9] at hn; exact hn hmo })
  have U := upO (j := 6) (by decide) (show z ≤ h12.1 by omega) eJ
  have hnew : LtA (tg (ownJ own z 6) h12.1 6 h12) lt (ovr sg [(14, 0)] []) := ⟨[], ko, key, vl, lf, rt, pa, co, lo, hi, none, mc + 1, ⟨tg_mk hm (by omega) (Or.inl ((if_pos hmz).trans hmo)), fun a h9 => (nomatch h9), fun a h9 => (nomatch h9)⟩, fun a h9 => (nomatch h9), ⟨⟨TmS.nil, TmL.nil⟩, fun r h9 => (nomatch h9)⟩, rfl, fun a h9 => (nomatch h9), fun i a b => absurd b (by show ¬ i < 0; omega), fun i j a b => absurd b (by show ¬ i < 0; omega)⟩
  subst hQ; exact j_iret (y := yiX1_onTime) dX1_onTime_16 rfl (⟨⟨ownJ own z 6, fun b hb => if_pos hb, ⟨e0, cc, ch, wk, sv, tr, lt, ws, tx, se, te, we, kp, sp, tp, wp, T, hKt, (by rw [U 0 (by decide)]; exact hEt), (by rw [U 0 (by decide)]; exact hIt), (by rw [U 1 (by decide)]; exact hxt), (by rw [U 2 (by decide)]; exact hcht), (by rw [U 3 (by decide)]; exact hwkt), ⟨by rw [U 4 (by decide)]; exact hsvt.1, fun s a b => by rw [U (100 + s.toNat) (by have b9 : s < sg.1 6 := b; omega)]; exact hsvt.2 s a b⟩, ⟨by rw [U 5 (by decide)]; exact htrt.1, fun t a b => by rw [U (200 + t.toNat) (by have b9 : t < sg.1 8 := b; omega)]; exact htrt.2 t a b⟩, hnew, ⟨by rw [U 7 (by decide)]; exact hwst.1, fun w a b => by rw [U 7 (by decide)]; exact hwst.2 w a b⟩, (by rw [U 8 (by decide)]; exact htxt), (by rw [U 9 (by decide)]; exact hkpt), hR0.up (J := fun q => q = 6) (fun b hb => if_pos hb) (fun b hb => if_neg (by omega)) (by decide) eJ⟩, fun b hb h10 => eJ b hb (by omega), by omega, by omega⟩, hLn.symm⟩)
end WSH
