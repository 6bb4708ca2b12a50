/-! Lastbus: shift -/
theorem shB_all {sg : TS} {t mi : Int} (hM : tmOk sg) (ht : 0 ≤ t ∧ t < sg.1 8) (hn : 1 ≤ sg.2 10 t) : (∀ c, 0 ≤ c → c < sg.2 10 t → ¬ shB sg t mi c) ↔ 0 ≤ sg.2 12 (8 * t) + mi ∧ sg.2 13 (8 * t + (sg.2 10 t - 1)) + mi < 2880 := by
  unfold shB
  constructor
  · intro h
    have h1 := Classical.not_not.mp (h 0 (by omega) (by omega))
    have h2 := Classical.not_not.mp (h (sg.2 10 t - 1) (by omega) (by omega))
    rw [Int.add_zero] at h1
    omega
  · rintro ⟨h1, h2⟩ c c0 c1 h3
    apply h3
    have e0 := hM.2 t 0 ht.1 ht.2 (by omega) (by omega)
    have ec := hM.2 t c ht.1 ht.2 c0 c1
    have en := hM.2 t (sg.2 10 t - 1) ht.1 ht.2 (by omega) (by omega)
    rw [Int.add_zero] at e0
    have lo : sg.2 12 (8 * t) ≤ sg.2 12 (8 * t + c) := by
      by_cases e : c = 0
      · rw [e, Int.add_zero]; exact Int.le_refl _
      · have r := hM.rise ht (c - 1).toNat 0 (by omega) (by omega)
        rw [show (0 : Int) + 1 + ((c - 1).toNat : Nat) = c by omega, Int.add_zero] at r
        omega
    have hi : sg.2 13 (8 * t + c) ≤ sg.2 13 (8 * t + (sg.2 10 t - 1)) := by
      by_cases e : c = sg.2 10 t - 1
      · rw [e]; exact Int.le_refl _
      · have r := hM.rise ht (sg.2 10 t - 1 - c - 1).toNat c c0 (by omega)
        rw [show c + 1 + ((sg.2 10 t - 1 - c - 1).toNat : Nat) = sg.2 10 t - 1 by omega] at r
        omega
    omega
theorem mvA_at {f : Int → Int} {t n mi c : Int} (h : 0 ≤ c ∧ c < n) : mvA f t n mi (8 * t + c) = f (8 * t + c) + mi := by
  unfold mvA; rw [if_pos (by omega)]
theorem mvA_ne {f : Int → Int} {t n mi q : Int} (h : ¬ (8 * t ≤ q ∧ q < 8 * t + n)) : mvA f t n mi q = f q := by
  unfold mvA; rw [if_neg h]
section SHF
variable (K : KT) (d : Nat) (own : Nat → Nat) (h : MH) (z x : Nat) (sg : TS)
theorem u_shift (t mi : Int) (hd : 10 ≤ d) (hT : TB sg) (hC : clOk sg) (hM : tmOk sg) (hW : WorldO own K h z x sg) (hz1 : z ≤ h.1) (i1 : In t) (i2 : In mi) (hz : h.1 + 25000 ≤ kC K ∧ h.2.1 + 304000 ≤ kS K) : Mt K yiX1_shift d [.ref x, vi t, vi mi] h (Rw [RJ14, RJ12] fun th v h' => (¬ (0 ≤ t ∧ t ≤ sg.1 8 - 1) ∧ th = 1 ∧ QFr h h') ∨ ((0 ≤ t ∧ t ≤ sg.1 8 - 1) ∧ (¬ (-60 ≤ mi ∧ mi ≤ 60) ∨ ∃ c, 0 ≤ c ∧ c < sg.2 10 t ∧ shB sg t mi c) ∧ th = 2 ∧ QFr h h') ∨ ((0 ≤ t ∧ t ≤ sg.1 8 - 1) ∧ ((-60 ≤ mi ∧ mi ≤ 60) ∧ ∀ c, 0 ≤ c → c < sg.2 10 t → ¬ shB sg t mi c) ∧ th = 0 ∧ MutQ K own h h' z x (sgShift sg t mi) ∧ v = sg.2 13 (8 * t) + mi)) := by
  have f8 := of8 (hT.1 8)
  have f6 := of6 (hT.1 6)
  have := i1.1; have := i1.2; have := i2.1; have := i2.2
  have hW0 : World K h z x sg := ⟨own, hW⟩
  obtain ⟨e0, cc, ch, wk, sv, tr, lt, ws, tx, se, te, we, kp, sp, tp, wp, T, hKt, hEt, hIt, hxt, hcht, hwkt, hsvt, htrt, hltt, hwst, htxt, hkpt, hR0⟩ := id hW
  obtain ⟨hx, hxz, -⟩ := tg_at hxt
  obtain ⟨hch, hchz, -⟩ := tg_at hcht
  have hxo := hR0.own hxt
  have hcho := hR0.own hcht
  have hE1 := hEt.1
  obtain ⟨hE2, hE2z, -⟩ := tg_at hEt.2
  obtain ⟨k0, k1, k3, k4, k5, k8, k9, k10, k11, k12⟩ := id hKt
  have hwk := And.intro hwkt.1.C hwkt.2
  have hsv := hsvt
  have htr := htrt
  have hlt := hltt
  have hws := hwst
  have htx := htxt
  have hW9 : World K h z x sg := ⟨own, hW⟩
  have hLt := htr.1
  obtain ⟨⟨wt, capt, mct, ft, hto, hte, htne, ht0, htw, htcap, htf, htno⟩, htt⟩ := htr
  obtain ⟨hto, htoz, -⟩ := tg_at hto
  obtain ⟨hte, htez, -⟩ := tg_at hte
  obtain ⟨w_0, c_0, m_0, f_0, hto9, hte9, -⟩ := id hLt
  have hsq : (0 ≤ t ∧ t ≤ sg.1 8 - 1) → ∃ s0 l, h.2.2 (tp t) = some (true, .inr (2, [vi s0, .ref l])) := fun c9 => by
    obtain ⟨l, e, p, hq, -⟩ := htt t (by omega) (by omega)
    exact ⟨_, l, (tg_at hq).1⟩
  have he0o : own e0 = 0 := by have := (tg_at hEt.2).2.2; omega
  have n1 : x ≠ te := ne_oa hx hte
  have n2 : tr ≠ te := ne_oa hto hte
  refine mt_ofQ (by decide) (Nat.le_of_ble_eq_true rfl) (fun Q hQ => ?_)
  show MW K yiX1_shift d h 0 [some (.ref x), some (vi t), some (vi mi), none] [] Q
  refine mw_wf (fun hwf => ?_)
  have l_hx := hwf _ _ hx
  have l_hto := hwf _ _ hto
  have l_hte := hwf _ _ hte
  have l_hE2 := hwf _ _ hE2
  have fR : ∀ b, (b < h.1 ∧ b ≠ te) → h.2.2 b = h.2.2 b := fun _ _ => rfl
  refine m_aload_n (y := yiX1_shift) dX1_shift_0 rfl ?_
  refine j_iload_n (y := yiX1_shift) dX1_shift_1 rfl ?_
  by_cases c2 : 0 ≤ t ∧ t ≤ sg.1 8 - 1
  · refine m_invV (y := yiX1_shift) (rB := (RX1, TX1, 10)) [(vi t)] dX1_shift_2 hx rfl q1177 q1179 qs12 q123 q1180 rfl (c_tripOfA K 3 h t (by omega) hx hto hte htcap htf (hsq c2) c2) pdX1_tripOf ⟨Nat.le_of_ble_eq_true rfl, by decide, by omega⟩ (kk_r fun r2 h2 q2 => ?_) kx_r
    obtain ⟨rfl, rfl⟩ := q2
    have hn8 := oa10 (hT.2 10) t (by omega) (by omega)
    have hn1 := hC t (by omega) (by omega)
    have hsh := shB_all (mi := mi) hM ⟨c2.1, by omega⟩ hn1
    have hTh : TrpA K h e0 (sg.2 9 t) (sg.2 10 t) (trS sg t) (trA sg t) (trD sg t) (tp t) := (htt t (by omega) (by omega)).up tg_h
    have htm : ∀ c, 0 ≤ c → c < sg.2 10 t → (0 ≤ trA sg t c ∧ trA sg t c ≤ 10000) ∧ (0 ≤ trD sg t c ∧ trD sg t c ≤ 10000) := fun c c0 c1 => by { have u1 := oa12 (hT.2 12) (8 * t + c) (by omega) (by omega); have u2 := oa13 (hT.2 13) (8 * t + c) (by omega) (by omega); unfold trA trD; omega }
    obtain ⟨l, e, p, htq9, -⟩ := htt t (by omega) (by omega)
    obtain ⟨htq, htqz, -⟩ := tg_at htq9
    have n3 : tp t ≠ te := ne_oa htq hte
    have htq : h.2.2 (tp t) = some (true, .inr (2, [(vi (sg.2 9 t)), (.ref l)])) := htq
    have l_htq := hwf _ _ htq
    refine m_astore_n (y := yiX1_shift) dX1_shift_5 (by decide) rfl ?_
    show MW K yiX1_shift d h 6 [some (.ref x), some (vi t), some (vi mi), some (.ref (tp t))] [] Q
    refine j_iload_n (y := yiX1_shift) dX1_shift_6 rfl ?_
    refine j_bipush (y := yiX1_shift) dX1_shift_7 (by decide) ?_
    refine j_bipush (y := yiX1_shift) dX1_shift_9 (by decide) ?_
    refine m_invS (y := yiX1_shift) [(vi mi), (vi (-60)), (vi 60)] dX1_shift_11 q850 q851 q123 q852 (c_X1_isBetween K 0 h mi (-60) 60 ⟨by omega, by omega⟩ ⟨by omega, by omega⟩ ⟨by omega, by omega⟩) pdX1_isBetween ⟨Nat.le_of_ble_eq_true rfl, by decide, by omega⟩ (kk_z fun r11 h11 q11 => ?_) kx_z
    obtain ⟨rfl, rfl⟩ := q11
    refine mw_top (x' := bz ((-60) ≤ mi ∧ mi ≤ 60)) rfl ?_
    have hA0 : trA sg t 0 = sg.2 12 (8 * t) := by unfold trA; rw [Int.add_zero]
    have hD0 : trD sg t 0 = sg.2 13 (8 * t) := by unfold trD; rw [Int.add_zero]
    have hDn : trD sg t (sg.2 10 t - 1) = sg.2 13 (8 * t + (sg.2 10 t - 1)) := rfl
    have htoo := hR0.own hto9
    refine j_bz_eq (y := yiX1_shift) 29 dX1_shift_14 (by decide) (fun c14 => ?_) (fun c14 => ?_)
    · refine j_iconst (y := yiX1_shift) dX1_shift_29 ?_
      refine m_invS (y := yiX1_shift) [(vi 0)] dX1_shift_30 q853 q854 q123 q855 (c_X1_require_0 K 6 h (by omega) ⟨by omega, by omega⟩) pdX1_require ⟨Nat.le_of_ble_eq_true rfl, by decide, by omega⟩ kk_t (kx_t fun q30 h30 x30 => ?_)
      subst hQ; exact mx_ret rfl (Or.inr ⟨1, RJ12, q30, rfl, rfl, fun _ => Or.inr (Or.inl ⟨c2, (by first | exact Or.inl c14 | exact Or.inr (Classical.byContradiction (fun h9 => c22 (by { rw [hA0, hDn]; exact hsh.mp (fun c a b h8 => h9 ⟨c, a, b, h8⟩) })))), rfl, QFr.th x30 ⟨by omega, by omega⟩ ⟨by omega, by omega⟩ (fun _ _ => rfl)⟩)⟩)
    · refine m_aload_n (y := yiX1_shift) dX1_shift_17 rfl ?_
      refine j_iload_n (y := yiX1_shift) dX1_shift_18 rfl ?_
      refine m_invV (y := yiX1_shift) (rB := (RX3, TX3, 2)) [(vi mi)] dX1_shift_19 htq rfl q1223 q1224 q1225 q153 q1226 rfl (c_X3_canShift K 4 h e0 (sg.2 9 t) (sg.2 10 t) mi (trS sg t) (trA sg t) (trD sg t) (tp t) (by omega) hTh hn1 ⟨by omega, by omega⟩ htm) pdX3_canShift ⟨Nat.le_of_ble_eq_true rfl, by decide, by omega⟩ (kk_z fun r19 h19 q19 => ?_) kx_z
      obtain ⟨rfl, rfl⟩ := q19
      refine mw_top (x' := bz (0 ≤ trA sg t 0 + mi ∧ trD sg t (sg.2 10 t - 1) + mi < 2880)) rfl ?_
      refine j_bz_eq (y := yiX1_shift) 29 dX1_shift_22 (by decide) (fun c22 => ?_) (fun c22 => ?_)
      · refine j_iconst (y := yiX1_shift) dX1_shift_29 ?_
        refine m_invS (y := yiX1_shift) [(vi 0)] dX1_shift_30 q853 q854 q123 q855 (c_X1_require_0 K 6 h (by omega) ⟨by omega, by omega⟩) pdX1_require ⟨Nat.le_of_ble_eq_true rfl, by decide, by omega⟩ kk_t (kx_t fun q30 h30 x30 => ?_)
        subst hQ; exact mx_ret rfl (Or.inr ⟨1, RJ12, q30, rfl, rfl, fun _ => Or.inr (Or.inl ⟨c2, (by first | exact Or.inl c14 | exact Or.inr (Classical.byContradiction (fun h9 => c22 (by { rw [hA0, hDn]; exact hsh.mp (fun c a b h8 => h9 ⟨c, a, b, h8⟩) })))), rfl, QFr.th x30 ⟨by omega, by omega⟩ ⟨by omega, by omega⟩ (fun _ _ => rfl)⟩)⟩)
      · refine j_iconst (y := yiX1_shift) dX1_shift_25 ?_
        refine m_goto (y := yiX1_shift) 30 dX1_shift_26 (by decide) ?_
        refine m_invS (y := yiX1_shift) [(vi 1)] dX1_shift_30 q853 q854 q123 q855 (c_X1_require_1 K 0 h) pdX1_require ⟨Nat.le_of_ble_eq_true rfl, by decide, by omega⟩ (kk_v fun h30 q30 => ?_) kx_v
        obtain rfl := q30
        have hwt : wt = true := htw (by omega)
        have hteT : h.2.2 te = some (true, oaE K capt ft) := by rw [← hwt]; exact hte
        have hte9T : (tg own z 5 h).2.2 te = some (true, oaE K capt ft) := tg_mk hteT htez (tg_at hte9).2.2
        have hteo := hR0.own hte9T
        have n5 : e0 ≠ te := ne_w hE2 hteT (by decide)
        refine m_aload_n (y := yiX1_shift) dX1_shift_33 rfl ?_
        have hteT : h.2.2 te = some (true, oaE K capt ft) := hteT
        have l_hteT := hwf _ _ hteT
        refine m_getfS (y := yiX1_shift) kc_0 4 (by decide) dX1_shift_34 q302 hx rfl ?_
        refine j_iload_n (y := yiX1_shift) dX1_shift_37 rfl ?_
        refine m_aload_n (y := yiX1_shift) dX1_shift_38 rfl ?_
        refine j_iload_n (y := yiX1_shift) dX1_shift_39 rfl ?_
        refine m_invV (y := yiX1_shift) (rB := (RX3, TX3, 2)) [(vi mi)] dX1_shift_40 htq rfl q1230 q1231 q1232 q153 q1233 rfl (c_X3_shiftedN K 7 h e0 (sg.2 9 t) (sg.2 10 t) mi (trS sg t) (trA sg t) (trD sg t) (tp t) (by omega) ⟨k0, hE2⟩ hTh (by omega) ⟨by omega, by omega⟩) pdX3_shifted ⟨Nat.le_of_ble_eq_true rfl, by decide, by omega⟩ (kk_r fun r40 h40 q40 => ?_) kx_r
        obtain ⟨y40, z40, f40, hT40⟩ := q40
        have hx : h40.2.2 x = some (true, .inr (0, [(.ref ch), (.ref wk), (vi (sg.1 1)), (.ref sv), (.ref tr), (.ref lt), (.ref ws), (.ref tx), (vi (sg.1 21)), (va_rf kp)])) := (f40 _ (by omega)).trans hx
        have hto : h40.2.2 tr = some (true, .inr (14, [(vi mct), (.ref te), (vi (sg.1 8))])) := (f40 _ (by omega)).trans hto
        have hteT : h40.2.2 te = some (true, oaE K capt ft) := (f40 _ (by omega)).trans hteT
        have hE2 : h40.2.2 e0 = some (false, oaE K 0 (fun _ => none)) := (f40 _ (by omega)).trans hE2
        have htq : h40.2.2 (tp t) = some (true, .inr (2, [(vi (sg.2 9 t)), (.ref l)])) := (f40 _ (by omega)).trans htq
        have fR : ∀ b, (b < h.1 ∧ b ≠ te) → h40.2.2 b = h.2.2 b := fun b hb => (f40 b (by omega)).trans (fR b hb)
        refine mw_wf (fun hwf40 => ?_)
        obtain ⟨l2, e2, p2, hq2, ⟨w2, cap2, mc2, f2, ho2, he2, hae2, h02, hw2, hcap2, hf2, hno2⟩, hp2⟩ := id hT40
        have hwf40' := hwf40
        refine m_invV (y := yiX1_shift) (rB := (RJ2, TJ2, 3)) [(vi t), (.ref r40)] dX1_shift_43 hto rfl q1248 q1249 q1250 q126 q1251 rfl (c_J2_set K 2 h40 tr te capt r40 (tp t) mct (sg.1 8) t ft (by omega) hto hteT ⟨by omega, by omega⟩ ⟨by omega, by omega⟩ (htf t (by omega) (by omega)) (iso_of (nwE_at hq2).1 rfl)) pdJ2_set ⟨Nat.le_of_ble_eq_true rfl, by decide, by omega⟩ (kk_r fun r43 h43 q43 => ?_) kx_r
        obtain ⟨rfl, q43⟩ := q43
        have y43 := q43.1
        have z43 := q43.2.1
        have hteT := q43.2.2.1
        have hx : h43.2.2 x = some (true, .inr (0, [(.ref ch), (.ref wk), (vi (sg.1 1)), (.ref sv), (.ref tr), (.ref lt), (.ref ws), (.ref tx), (vi (sg.1 21)), (va_rf kp)])) := (q43.2.2.2 _ (by omega)).trans hx
        have hto : h43.2.2 tr = some (true, .inr (14, [(vi mct), (.ref te), (vi (sg.1 8))])) := (q43.2.2.2 _ (by omega)).trans hto
        have htq : h43.2.2 (tp t) = some (true, .inr (2, [(vi (sg.2 9 t)), (.ref l)])) := (q43.2.2.2 _ (by omega)).trans htq
        have fR : ∀ b, (b < h.1 ∧ b ≠ te) → h43.2.2 b = h.2.2 b := fun b hb => (q43.2.2.2 b (by omega)).trans (fR b hb)
        refine mw_wf (fun hwf43 => ?_)
        have l_hteT43 := hwf43 _ _ hteT
        have hnw9 : ∀ b c, (nwE h.1 e0 h40).2.2 b = some c → h43.2.2 b = some c := fun b c e9 => by { have u9 := nwE_at e9; exact (q43.2.2.2 b (by rcases u9.2 with h9 | h9; { omega }; { rw [h9]; exact n5 })).trans u9.1 }
        refine m_pop (y := yiX1_shift) dX1_shift_46 rfl ?_
        refine m_aload_n (y := yiX1_shift) dX1_shift_47 rfl ?_
        refine m_getfS (y := yiX1_shift) kc_0 4 (by decide) dX1_shift_48 q302 hx rfl ?_
        refine j_iload_n (y := yiX1_shift) dX1_shift_51 rfl ?_
        refine m_invV (y := yiX1_shift) (rB := (RJ2, TJ2, 3)) [(vi t)] dX1_shift_52 hto rfl q1035 q1036 q1037 q126 q1038 rfl (c_J2_get K 2 h43 _ _ _ _ _ _ _ _ _ (by omega) hto hteT ⟨by omega, by omega⟩ ⟨by omega, by omega⟩ (show upq ft t (some r40) t = some r40 from if_pos rfl)) pdJ2_get ⟨Nat.le_of_ble_eq_true rfl, by decide, by omega⟩ (kk_r fun r52 h52 q52 => ?_) kx_r
        obtain ⟨rfl, rfl⟩ := q52
        have hq3 : h43.2.2 r40 = some (true, .inr (2, [(vi (sg.2 9 t)), (.ref l2)])) := hnw9 _ _ hq2
        have l_hq3 := hwf43 _ _ hq3
        have ho3 : h43.2.2 l2 = some (true, .inr (14, [(vi mc2), (.ref e2), (vi (sg.2 10 t))])) := hnw9 _ _ ho2
        have l_ho3 := hwf43 _ _ ho3
        have he3 : h43.2.2 e2 = some (w2, oaE K cap2 f2) := hnw9 _ _ he2
        have l_he3 := hwf43 _ _ he3
        have hc3 : h43.2.2 (p2 0) = some (true, .inr (3, [(vi (trS sg t 0)), (vi (trA sg t 0 + mi)), (vi (trD sg t 0 + mi))])) := hnw9 _ _ (hp2 0 (by omega) (by omega))
        have l_hc3 := hwf43 _ _ hc3
        refine m_cast (y := yiX1_shift) dX1_shift_55 hq3 rfl q794 (Or.inl rfl) ?_
        refine m_getfN (y := yiX1_shift) kc_2 1 (by decide) dX1_shift_58 q1146 hq3 rfl ?_
        refine j_iconst (y := yiX1_shift) dX1_shift_61 ?_
        refine m_invV (y := yiX1_shift) (rB := (RJ2, TJ2, 3)) [(vi 0)] dX1_shift_62 ho3 rfl q1035 q1036 q1037 q126 q1038 rfl (c_J2_get K 2 h43 _ _ _ _ _ _ _ _ _ (by omega) ho3 he3 ⟨by omega, by omega⟩ ⟨by omega, by omega⟩ (hf2 _ (by omega) (by omega))) pdJ2_get ⟨Nat.le_of_ble_eq_true rfl, by decide, by omega⟩ (kk_r fun r62 h62 q62 => ?_) kx_r
        obtain ⟨rfl, rfl⟩ := q62
        refine m_cast (y := yiX1_shift) dX1_shift_65 hc3 rfl q795 (Or.inl rfl) ?_
        refine m_invV (y := yiX1_shift) (rB := (RX4, TX4, 3)) [] dX1_shift_68 hc3 rfl q804 q805 q806 q155 q807 rfl (c_X4_departure (d := 0) hc3) pdX4_departure ⟨Nat.le_of_ble_eq_true rfl, by decide, by omega⟩ (kk_z fun r68 h68 q68 => ?_) kx_z
        obtain ⟨rfl, rfl⟩ := q68
        refine mw_top (x' := (trD sg t 0 + mi)) rfl ?_
        have eJ : ∀ b, b < z → ¬ (own b = 5 ∨ own b = 200 + t.toNat) → h43.2.2 b = h.2.2 b := fun b hb hn => fR b ⟨by omega, fun e9 => by { rw [e9] at hn; exact hn (Or.inl hteo) }⟩
        have hz9 : z ≤ h43.1 := by omega
        have U : ∀ k, ¬ (k = 5 ∨ k = 200 + t.toNat) → tg (ownJ own z (200 + t.toNat)) h43.1 k h43 = tg own z k h := fun k hk => tg_upJ (J := fun q => q = 5 ∨ q = 200 + t.toNat) (fun b hb => if_pos hb) (fun b hb => Or.inr (if_neg (by omega))) (by omega) hk hz9 eJ
        have tmN : ∀ b c, (nwE h.1 e0 h40).2.2 b = some c → (tg (ownJ own z (200 + t.toNat)) h43.1 (200 + t.toNat) h43).2.2 b = some c := fun b c e9 => by { have u9 := nwE_at e9; have l9 := hwf40' _ _ u9.1; rcases u9.2 with h9 | h9; { exact tg_mk (hnw9 _ _ e9) (by omega) (Or.inl (if_neg (by omega))) }; { exact tg_mk (hnw9 _ _ e9) (by omega) (Or.inr (by rw [h9]; exact (if_pos hE2z).trans he0o)) } }
        have hnew : LsB K (tg (ownJ own z (200 + t.toNat)) h43.1 5 h43) e0 tr te (sg.1 8) (upn tp t r40) := ⟨true, capt, mct, upq ft t (some r40), tg_mk hto (by omega) (Or.inl ((if_pos htoz).trans htoo)), tg_mk hteT (by omega) (Or.inl ((if_pos htez).trans hteo)), n2, ht0, fun _ => rfl, htcap, fun i a b => by { by_cases e9 : i = t; { rw [e9, upn_at]; exact if_pos rfl }; { rw [upn_ne e9]; exact (if_neg e9).trans (htf i a b) } }, fun i a => (if_neg (by omega)).trans (htno i a)⟩
        have hnew2 : ∀ t9, 0 ≤ t9 → t9 < sg.1 8 → TrpA K (tg (ownJ own z (200 + t.toNat)) h43.1 (200 + t9.toNat) h43) e0 ((sgShift sg t mi).2 9 t9) ((sgShift sg t mi).2 10 t9) (trS (sgShift sg t mi) t9) (trA (sgShift sg t mi) t9) (trD (sgShift sg t mi) t9) (upn tp t r40 t9) := fun t9 a b => by { by_cases e8 : t9 = t; { rw [e8, upn_at]; exact (hT40.up tmN).to rfl rfl (fun c c0 c1 => ⟨rfl, mvA_at ⟨c0, c1⟩, mvA_at ⟨c0, c1⟩⟩) }; { have m9 := oa10 (hT.2 10) t9 a (by omega); rw [upn_ne e8, U (200 + t9.toNat) (by omega)]; exact (htt t9 a (by omega)).to rfl rfl (fun c c0 c1 => ⟨rfl, mvA_ne (by omega), mvA_ne (by omega)⟩) } }
        subst hQ; exact j_wret (y := yiX1_shift) dX1_shift_71 rfl (Or.inr (Or.inr ⟨c2, ⟨c14, hsh.mpr (by { rw [hA0, hDn] at c22; exact c22 })⟩, rfl, ⟨ownJ own z (200 + t.toNat), fun b hb => if_pos hb, ⟨e0, cc, ch, wk, sv, tr, lt, ws, tx, se, te, we, kp, sp, upn tp t r40, wp, T, hKt, (by rw [U 0 (by omega)]; exact hEt), (by rw [U 0 (by omega)]; exact hIt), (by rw [U 1 (by omega)]; exact hxt), (by rw [U 2 (by omega)]; exact hcht), (by rw [U 3 (by omega)]; exact hwkt), ⟨by rw [U 4 (by omega)]; exact hsvt.1, fun s a b => by rw [U (100 + s.toNat) (by have b9 : s < sg.1 6 := b; omega)]; exact hsvt.2 s a b⟩, ⟨hnew, hnew2⟩, (by rw [U 6 (by omega)]; exact hltt), ⟨by rw [U 7 (by omega)]; exact hwst.1, fun w a b => by rw [U 7 (by omega)]; exact hwst.2 w a b⟩, (by rw [U 8 (by omega)]; exact htxt), (by rw [U 9 (by omega)]; exact hkpt), hR0.up (J := fun q => q = 5 ∨ q = 200 + t.toNat) (fun b hb => if_pos hb) (fun b hb => Or.inr (if_neg (by omega))) (by omega) eJ⟩, fun b hb h10 => eJ b hb (by omega), by omega, by omega⟩, by rw [← hD0]⟩))
  · refine m_invV (y := yiX1_shift) (rB := (RX1, TX1, 10)) [(vi t)] dX1_shift_2 hx rfl q1177 q1179 qs12 q123 q1180 rfl (c_X1_tripOf_0 K 7 h z x sg t (by omega) hT hW9 i1 c2 ⟨by omega, by omega⟩) pdX1_tripOf ⟨Nat.le_of_ble_eq_true rfl, by decide, by omega⟩ kk_t (kx_t fun q2 h2 x2 => ?_)
    subst hQ; exact mx_ret rfl (Or.inr ⟨0, RJ14, q2, rfl, rfl, fun _ => Or.inl ⟨c2, rfl, QFr.th x2 ⟨by omega, by omega⟩ ⟨by omega, by omega⟩ (fun _ _ => rfl)⟩⟩)
end SHF
/-! Lastbus: small questions, wishes -/
section SML
variable (K : KT) (d : Nat) (h : MH) (z x : Nat) (sg : TS)
theorem q_faultAt (hd : 7 ≤ d) (hT : TB sg) (hW : World K h z x sg) (hz : h.1 + 1 ≤ kC K ∧ h.2.1 + 6 ≤ kS K) : Mt K yiX1_faultAt d [.ref x] h (Rw [RJ17] fun th v h' => (sg.1 21 = -1 ∧ th = 1 ∧ QFr h h') ∨ (sg.1 21 ≠ -1 ∧ th = 0 ∧ h' = h ∧ v = sg.1 21)) := by
  have f21 := of21 (hT.1 21)
  have hW0 := hW
  obtain ⟨own, e0, cc, ch, wk, sv, tr, lt, ws, tx, se, te, we, kp, sp, tp, wp, T, hK, hE, hI, hx, hch, hwk, hsv, htr, hlt, hws, htx, hkp, hR0⟩ := hW
  obtain ⟨hx, hxz, -⟩ := tg_at hx
  obtain ⟨hch, hchz, -⟩ := tg_at hch
  have hE1 := hE.1
  obtain ⟨hE2, hE2z, -⟩ := tg_at hE.2
  obtain ⟨k0, k1, k3, k4, k5, k8, k9, k10, k11, k12⟩ := hK
  have hwk := And.intro hwk.1.C hwk.2
  refine mt_ofQ (by decide) (Nat.le_of_ble_eq_true rfl) (fun Q hQ => ?_)
  show MW K yiX1_faultAt d h 0 [some (.ref x)] [] Q
  refine mw_wf (fun hwf => ?_)
  have l_hx := hwf _ _ hx
  refine m_aload_n (y := yiX1_faultAt) dX1_faultAt_0 rfl ?_
  refine m_getfS (y := yiX1_faultAt) kc_0 8 (by decide) dX1_faultAt_1 q306 hx rfl ?_
  refine j_if_lt (y := yiX1_faultAt) 11 dX1_faultAt_4 (by decide) ⟨by omega, by omega⟩ (fun c4 => ?_) (fun c4 => ?_)
  · refine j_iconst (y := yiX1_faultAt) dX1_faultAt_11 ?_
    refine m_invS (y := yiX1_faultAt) [(vi 0)] dX1_faultAt_12 q922 q923 q123 q924 (c_X1_requireThere_0 K 6 h (by omega) ⟨by omega, by omega⟩) pdX1_requireThere ⟨Nat.le_of_ble_eq_true rfl, by decide, by omega⟩ kk_t (kx_t fun q12 h12 x12 => ?_)
    subst hQ; exact mx_ret rfl (Or.inr ⟨0, RJ17, q12, rfl, rfl, fun _ => Or.inl ⟨by omega, rfl, QFr.th x12 ⟨by omega, by omega⟩ ⟨by omega, by omega⟩ (fun _ _ => rfl)⟩⟩)
  · refine j_iconst (y := yiX1_faultAt) dX1_faultAt_7 ?_
    refine m_goto (y := yiX1_faultAt) 12 dX1_faultAt_8 (by decide) ?_
    refine m_invS (y := yiX1_faultAt) [(vi 1)] dX1_faultAt_12 q922 q923 q123 q924 (c_X1_requireThere_1 K 0 h) pdX1_requireThere ⟨Nat.le_of_ble_eq_true rfl, by decide, by omega⟩ (kk_v fun h12 q12 => ?_) kx_v
    obtain rfl := q12
    refine m_aload_n (y := yiX1_faultAt) dX1_faultAt_15 rfl ?_
    refine m_getfS (y := yiX1_faultAt) kc_0 8 (by decide) dX1_faultAt_16 q306 hx rfl ?_
    subst hQ; exact j_wret (y := yiX1_faultAt) dX1_faultAt_19 rfl (Or.inr ⟨by omega, rfl, rfl, rfl⟩)
theorem q_walkTime (a b : Int) (hd : 7 ≤ d) (hIv : Iv sg) (hW : World K h z x sg) (i1 : In a) (i2 : In b) (hz : h.1 + 25000 ≤ kC K ∧ h.2.1 + 304000 ≤ kS K) : Mt K yiX1_walkTime d [.ref x, vi a, vi b] h (Rw [RJ14, RJ17] fun th v h' => QFr h h' ∧ ((¬ ((0 ≤ a ∧ a ≤ sg.1 1 - 1) ∧ (0 ≤ b ∧ b ≤ sg.1 1 - 1)) ∧ th = 1) ∨ (((0 ≤ a ∧ a ≤ sg.1 1 - 1) ∧ (0 ≤ b ∧ b ≤ sg.1 1 - 1)) ∧ 1000000 ≤ sg.2 4 (12 * a + b) ∧ th = 2) ∨ (((0 ≤ a ∧ a ≤ sg.1 1 - 1) ∧ (0 ≤ b ∧ b ≤ sg.1 1 - 1)) ∧ sg.2 4 (12 * a + b) < 1000000 ∧ th = 0 ∧ v = sg.2 4 (12 * a + b)))) := by
  obtain ⟨hF, hCl, hO, hWy, hcut, -, -, -⟩ := hIv
  have f1b := of1 (hF.1.1 1)
  have := i1.1; have := i1.2; have := i2.1; have := i2.2
  have hW0 := hW
  obtain ⟨own, e0, cc, ch, wk, sv, tr, lt, ws, tx, se, te, we, kp, sp, tp, wp, T, hK, hE, hI, hx, hch, hwk, hsv, htr, hlt, hws, htx, hkp, hR0⟩ := hW
  obtain ⟨hx, hxz, -⟩ := tg_at hx
  obtain ⟨hch, hchz, -⟩ := tg_at hch
  have hE1 := hE.1
  obtain ⟨hE2, hE2z, -⟩ := tg_at hE.2
  obtain ⟨k0, k1, k3, k4, k5, k8, k9, k10, k11, k12⟩ := hK
  have hwk := And.intro hwk.1.C hwk.2
  refine mt_ofQ (by decide) (Nat.le_of_ble_eq_true rfl) (fun Q hQ => ?_)
  show MW K yiX1_walkTime d h 0 [some (.ref x), some (vi a), some (vi b), none] [] Q
  refine mw_wf (fun hwf => ?_)
  have l_hx := hwf _ _ hx
  have fR : ∀ b, (b < h.1) → h.2.2 b = h.2.2 b := fun _ _ => rfl
  refine m_aload_n (y := yiX1_walkTime) dX1_walkTime_0 rfl ?_
  refine j_iload_n (y := yiX1_walkTime) dX1_walkTime_1 rfl ?_
  refine m_invV (y := yiX1_walkTime) (rB := (RX1, TX1, 10)) [(vi a)] dX1_walkTime_2 hx rfl q889 q891 qs2 q123 q892 rfl (c_X1_isStop (d := 1) a (by omega) hx ⟨by omega, by omega⟩ ⟨by omega, by omega⟩) pdX1_isStop ⟨Nat.le_of_ble_eq_true rfl, by decide, by omega⟩ (kk_z fun r2 h2 q2 => ?_) kx_z
  obtain ⟨rfl, rfl⟩ := q2
  refine mw_top (x' := bz (0 ≤ a ∧ a ≤ (sg.1 1) - 1)) rfl ?_
  refine j_bz_eq (y := yiX1_walkTime) 20 dX1_walkTime_5 (by decide) (fun c5 => ?_) (fun c5 => ?_)
  · refine j_iconst (y := yiX1_walkTime) dX1_walkTime_20 ?_
    refine m_invS (y := yiX1_walkTime) [(vi 0)] dX1_walkTime_21 q893 q894 q123 q895 (c_X1_requireIndex_0 K 6 h (by omega) ⟨by omega, by omega⟩) pdX1_requireIndex ⟨Nat.le_of_ble_eq_true rfl, by decide, by omega⟩ kk_t (kx_t fun q21 h21 x21 => ?_)
    subst hQ; exact mx_ret rfl (Or.inr ⟨0, RJ14, q21, rfl, rfl, fun _ => ⟨QFr.th x21 ⟨by omega, by omega⟩ ⟨by omega, by omega⟩ (fun _ _ => rfl), Or.inl ⟨by omega, rfl⟩⟩⟩)
  · refine m_aload_n (y := yiX1_walkTime) dX1_walkTime_8 rfl ?_
    refine j_iload_n (y := yiX1_walkTime) dX1_walkTime_9 rfl ?_
    refine m_invV (y := yiX1_walkTime) (rB := (RX1, TX1, 10)) [(vi b)] dX1_walkTime_10 hx rfl q889 q891 qs2 q123 q892 rfl (c_X1_isStop (d := 1) b (by omega) hx ⟨by omega, by omega⟩ ⟨by omega, by omega⟩) pdX1_isStop ⟨Nat.le_of_ble_eq_true rfl, by decide, by omega⟩ (kk_z fun r10 h10 q10 => ?_) kx_z
    obtain ⟨rfl, rfl⟩ := q10
    refine mw_top (x' := bz (0 ≤ b ∧ b ≤ (sg.1 1) - 1)) rfl ?_
    refine j_bz_eq (y := yiX1_walkTime) 20 dX1_walkTime_13 (by decide) (fun c13 => ?_) (fun c13 => ?_)
    · refine j_iconst (y := yiX1_walkTime) dX1_walkTime_20 ?_
      refine m_invS (y := yiX1_walkTime) [(vi 0)] dX1_walkTime_21 q893 q894 q123 q895 (c_X1_requireIndex_0 K 6 h (by omega) ⟨by omega, by omega⟩) pdX1_requireIndex ⟨Nat.le_of_ble_eq_true rfl, by decide, by omega⟩ kk_t (kx_t fun q21 h21 x21 => ?_)
      subst hQ; exact mx_ret rfl (Or.inr ⟨0, RJ14, q21, rfl, rfl, fun _ => ⟨QFr.th x21 ⟨by omega, by omega⟩ ⟨by omega, by omega⟩ (fun _ _ => rfl), Or.inl ⟨by omega, rfl⟩⟩⟩)
    · refine j_iconst (y := yiX1_walkTime) dX1_walkTime_16 ?_
      refine m_goto (y := yiX1_walkTime) 21 dX1_walkTime_17 (by decide) ?_
      refine m_invS (y := yiX1_walkTime) [(vi 1)] dX1_walkTime_21 q893 q894 q123 q895 (c_X1_requireIndex_1 K 0 h) pdX1_requireIndex ⟨Nat.le_of_ble_eq_true rfl, by decide, by omega⟩ (kk_v fun h21 q21 => ?_) kx_v
      obtain rfl := q21
      refine m_aload_n (y := yiX1_walkTime) dX1_walkTime_24 rfl ?_
      refine j_iconst (y := yiX1_walkTime) dX1_walkTime_25 ?_
      refine m_invV (y := yiX1_walkTime) (rB := (RX1, TX1, 10)) [(vi (-1))] dX1_walkTime_26 hx rfl q916 q918 qs3 q123 q919 rfl (c_X1_closedWalks K 1 h x ch wk sv tr lt ws tx (sg.1 1) (sg.1 21) (-1) _ T (sg.2 3) (by omega) hx (hwk.1.up (fun b c e9 => (tg_at e9).1)) hwk.2 (hF.1.2 3) ⟨by omega, by omega⟩ ⟨by omega, by omega⟩ ⟨by omega, by omega⟩) pdX1_closedWalks ⟨Nat.le_of_ble_eq_true rfl, by decide, by omega⟩ (kk_r fun r26 h26 q26 => ?_) kx_r
      obtain ⟨rfl, y26, z26, f26, W, hW1, hW2, hW3⟩ := q26
      have hx : h26.2.2 x = some (true, .inr (0, [(.ref ch), (.ref wk), (vi (sg.1 1)), (.ref sv), (.ref tr), (.ref lt), (.ref ws), (.ref tx), (vi (sg.1 21)), (va_rf kp)])) := (f26 _ (by omega)).trans hx
      have fR : ∀ b, (b < h.1) → h26.2.2 b = h.2.2 b := fun b hb => (f26 b (by omega)).trans (fR b hb)
      refine mw_wf (fun hwf26 => ?_)
      obtain ⟨wr, fw, hwy, hwr⟩ := hW1
      have ra := hwr a (by omega) (by omega)
      have hway : W a b = sg.2 4 (12 * a + b) := (hW2 a b (by omega) (by omega) (by omega) (by omega)).trans (hWy a b (by omega) (by omega) (by omega) (by omega)).symm
      have hwb := oa4 (hF.1.2 4) (12 * a + b) (by omega) (by omega)
      have hwy0 : h26.2.2 h.1 = some (true, aaE K 12 fw) := (rs_at hwy).1
      have l_hwy0 := hwf26 _ _ hwy0
      have hra : h26.2.2 (wr a) = some (true, ia K 12 (W a)) := (rs_at ra.2).1
      have l_hra := hwf26 _ _ hra
      refine j_iload_n (y := yiX1_walkTime) dX1_walkTime_29 rfl ?_
      refine h_aald6 (y := yiX1_walkTime) dX1_walkTime_30 hwy0 ⟨by omega, by omega⟩ (by omega) ?_
      rw [ra.1]
      show MW K yiX1_walkTime d h26 31 [some (.ref x), some (vi a), some (vi b), none] [(.ref (wr a))] Q
      refine j_iload_n (y := yiX1_walkTime) dX1_walkTime_31 rfl ?_
      refine j_iald (y := yiX1_walkTime) dX1_walkTime_32 hra (by omega) ⟨by omega, by omega⟩ ?_
      refine mw_top (x' := sg.2 4 (12 * a + b)) (hway) ?_
      refine j_istore_n (y := yiX1_walkTime) [some (.ref x), some (vi a), some (vi b), some (vi (sg.2 4 (12 * a + b)))] dX1_walkTime_33 (by decide) rfl rfl ?_
      refine j_iload_n (y := yiX1_walkTime) dX1_walkTime_34 rfl ?_
      refine j_ldc (y := yiX1_walkTime) (1000000) dX1_walkTime_35 q920 (by decide) ?_
      refine j_icmp_ge (y := yiX1_walkTime) 44 dX1_walkTime_37 (by decide) ⟨⟨by omega, by omega⟩, ⟨by omega, by omega⟩⟩ (fun c37 => ?_) (fun c37 => ?_)
      · refine j_iconst (y := yiX1_walkTime) dX1_walkTime_44 ?_
        refine m_invS (y := yiX1_walkTime) [(vi 0)] dX1_walkTime_45 q922 q923 q123 q924 (c_X1_requireThere_0 K 6 h26 (by omega) ⟨by omega, by omega⟩) pdX1_requireThere ⟨Nat.le_of_ble_eq_true rfl, by decide, by omega⟩ kk_t (kx_t fun q45 h45 x45 => ?_)
        subst hQ; exact mx_ret rfl (Or.inr ⟨1, RJ17, q45, rfl, rfl, fun _ => ⟨QFr.th x45 ⟨by omega, by omega⟩ ⟨by omega, by omega⟩ fR, Or.inr (Or.inl ⟨⟨by omega, by omega⟩, by omega, rfl⟩)⟩⟩)
      · refine j_iconst (y := yiX1_walkTime) dX1_walkTime_40 ?_
        refine m_goto (y := yiX1_walkTime) 45 dX1_walkTime_41 (by decide) ?_
        refine m_invS (y := yiX1_walkTime) [(vi 1)] dX1_walkTime_45 q922 q923 q123 q924 (c_X1_requireThere_1 K 0 h26) pdX1_requireThere ⟨Nat.le_of_ble_eq_true rfl, by decide, by omega⟩ (kk_v fun h45 q45 => ?_) kx_v
        obtain rfl := q45
        refine j_iload_n (y := yiX1_walkTime) dX1_walkTime_48 rfl ?_
        subst hQ; exact j_wret (y := yiX1_walkTime) dX1_walkTime_49 rfl (⟨QFr.of (by omega) (by omega) fR, Or.inr (Or.inr ⟨⟨by omega, by omega⟩, by omega, rfl, rfl⟩)⟩)
theorem c_X1_toldLat (y t c : Int) (hd : 6 ≤ d) (hT : TB sg) (hW : World K h z x sg) (hz1 : z ≤ h.1) (hy : 0 ≤ y ∧ y ≤ 27) (ht : 0 ≤ t ∧ t < 24) (hc : In c) (hz : h.1 + 1 ≤ kC K ∧ h.2.1 + 1 ≤ kS K) : Mt K yiX1_toldLateness d [.ref x, vi y, vi t, vi c] h (Rz fun v h' => latOf sg y t c = v ∧ (h.1 ≤ h'.1 ∧ h'.1 ≤ h.1 + 1) ∧ (h.2.1 ≤ h'.2.1 ∧ h'.2.1 ≤ h.2.1 + 1) ∧ ∀ b, b < h.1 → h'.2.2 b = h.2.2 b) := by
  have := hc.1; have := hc.2
  have hlo := latOf_l sg y t c
  have hW9 := hW
  have hW0 := hW
  obtain ⟨own, e0, cc, ch, wk, sv, tr, lt, ws, tx, se, te, we, kp, sp, tp, wp, T, hK, hE, hI, hx, hch, hwk, hsv, htr, hlt, hws, htx, hkp, hR0⟩ := hW
  obtain ⟨hx, hxz, -⟩ := tg_at hx
  obtain ⟨hch, hchz, -⟩ := tg_at hch
  have hE1 := hE.1
  obtain ⟨hE2, hE2z, -⟩ := tg_at hE.2
  obtain ⟨k0, k1, k3, k4, k5, k8, k9, k10, k11, k12⟩ := hK
  have hwk := And.intro hwk.1.C hwk.2
  refine mt_ofQ (by decide) (Nat.le_of_ble_eq_true rfl) (fun Q hQ => ?_)
  show MW K yiX1_toldLateness d h 0 [some (.ref x), some (vi y), some (vi t), some (vi c), none] [] Q
  refine mw_wf (fun hwf => ?_)
  have l_hx := hwf _ _ hx
  refine m_aload_n (y := yiX1_toldLateness) dX1_toldLateness_0 rfl ?_
  refine j_iload_n (y := yiX1_toldLateness) dX1_toldLateness_1 rfl ?_
  refine j_iload_n (y := yiX1_toldLateness) dX1_toldLateness_2 rfl ?_
  refine m_invV (y := yiX1_toldLateness) (rB := (RX1, TX1, 10)) [(vi y), (vi t)] dX1_toldLateness_3 hx rfl q1489 q1491 qs20 q123 q1492 rfl (c_X1_lateOf K 5 h z x sg y t (by omega) hT hW9 hz1 hy ht hz) pdX1_lateOf ⟨Nat.le_of_ble_eq_true rfl, by decide, by omega⟩ (kk_q fun r3 h3 q3 => ?_) kx_q
  obtain ⟨l1, l2, l3, l4⟩ := q3
  have hx : h3.2.2 x = some (true, .inr (0, [(.ref ch), (.ref wk), (vi (sg.1 1)), (.ref sv), (.ref tr), (.ref lt), (.ref ws), (.ref tx), (vi (sg.1 21)), (va_rf kp)])) := (l4 _ (by omega)).trans hx
  refine mw_wf (fun hwf3 => ?_)
  refine m_astoreq (y := yiX1_toldLateness) dX1_toldLateness_6 (by decide) rfl ?_
  show MW K yiX1_toldLateness d h3 8 [some (.ref x), some (vi y), some (vi t), some (vi c), some (va_rf r3)] [] Q
  refine m_aloadq (y := yiX1_toldLateness) dX1_toldLateness_8 rfl ?_
  refine m_ifnull (y := yiX1_toldLateness) 22 dX1_toldLateness_10 (by decide) (fun c10 => ?_) (fun a10 c10 => ?_)
  · subst c10
    refine j_iconst (y := yiX1_toldLateness) dX1_toldLateness_22 ?_
    refine m_goto (y := yiX1_toldLateness) 31 dX1_toldLateness_23 (by decide) ?_
    subst hQ; exact j_iret (y := yiX1_toldLateness) dX1_toldLateness_31 rfl (⟨by { rw [hlo]; first | (rw [if_pos (by omega)]; exact hq9.2) | (rw [if_neg (by omega)]) | (have h8 : lmI sg y t = 0 := (by { rcases l1 with ⟨h9, -⟩ | ⟨q, h9, -⟩; { unfold lmI; exact if_pos h9 }; { cases h9 } }); rw [h8]; split <;> rfl) }, l2, l3, l4⟩)
  · subst c10
    have hl9 : 0 ≤ latI sg y t ∧ latI sg y t < sg.1 14 := by { rcases l1 with ⟨-, h9⟩ | ⟨q, h9, -, h8, -⟩; { cases h9 }; { exact h8 } }
    have f14 := of14 (hT.1 14)
    have b17 := oa17 (hT.2 17) (latI sg y t) hl9.1 (by omega)
    have hq9 : lcI sg y t = sg.2 17 (latI sg y t) ∧ lmI sg y t = sg.2 18 (latI sg y t) := by { unfold lcI lmI; rw [if_neg (by omega), if_neg (by omega)]; exact ⟨rfl, rfl⟩ }
    have hl : h3.2.2 a10 = some (true, .inr (6, [(vi (sg.2 17 (latI sg y t))), (vi (sg.2 18 (latI sg y t)))])) := by { rcases l1 with ⟨-, h9⟩ | ⟨q, h9, -, -, h8⟩; { cases h9 }; { cases h9; exact h8 } }
    have l_hl := hwf3 _ _ hl
    refine j_iload_n (y := yiX1_toldLateness) dX1_toldLateness_13 rfl ?_
    refine m_aload (y := yiX1_toldLateness) dX1_toldLateness_14 rfl ?_
    refine m_invV (y := yiX1_toldLateness) (rB := (RX7, TX7, 2)) [] dX1_toldLateness_16 hl rfl q1850 q1851 q1852 q165 q1853 rfl (c_X7_call (d := 0) hl) pdX7_call ⟨Nat.le_of_ble_eq_true rfl, by decide, by omega⟩ (kk_z fun r16 h16 q16 => ?_) kx_z
    obtain ⟨rfl, rfl⟩ := q16
    refine mw_top (x' := (sg.2 17 (latI sg y t))) rfl ?_
    refine j_icmp_ge (y := yiX1_toldLateness) 26 dX1_toldLateness_19 (by decide) ⟨⟨by omega, by omega⟩, ⟨by omega, by omega⟩⟩ (fun c19 => ?_) (fun c19 => ?_)
    · refine m_aload (y := yiX1_toldLateness) dX1_toldLateness_26 rfl ?_
      refine m_invV (y := yiX1_toldLateness) (rB := (RX7, TX7, 2)) [] dX1_toldLateness_28 hl rfl q1835 q1836 q1837 q165 q1838 rfl (c_X7_minutes (d := 0) hl) pdX7_minutes ⟨Nat.le_of_ble_eq_true rfl, by decide, by omega⟩ (kk_z fun r28 h28 q28 => ?_) kx_z
      obtain ⟨rfl, rfl⟩ := q28
      refine mw_top (x' := (sg.2 18 (latI sg y t))) rfl ?_
      subst hQ; exact j_iret (y := yiX1_toldLateness) dX1_toldLateness_31 rfl (⟨by { rw [hlo]; first | (rw [if_pos (by omega)]; exact hq9.2) | (rw [if_neg (by omega)]) | (have h8 : lmI sg y t = 0 := (by { rcases l1 with ⟨h9, -⟩ | ⟨q, h9, -⟩; { unfold lmI; exact if_pos h9 }; { cases h9 } }); rw [h8]; split <;> rfl) }, l2, l3, l4⟩)
    · refine j_iconst (y := yiX1_toldLateness) dX1_toldLateness_22 ?_
      refine m_goto (y := yiX1_toldLateness) 31 dX1_toldLateness_23 (by decide) ?_
      subst hQ; exact j_iret (y := yiX1_toldLateness) dX1_toldLateness_31 rfl (⟨by { rw [hlo]; first | (rw [if_pos (by omega)]; exact hq9.2) | (rw [if_neg (by omega)]) | (have h8 : lmI sg y t = 0 := (by { rcases l1 with ⟨h9, -⟩ | ⟨q, h9, -⟩; { unfold lmI; exact if_pos h9 }; { cases h9 } }); rw [h8]; split <;> rfl) }, l2, l3, l4⟩)
theorem q_lateness (y t c : Int) (hd : 9 ≤ d) (hT : TB sg) (hW : World K h z x sg) (hz1 : z ≤ h.1) (i1 : In y) (i2 : In t) (i3 : In c) (hz : h.1 + 25000 ≤ kC K ∧ h.2.1 + 304000 ≤ kS K) : Mt K yiX1_lateness d [.ref x, vi y, vi t, vi c] h (Rw [RJ14, RJ12] fun th v h' => QFr h h' ∧ ((¬ ((0 ≤ t ∧ t ≤ sg.1 8 - 1) ∧ (0 ≤ c ∧ c ≤ sg.2 10 t - 1)) ∧ th = 1) ∨ (((0 ≤ t ∧ t ≤ sg.1 8 - 1) ∧ (0 ≤ c ∧ c ≤ sg.2 10 t - 1)) ∧ ¬ (0 ≤ y ∧ y ≤ 27) ∧ th = 2) ∨ (((0 ≤ t ∧ t ≤ sg.1 8 - 1) ∧ (0 ≤ c ∧ c ≤ sg.2 10 t - 1)) ∧ (0 ≤ y ∧ y ≤ 27) ∧ th = 0 ∧ v = latOf sg y t c))) := by
  have f8 := of8 (hT.1 8)
  have hW9 := hW
  have := i1.1; have := i1.2
  have hW0 := hW
  obtain ⟨own, e0, cc, ch, wk, sv, tr, lt, ws, tx, se, te, we, kp, sp, tp, wp, T, hK, hE, hI, hx, hch, hwk, hsv, htr, hlt, hws, htx, hkp, hR0⟩ := hW
  obtain ⟨hx, hxz, -⟩ := tg_at hx
  obtain ⟨hch, hchz, -⟩ := tg_at hch
  have hE1 := hE.1
  obtain ⟨hE2, hE2z, -⟩ := tg_at hE.2
  obtain ⟨k0, k1, k3, k4, k5, k8, k9, k10, k11, k12⟩ := hK
  have hwk := And.intro hwk.1.C hwk.2
  refine mt_ofQ (by decide) (Nat.le_of_ble_eq_true rfl) (fun Q hQ => ?_)
  show MW K yiX1_lateness d h 0 [some (.ref x), some (vi y), some (vi t), some (vi c), none] [] Q
  refine mw_wf (fun hwf => ?_)
  have l_hx := hwf _ _ hx
  have fR : ∀ b, (b < h.1) → h.2.2 b = h.2.2 b := fun _ _ => rfl
  refine m_aload_n (y := yiX1_lateness) dX1_lateness_0 rfl ?_
  refine j_iload_n (y := yiX1_lateness) dX1_lateness_1 rfl ?_
  refine j_iload_n (y := yiX1_lateness) dX1_lateness_2 rfl ?_
  by_cases c3 : (0 ≤ t ∧ t ≤ sg.1 8 - 1) ∧ 0 ≤ c ∧ c ≤ sg.2 10 t - 1
  · refine m_invV (y := yiX1_lateness) (rB := (RX1, TX1, 10)) [(vi t), (vi c)] dX1_lateness_3 hx rfl q1205 q1207 qs13 q123 q1208 rfl (c_callOf_1 K 4 h z x sg t c (by omega) hT hW9 c3.1 c3.2) pdX1_callOf ⟨Nat.le_of_ble_eq_true rfl, by decide, by omega⟩ (kk_r fun r3 h3 q3 => ?_) kx_r
    obtain ⟨rfl, hcl9⟩ := q3
    refine m_astore (y := yiX1_lateness) dX1_lateness_6 (by decide) rfl ?_
    show MW K yiX1_lateness d h 8 [some (.ref x), some (vi y), some (vi t), some (vi c), some (.ref r3)] [] Q
    refine j_iload_n (y := yiX1_lateness) dX1_lateness_8 rfl ?_
    refine m_invS (y := yiX1_lateness) [(vi y)] dX1_lateness_9 q1049 q1050 q123 q1051 (c_X1_isDay K 1 h y (by omega) ⟨by omega, by omega⟩) pdX1_isDay ⟨Nat.le_of_ble_eq_true rfl, by decide, by omega⟩ (kk_z fun r9 h9 q9 => ?_) kx_z
    obtain ⟨rfl, rfl⟩ := q9
    refine mw_top (x' := bz (0 ≤ y ∧ y ≤ 27)) rfl ?_
    by_cases c12 : (0 ≤ y ∧ y ≤ 27)
    · refine mw_top (x' := 1) ((bz_t c12).symm) ?_
      refine m_invS (y := yiX1_lateness) [(vi 1)] dX1_lateness_12 q853 q854 q123 q855 (c_X1_require_1 K 0 h) pdX1_require ⟨Nat.le_of_ble_eq_true rfl, by decide, by omega⟩ (kk_v fun h12 q12 => ?_) kx_v
      obtain rfl := q12
      refine m_aload_n (y := yiX1_lateness) dX1_lateness_15 rfl ?_
      refine j_iload_n (y := yiX1_lateness) dX1_lateness_16 rfl ?_
      refine j_iload_n (y := yiX1_lateness) dX1_lateness_17 rfl ?_
      refine j_iload_n (y := yiX1_lateness) dX1_lateness_18 rfl ?_
      refine m_invV (y := yiX1_lateness) (rB := (RX1, TX1, 10)) [(vi y), (vi t), (vi c)] dX1_lateness_19 hx rfl q1846 q1848 qs30 q123 q1849 rfl (c_X1_toldLat K 6 h z x sg y t c (by omega) hT hW9 hz1 c12 ⟨by omega, by omega⟩ i3 ⟨by omega, by omega⟩) pdX1_toldLateness ⟨Nat.le_of_ble_eq_true rfl, by decide, by omega⟩ (kk_z fun r19 h19 q19 => ?_) kx_z
      obtain ⟨rfl, l2, l3, l4⟩ := q19
      have hx : h19.2.2 x = some (true, .inr (0, [(.ref ch), (.ref wk), (vi (sg.1 1)), (.ref sv), (.ref tr), (.ref lt), (.ref ws), (.ref tx), (vi (sg.1 21)), (va_rf kp)])) := (l4 _ (by omega)).trans hx
      have fR : ∀ b, (b < h.1) → h19.2.2 b = h.2.2 b := fun b hb => (l4 b (by omega)).trans (fR b hb)
      refine mw_wf (fun hwf19 => ?_)
      refine mw_top (x' := latOf sg y t c) rfl ?_
      subst hQ; exact j_wret (y := yiX1_lateness) dX1_lateness_22 rfl (⟨QFr.of (by omega) (by omega) fR, Or.inr (Or.inr ⟨c3, c12, rfl, rfl⟩)⟩)
    · refine mw_top (x' := 0) ((bz_f c12).symm) ?_
      refine m_invS (y := yiX1_lateness) [(vi 0)] dX1_lateness_12 q853 q854 q123 q855 (c_X1_require_0 K 6 h (by omega) ⟨by omega, by omega⟩) pdX1_require ⟨Nat.le_of_ble_eq_true rfl, by decide, by omega⟩ kk_t (kx_t fun q12 h12 x12 => ?_)
      subst hQ; exact mx_ret rfl (Or.inr ⟨1, RJ12, q12, rfl, rfl, fun _ => ⟨QFr.th x12 ⟨by omega, by omega⟩ ⟨by omega, by omega⟩ (fun _ _ => rfl), Or.inr (Or.inl ⟨c3, c12, rfl⟩)⟩⟩)
  · refine m_invV (y := yiX1_lateness) (rB := (RX1, TX1, 10)) [(vi t), (vi c)] dX1_lateness_3 hx rfl q1205 q1207 qs13 q123 q1208 rfl (c_callOf_0 K 8 h z x sg t c (by omega) hT hW9 i2 i3 c3 ⟨by omega, by omega⟩) pdX1_callOf ⟨Nat.le_of_ble_eq_true rfl, by decide, by omega⟩ kk_t (kx_t fun q3 h3 x3 => ?_)
    subst hQ; exact mx_ret rfl (Or.inr ⟨0, RJ14, q3, rfl, rfl, fun _ => ⟨QFr.th x3 ⟨by omega, by omega⟩ ⟨by omega, by omega⟩ (fun _ _ => rfl), Or.inl ⟨c3, rfl⟩⟩⟩)
theorem c_reqChange_1 (t c o oc : Int) (hd : 3 ≤ d) (hT : TB sg) (hW : World K h z x sg) (ho : 0 ≤ o ∧ o ≤ sg.1 8 - 1) (i1 : In t) (i2 : In c) (i3 : In oc) (h1 : t ≠ o ∧ 0 < c ∧ oc < sg.2 10 o - 1) : Mt K yiX1_requireChange d [.ref x, vi t, vi c, vi o, vi oc] h (Rv fun h' => h = h') := by
  have f8 := of8 (hT.1 8)
  have := i1.1; have := i1.2; have := i2.1; have := i2.2; have := i3.1; have := i3.2
  have hn8 := oa10 (hT.2 10) o (by omega) (by omega)
  have hW0 := hW
  obtain ⟨own, e0, cc, ch, wk, sv, tr, lt, ws, tx, se, te, we, kp, sp, tp, wp, T, hK, hE, hI, hx, hch, hwk, hsv, htr, hlt, hws, htx, hkp, hR0⟩ := hW
  obtain ⟨hx, hxz, -⟩ := tg_at hx
  obtain ⟨hch, hchz, -⟩ := tg_at hch
  have hE1 := hE.1
  obtain ⟨hE2, hE2z, -⟩ := tg_at hE.2
  obtain ⟨k0, k1, k3, k4, k5, k8, k9, k10, k11, k12⟩ := hK
  have hwk := And.intro hwk.1.C hwk.2
  obtain ⟨⟨wt, capt, mct, ft, hto, hte, htne, ht0, htw, htcap, htf, htno⟩, htt⟩ := htr
  obtain ⟨hto, htoz, -⟩ := tg_at hto
  obtain ⟨hte, htez, -⟩ := tg_at hte
  obtain ⟨l, e, p, htq, ⟨wl, cl, ml, fl, hlo, hle, hlae, hl0, hlw, hlc, hlf, hlno⟩, -⟩ := htt o (by omega) (by omega)
  obtain ⟨htq, htqz, -⟩ := tg_at htq
  obtain ⟨hlo, hloz, -⟩ := tg_at hlo
  refine mt_ofQ (by decide) (Nat.le_of_ble_eq_true rfl) (fun Q hQ => ?_)
  show MW K yiX1_requireChange d h 0 [some (.ref x), some (vi t), some (vi c), some (vi o), some (vi oc)] [] Q
  refine mw_wf (fun hwf => ?_)
  have l_hx := hwf _ _ hx
  have l_hto := hwf _ _ hto
  have l_hte := hwf _ _ hte
  have l_htq := hwf _ _ htq
  have l_hlo := hwf _ _ hlo
  refine j_iload_n (y := yiX1_requireChange) dX1_requireChange_0 rfl ?_
  refine j_iload_n (y := yiX1_requireChange) dX1_requireChange_1 rfl ?_
  refine j_icmp_eq (y := yiX1_requireChange) 37 dX1_requireChange_2 (by decide) ⟨⟨by omega, by omega⟩, ⟨by omega, by omega⟩⟩ (fun c2 => ?_) (fun c2 => ?_)
  · exfalso; omega
  · refine j_iload_n (y := yiX1_requireChange) dX1_requireChange_5 rfl ?_
    refine j_if_le (y := yiX1_requireChange) 37 dX1_requireChange_6 (by decide) ⟨by omega, by omega⟩ (fun c6 => ?_) (fun c6 => ?_)
    · exfalso; omega
    · refine j_iload (y := yiX1_requireChange) dX1_requireChange_9 rfl ?_
      refine m_aload_n (y := yiX1_requireChange) dX1_requireChange_11 rfl ?_
      refine m_getfS (y := yiX1_requireChange) kc_0 4 (by decide) dX1_requireChange_12 q302 hx rfl ?_
      refine j_iload_n (y := yiX1_requireChange) dX1_requireChange_15 rfl ?_
      refine m_invV (y := yiX1_requireChange) (rB := (RJ2, TJ2, 3)) [(vi o)] dX1_requireChange_16 hto rfl q1035 q1036 q1037 q126 q1038 rfl (c_J2_get K 2 h _ _ _ _ _ _ _ _ _ (by omega) hto hte ⟨by omega, by omega⟩ ⟨by omega, by omega⟩ (htf _ (by omega) (by omega))) pdJ2_get ⟨Nat.le_of_ble_eq_true rfl, by decide, by omega⟩ (kk_r fun r16 h16 q16 => ?_) kx_r
      obtain ⟨rfl, rfl⟩ := q16
      refine m_cast (y := yiX1_requireChange) dX1_requireChange_19 htq rfl q794 (Or.inl rfl) ?_
      refine m_getfN (y := yiX1_requireChange) kc_2 1 (by decide) dX1_requireChange_22 q1146 htq rfl ?_
      refine m_invV (y := yiX1_requireChange) (rB := (RJ2, TJ2, 3)) [] dX1_requireChange_25 hlo rfl q333 q334 q335 q126 q336 rfl (c_J2_size K 0 h _ _ _ _ hlo) pdJ2_size ⟨Nat.le_of_ble_eq_true rfl, by decide, by omega⟩ (kk_z fun r25 h25 q25 => ?_) kx_z
      obtain ⟨rfl, rfl⟩ := q25
      refine mw_top (x' := sg.2 10 o) rfl ?_
      refine j_iconst (y := yiX1_requireChange) dX1_requireChange_28 ?_
      refine j_isub (y := yiX1_requireChange) dX1_requireChange_29 ?_
      refine j_icmp_ge (y := yiX1_requireChange) 37 dX1_requireChange_30 (by decide) ⟨⟨by omega, by omega⟩, ⟨by omega, by omega⟩⟩ (fun c30 => ?_) (fun c30 => ?_)
      · exfalso; omega
      · refine j_iconst (y := yiX1_requireChange) dX1_requireChange_33 ?_
        refine m_goto (y := yiX1_requireChange) 38 dX1_requireChange_34 (by decide) ?_
        refine m_invS (y := yiX1_requireChange) [(vi 1)] dX1_requireChange_38 q853 q854 q123 q855 (c_X1_require_1 K 0 h) pdX1_require ⟨Nat.le_of_ble_eq_true rfl, by decide, by omega⟩ (kk_v fun h38 q38 => ?_) kx_v
        obtain rfl := q38
        subst hQ; exact j_vret (y := yiX1_requireChange) dX1_requireChange_41 rfl rfl
theorem c_reqChange_0 (t c o oc : Int) (hd : 7 ≤ d) (hT : TB sg) (hW : World K h z x sg) (ho : 0 ≤ o ∧ o ≤ sg.1 8 - 1) (i1 : In t) (i2 : In c) (i3 : In oc) (h1 : ¬ (t ≠ o ∧ 0 < c ∧ oc < sg.2 10 o - 1)) (hz : h.1 + 1 ≤ kC K ∧ h.2.1 + 6 ≤ kS K) : Mt K yiX1_requireChange d [.ref x, vi t, vi c, vi o, vi oc] h (Rt RJ12 (ThH h)) := by
  have f8 := of8 (hT.1 8)
  have := i1.1; have := i1.2; have := i2.1; have := i2.2; have := i3.1; have := i3.2
  have hn8 := oa10 (hT.2 10) o (by omega) (by omega)
  have hW0 := hW
  obtain ⟨own, e0, cc, ch, wk, sv, tr, lt, ws, tx, se, te, we, kp, sp, tp, wp, T, hK, hE, hI, hx, hch, hwk, hsv, htr, hlt, hws, htx, hkp, hR0⟩ := hW
  obtain ⟨hx, hxz, -⟩ := tg_at hx
  obtain ⟨hch, hchz, -⟩ := tg_at hch
  have hE1 := hE.1
  obtain ⟨hE2, hE2z, -⟩ := tg_at hE.2
  obtain ⟨k0, k1, k3, k4, k5, k8, k9, k10, k11, k12⟩ := hK
  have hwk := And.intro hwk.1.C hwk.2
  obtain ⟨⟨wt, capt, mct, ft, hto, hte, htne, ht0, htw, htcap, htf, htno⟩, htt⟩ := htr
  obtain ⟨hto, htoz, -⟩ := tg_at hto
  obtain ⟨hte, htez, -⟩ := tg_at hte
  obtain ⟨l, e, p, htq, ⟨wl, cl, ml, fl, hlo, hle, hlae, hl0, hlw, hlc, hlf, hlno⟩, -⟩ := htt o (by omega) (by omega)
  obtain ⟨htq, htqz, -⟩ := tg_at htq
  obtain ⟨hlo, hloz, -⟩ := tg_at hlo
  refine mt_ofQ (by decide) (Nat.le_of_ble_eq_true rfl) (fun Q hQ => ?_)
  show MW K yiX1_requireChange d h 0 [some (.ref x), some (vi t), some (vi c), some (vi o), some (vi oc)] [] Q
  refine mw_wf (fun hwf => ?_)
  have l_hx := hwf _ _ hx
  have l_hto := hwf _ _ hto
  have l_hte := hwf _ _ hte
  have l_htq := hwf _ _ htq
  have l_hlo := hwf _ _ hlo
  refine j_iload_n (y := yiX1_requireChange) dX1_requireChange_0 rfl ?_
  refine j_iload_n (y := yiX1_requireChange) dX1_requireChange_1 rfl ?_
  refine j_icmp_eq (y := yiX1_requireChange) 37 dX1_requireChange_2 (by decide) ⟨⟨by omega, by omega⟩, ⟨by omega, by omega⟩⟩ (fun c2 => ?_) (fun c2 => ?_)
  · refine j_iconst (y := yiX1_requireChange) dX1_requireChange_37 ?_
    refine m_invS (y := yiX1_requireChange) [(vi 0)] dX1_requireChange_38 q853 q854 q123 q855 (c_X1_require_0 K 6 h (by omega) ⟨by omega, by omega⟩) pdX1_require ⟨Nat.le_of_ble_eq_true rfl, by decide, by omega⟩ kk_t (kx_t fun q38 h38 x38 => ?_)
    subst hQ; exact mx_ret rfl (⟨q38, rfl, x38⟩)
  · refine j_iload_n (y := yiX1_requireChange) dX1_requireChange_5 rfl ?_
    refine j_if_le (y := yiX1_requireChange) 37 dX1_requireChange_6 (by decide) ⟨by omega, by omega⟩ (fun c6 => ?_) (fun c6 => ?_)
    · refine j_iconst (y := yiX1_requireChange) dX1_requireChange_37 ?_
      refine m_invS (y := yiX1_requireChange) [(vi 0)] dX1_requireChange_38 q853 q854 q123 q855 (c_X1_require_0 K 6 h (by omega) ⟨by omega, by omega⟩) pdX1_require ⟨Nat.le_of_ble_eq_true rfl, by decide, by omega⟩ kk_t (kx_t fun q38 h38 x38 => ?_)
      subst hQ; exact mx_ret rfl (⟨q38, rfl, x38⟩)
    · refine j_iload (y := yiX1_requireChange) dX1_requireChange_9 rfl ?_
      refine m_aload_n (y := yiX1_requireChange) dX1_requireChange_11 rfl ?_
      refine m_getfS (y := yiX1_requireChange) kc_0 4 (by decide) dX1_requireChange_12 q302 hx rfl ?_
      refine j_iload_n (y := yiX1_requireChange) dX1_requireChange_15 rfl ?_
      refine m_invV (y := yiX1_requireChange) (rB := (RJ2, TJ2, 3)) [(vi o)] dX1_requireChange_16 hto rfl q1035 q1036 q1037 q126 q1038 rfl (c_J2_get K 2 h _ _ _ _ _ _ _ _ _ (by omega) hto hte ⟨by omega, by omega⟩ ⟨by omega, by omega⟩ (htf _ (by omega) (by omega))) pdJ2_get ⟨Nat.le_of_ble_eq_true rfl, by decide, by omega⟩ (kk_r fun r16 h16 q16 => ?_) kx_r
      obtain ⟨rfl, rfl⟩ := q16
      refine m_cast (y := yiX1_requireChange) dX1_requireChange_19 htq rfl q794 (Or.inl rfl) ?_
      refine m_getfN (y := yiX1_requireChange) kc_2 1 (by decide) dX1_requireChange_22 q1146 htq rfl ?_
      refine m_invV (y := yiX1_requireChange) (rB := (RJ2, TJ2, 3)) [] dX1_requireChange_25 hlo rfl q333 q334 q335 q126 q336 rfl (c_J2_size K 0 h _ _ _ _ hlo) pdJ2_size ⟨Nat.le_of_ble_eq_true rfl, by decide, by omega⟩ (kk_z fun r25 h25 q25 => ?_) kx_z
      obtain ⟨rfl, rfl⟩ := q25
      refine mw_top (x' := sg.2 10 o) rfl ?_
      refine j_iconst (y := yiX1_requireChange) dX1_requireChange_28 ?_
      refine j_isub (y := yiX1_requireChange) dX1_requireChange_29 ?_
      refine j_icmp_ge (y := yiX1_requireChange) 37 dX1_requireChange_30 (by decide) ⟨⟨by omega, by omega⟩, ⟨by omega, by omega⟩⟩ (fun c30 => ?_) (fun c30 => ?_)
      · refine j_iconst (y := yiX1_requireChange) dX1_requireChange_37 ?_
        refine m_invS (y := yiX1_requireChange) [(vi 0)] dX1_requireChange_38 q853 q854 q123 q855 (c_X1_require_0 K 6 h (by omega) ⟨by omega, by omega⟩) pdX1_require ⟨Nat.le_of_ble_eq_true rfl, by decide, by omega⟩ kk_t (kx_t fun q38 h38 x38 => ?_)
        subst hQ; exact mx_ret rfl (⟨q38, rfl, x38⟩)
      · exfalso; omega
theorem q_holds (y t c o oc : Int) (hd : 10 ≤ d) (hIv : Iv sg) (hW : World K h z x sg) (hz1 : z ≤ h.1) (i1 : In y) (i2 : In t) (i3 : In c) (i4 : In o) (i5 : In oc) (hz : h.1 + 25000 ≤ kC K ∧ h.2.1 + 304000 ≤ kS K) : Mt K yiX1_holds d [.ref x, vi y, vi t, vi c, vi o, vi oc] h (Rw [RJ14, RJ12, RJ31, RJ17] fun th v h' => QFr h h' ∧ ((¬ (((0 ≤ t ∧ t ≤ sg.1 8 - 1) ∧ (0 ≤ c ∧ c ≤ sg.2 10 t - 1)) ∧ ((0 ≤ o ∧ o ≤ sg.1 8 - 1) ∧ (0 ≤ oc ∧ oc ≤ sg.2 10 o - 1))) ∧ th = 1) ∨ ((((0 ≤ t ∧ t ≤ sg.1 8 - 1) ∧ (0 ≤ c ∧ c ≤ sg.2 10 t - 1)) ∧ ((0 ≤ o ∧ o ≤ sg.1 8 - 1) ∧ (0 ≤ oc ∧ oc ≤ sg.2 10 o - 1))) ∧ ¬ ((0 ≤ y ∧ y ≤ 27) ∧ t ≠ o ∧ c ≠ 0 ∧ oc ≠ sg.2 10 o - 1) ∧ th = 2) ∨ ((((0 ≤ t ∧ t ≤ sg.1 8 - 1) ∧ (0 ≤ c ∧ c ≤ sg.2 10 t - 1)) ∧ ((0 ≤ o ∧ o ≤ sg.1 8 - 1) ∧ (0 ≤ oc ∧ oc ≤ sg.2 10 o - 1))) ∧ ((0 ≤ y ∧ y ≤ 27) ∧ t ≠ o ∧ c ≠ 0 ∧ oc ≠ sg.2 10 o - 1) ∧ (sg.2 7 (28 * sg.2 9 t + y) = 0 ∨ sg.2 7 (28 * sg.2 9 o + y) = 0) ∧ th = 3) ∨ ((((0 ≤ t ∧ t ≤ sg.1 8 - 1) ∧ (0 ≤ c ∧ c ≤ sg.2 10 t - 1)) ∧ ((0 ≤ o ∧ o ≤ sg.1 8 - 1) ∧ (0 ≤ oc ∧ oc ≤ sg.2 10 o - 1))) ∧ ((0 ≤ y ∧ y ≤ 27) ∧ t ≠ o ∧ c ≠ 0 ∧ oc ≠ sg.2 10 o - 1) ∧ (sg.2 7 (28 * sg.2 9 t + y) ≠ 0 ∧ sg.2 7 (28 * sg.2 9 o + y) ≠ 0) ∧ 1000000 ≤ sg.2 4 (12 * sg.2 11 (8 * t + c) + sg.2 11 (8 * o + oc)) ∧ th = 4) ∨ ((((0 ≤ t ∧ t ≤ sg.1 8 - 1) ∧ (0 ≤ c ∧ c ≤ sg.2 10 t - 1)) ∧ ((0 ≤ o ∧ o ≤ sg.1 8 - 1) ∧ (0 ≤ oc ∧ oc ≤ sg.2 10 o - 1))) ∧ ((0 ≤ y ∧ y ≤ 27) ∧ t ≠ o ∧ c ≠ 0 ∧ oc ≠ sg.2 10 o - 1) ∧ (sg.2 7 (28 * sg.2 9 t + y) ≠ 0 ∧ sg.2 7 (28 * sg.2 9 o + y) ≠ 0) ∧ sg.2 4 (12 * sg.2 11 (8 * t + c) + sg.2 11 (8 * o + oc)) < 1000000 ∧ th = 0 ∧ v = bz (cmI (sd sg y) (24 + t) c + (if sg.2 11 (8 * t + c) = sg.2 11 (8 * o + oc) then (sd sg y).2 2 (sg.2 11 (8 * t + c)) else (sd sg y).2 4 (12 * sg.2 11 (8 * t + c) + sg.2 11 (8 * o + oc))) ≤ lvI (sd sg y) (24 + o) oc)))) := by
  obtain ⟨hF, hCl, hO, hWy, hcut, -, -, -⟩ := hIv
  have hT := hF.1
  have f1b := of1 (hT.1 1)
  have f8 := of8 (hT.1 8)
  have hW9 := hW
  have := i1.1; have := i1.2; have := i2.1; have := i2.2; have := i3.1; have := i3.2; have := i4.1; have := i4.2; have := i5.1; have := i5.2
  have hW0 := hW
  obtain ⟨own, e0, cc, ch, wk, sv, tr, lt, ws, tx, se, te, we, kp, sp, tp, wp, T, hK, hE, hI, hx, hch, hwk, hsv, htr, hlt, hws, htx, hkp, hR0⟩ := hW
  obtain ⟨hx, hxz, -⟩ := tg_at hx
  obtain ⟨hch, hchz, -⟩ := tg_at hch
  have hE1 := hE.1
  obtain ⟨hE2, hE2z, -⟩ := tg_at hE.2
  obtain ⟨k0, k1, k3, k4, k5, k8, k9, k10, k11, k12⟩ := hK
  have hwk := And.intro hwk.1.C hwk.2
  refine mt_ofQ (by decide) (Nat.le_of_ble_eq_true rfl) (fun Q hQ => ?_)
  show MW K yiX1_holds d h 0 [some (.ref x), some (vi y), some (vi t), some (vi c), some (vi o), some (vi oc), none, none, none, none, none] [] Q
  refine mw_wf (fun hwf => ?_)
  have l_hx := hwf _ _ hx
  have l_hch := hwf _ _ hch
  have fR : ∀ b, (b < h.1) → h.2.2 b = h.2.2 b := fun _ _ => rfl
  refine m_aload_n (y := yiX1_holds) dX1_holds_0 rfl ?_
  refine j_iload_n (y := yiX1_holds) dX1_holds_1 rfl ?_
  refine j_iload_n (y := yiX1_holds) dX1_holds_2 rfl ?_
  by_cases c3 : (0 ≤ t ∧ t ≤ sg.1 8 - 1) ∧ 0 ≤ c ∧ c ≤ sg.2 10 t - 1
  · refine m_invV (y := yiX1_holds) (rB := (RX1, TX1, 10)) [(vi t), (vi c)] dX1_holds_3 hx rfl q1205 q1207 qs13 q123 q1208 rfl (c_callOf_1 K 4 h z x sg t c (by omega) hT hW9 c3.1 c3.2) pdX1_callOf ⟨Nat.le_of_ble_eq_true rfl, by decide, by omega⟩ (kk_r fun r3 h3 q3 => ?_) kx_r
    obtain ⟨rfl, hc3⟩ := q3
    have hc3 : h.2.2 r3 = some (true, .inr (3, [(vi (trS sg t c)), (vi (trA sg t c)), (vi (trD sg t c))])) := hc3
    have l_hc3 := hwf _ _ hc3
    refine m_astore (y := yiX1_holds) dX1_holds_6 (by decide) rfl ?_
    show MW K yiX1_holds d h 8 [some (.ref x), some (vi y), some (vi t), some (vi c), some (vi o), some (vi oc), some (.ref r3), none, none, none, none] [] Q
    refine m_aload_n (y := yiX1_holds) dX1_holds_8 rfl ?_
    refine j_iload (y := yiX1_holds) dX1_holds_9 rfl ?_
    refine j_iload (y := yiX1_holds) dX1_holds_11 rfl ?_
    by_cases c13 : (0 ≤ o ∧ o ≤ sg.1 8 - 1) ∧ 0 ≤ oc ∧ oc ≤ sg.2 10 o - 1
    · refine m_invV (y := yiX1_holds) (rB := (RX1, TX1, 10)) [(vi o), (vi oc)] dX1_holds_13 hx rfl q1205 q1207 qs13 q123 q1208 rfl (c_callOf_1 K 4 h z x sg o oc (by omega) hT hW9 c13.1 c13.2) pdX1_callOf ⟨Nat.le_of_ble_eq_true rfl, by decide, by omega⟩ (kk_r fun r13 h13 q13 => ?_) kx_r
      obtain ⟨rfl, hc13⟩ := q13
      have hc13 : h.2.2 r13 = some (true, .inr (3, [(vi (trS sg o oc)), (vi (trA sg o oc)), (vi (trD sg o oc))])) := hc13
      have l_hc13 := hwf _ _ hc13
      refine m_astore (y := yiX1_holds) dX1_holds_16 (by decide) rfl ?_
      show MW K yiX1_holds d h 18 [some (.ref x), some (vi y), some (vi t), some (vi c), some (vi o), some (vi oc), some (.ref r3), some (.ref r13), none, none, none] [] Q
      refine j_iload_n (y := yiX1_holds) dX1_holds_18 rfl ?_
      refine m_invS (y := yiX1_holds) [(vi y)] dX1_holds_19 q1049 q1050 q123 q1051 (c_X1_isDay K 1 h y (by omega) ⟨by omega, by omega⟩) pdX1_isDay ⟨Nat.le_of_ble_eq_true rfl, by decide, by omega⟩ (kk_z fun r19 h19 q19 => ?_) kx_z
      obtain ⟨rfl, rfl⟩ := q19
      refine mw_top (x' := bz (0 ≤ y ∧ y ≤ 27)) rfl ?_
      by_cases c22 : (0 ≤ y ∧ y ≤ 27)
      · refine mw_top (x' := 1) ((bz_t c22).symm) ?_
        refine m_invS (y := yiX1_holds) [(vi 1)] dX1_holds_22 q853 q854 q123 q855 (c_X1_require_1 K 0 h) pdX1_require ⟨Nat.le_of_ble_eq_true rfl, by decide, by omega⟩ (kk_v fun h22 q22 => ?_) kx_v
        obtain rfl := q22
        refine m_aload_n (y := yiX1_holds) dX1_holds_25 rfl ?_
        refine j_iload_n (y := yiX1_holds) dX1_holds_26 rfl ?_
        refine j_iload_n (y := yiX1_holds) dX1_holds_27 rfl ?_
        refine j_iload (y := yiX1_holds) dX1_holds_28 rfl ?_
        refine j_iload (y := yiX1_holds) dX1_holds_30 rfl ?_
        by_cases c32 : t ≠ o ∧ 0 < c ∧ oc < sg.2 10 o - 1
        · refine m_invV (y := yiX1_holds) (rB := (RX1, TX1, 10)) [(vi t), (vi c), (vi o), (vi oc)] dX1_holds_32 hx rfl q2812 q2814 qs61 q123 q2815 rfl (c_reqChange_1 K 3 h z x sg t c o oc (by omega) hT hW9 c13.1 i2 i3 i5 c32) pdX1_requireChange ⟨Nat.le_of_ble_eq_true rfl, by decide, by omega⟩ (kk_v fun h32 q32 => ?_) kx_v
          obtain rfl := q32
          have hn8 := oa10 (hT.2 10) t (by omega) (by omega)
          have ho8 := oa10 (hT.2 10) o (by omega) (by omega)
          have hs1 := hF.2.1 t c (by omega) (by omega) (by omega) (by omega)
          have hs2 := hF.2.1 o oc (by omega) (by omega) (by omega) (by omega)
          refine m_aload_n (y := yiX1_holds) dX1_holds_35 rfl ?_
          refine j_iload_n (y := yiX1_holds) dX1_holds_36 rfl ?_
          refine j_iload_n (y := yiX1_holds) dX1_holds_37 rfl ?_
          refine m_invV (y := yiX1_holds) (rB := (RX1, TX1, 10)) [(vi t), (vi y)] dX1_holds_38 hx rfl q1877 q1879 qs35 q123 q1880 rfl (c_X1_runs K 4 h z x sg t y (by omega) hT hW9 ⟨by omega, by omega⟩ (hO t (by omega) (by omega)) ⟨by omega, by omega⟩) pdX1_runs ⟨Nat.le_of_ble_eq_true rfl, by decide, by omega⟩ (kk_z fun r38 h38 q38 => ?_) kx_z
          obtain ⟨rfl, rfl⟩ := q38
          refine mw_top (x' := bz ((0 ≤ y ∧ y ≤ 27) ∧ sg.2 7 (28 * sg.2 9 t + y) ≠ 0)) rfl ?_
          refine j_bz_eq (y := yiX1_holds) 58 dX1_holds_41 (by decide) (fun c41 => ?_) (fun c41 => ?_)
          · refine j_iconst (y := yiX1_holds) dX1_holds_58 ?_
            refine m_invS (y := yiX1_holds) [(vi 0)] dX1_holds_59 q1449 q1450 q123 q1451 (c_X1_requireSupported_0 K 6 h (by omega) ⟨by omega, by omega⟩) pdX1_requireSupported ⟨Nat.le_of_ble_eq_true rfl, by decide, by omega⟩ kk_t (kx_t fun q59 h59 x59 => ?_)
            subst hQ; exact mx_ret rfl (Or.inr ⟨2, RJ31, q59, rfl, rfl, fun _ => ⟨QFr.th x59 ⟨by omega, by omega⟩ ⟨by omega, by omega⟩ (fun _ _ => rfl), Or.inr (Or.inr (Or.inl ⟨⟨c3, c13⟩, ⟨c22, c32.1, by omega, by omega⟩, (by first | exact Or.inl (Classical.byContradiction (fun h9 => c41 ⟨c22, h9⟩)) | exact Or.inr (Classical.byContradiction (fun h9 => c51 ⟨c22, h9⟩))), rfl⟩))⟩⟩)
          · refine m_aload_n (y := yiX1_holds) dX1_holds_44 rfl ?_
            refine j_iload (y := yiX1_holds) dX1_holds_45 rfl ?_
            refine j_iload_n (y := yiX1_holds) dX1_holds_47 rfl ?_
            refine m_invV (y := yiX1_holds) (rB := (RX1, TX1, 10)) [(vi o), (vi y)] dX1_holds_48 hx rfl q1877 q1879 qs35 q123 q1880 rfl (c_X1_runs K 4 h z x sg o y (by omega) hT hW9 ⟨by omega, by omega⟩ (hO o (by omega) (by omega)) ⟨by omega, by omega⟩) pdX1_runs ⟨Nat.le_of_ble_eq_true rfl, by decide, by omega⟩ (kk_z fun r48 h48 q48 => ?_) kx_z
            obtain ⟨rfl, rfl⟩ := q48
            refine mw_top (x' := bz ((0 ≤ y ∧ y ≤ 27) ∧ sg.2 7 (28 * sg.2 9 o + y) ≠ 0)) rfl ?_
            refine j_bz_eq (y := yiX1_holds) 58 dX1_holds_51 (by decide) (fun c51 => ?_) (fun c51 => ?_)
            · refine j_iconst (y := yiX1_holds) dX1_holds_58 ?_
              refine m_invS (y := yiX1_holds) [(vi 0)] dX1_holds_59 q1449 q1450 q123 q1451 (c_X1_requireSupported_0 K 6 h (by omega) ⟨by omega, by omega⟩) pdX1_requireSupported ⟨Nat.le_of_ble_eq_true rfl, by decide, by omega⟩ kk_t (kx_t fun q59 h59 x59 => ?_)
              subst hQ; exact mx_ret rfl (Or.inr ⟨2, RJ31, q59, rfl, rfl, fun _ => ⟨QFr.th x59 ⟨by omega, by omega⟩ ⟨by omega, by omega⟩ (fun _ _ => rfl), Or.inr (Or.inr (Or.inl ⟨⟨c3, c13⟩, ⟨c22, c32.1, by omega, by omega⟩, (by first | exact Or.inl (Classical.byContradiction (fun h9 => c41 ⟨c22, h9⟩)) | exact Or.inr (Classical.byContradiction (fun h9 => c51 ⟨c22, h9⟩))), rfl⟩))⟩⟩)
            · refine j_iconst (y := yiX1_holds) dX1_holds_54 ?_
              refine m_goto (y := yiX1_holds) 59 dX1_holds_55 (by decide) ?_
              refine m_invS (y := yiX1_holds) [(vi 1)] dX1_holds_59 q1449 q1450 q123 q1451 (c_X1_requireSupported_1 K 0 h) pdX1_requireSupported ⟨Nat.le_of_ble_eq_true rfl, by decide, by omega⟩ (kk_v fun h59 q59 => ?_) kx_v
              obtain rfl := q59
              refine m_aload_n (y := yiX1_holds) dX1_holds_62 rfl ?_
              refine j_iconst (y := yiX1_holds) dX1_holds_63 ?_
              refine m_invV (y := yiX1_holds) (rB := (RX1, TX1, 10)) [(vi (-1))] dX1_holds_64 hx rfl q916 q918 qs3 q123 q919 rfl (c_X1_closedWalks K 1 h x ch wk sv tr lt ws tx (sg.1 1) (sg.1 21) (-1) _ T (sg.2 3) (by omega) hx (hwk.1.up (fun b c e9 => (tg_at e9).1)) hwk.2 (hF.1.2 3) ⟨by omega, by omega⟩ ⟨by omega, by omega⟩ ⟨by omega, by omega⟩) pdX1_closedWalks ⟨Nat.le_of_ble_eq_true rfl, by decide, by omega⟩ (kk_r fun r64 h64 q64 => ?_) kx_r
              obtain ⟨rfl, y64, z64, f64, W, hW1, hW2, hW3⟩ := q64
              have hx : h64.2.2 x = some (true, .inr (0, [(.ref ch), (.ref wk), (vi (sg.1 1)), (.ref sv), (.ref tr), (.ref lt), (.ref ws), (.ref tx), (vi (sg.1 21)), (va_rf kp)])) := (f64 _ (by omega)).trans hx
              have hch : h64.2.2 ch = some (true, ia K 12 (sg.2 2)) := (f64 _ (by omega)).trans hch
              have hc3 : h64.2.2 r3 = some (true, .inr (3, [(vi (trS sg t c)), (vi (trA sg t c)), (vi (trD sg t c))])) := (f64 _ (by omega)).trans hc3
              have hc13 : h64.2.2 r13 = some (true, .inr (3, [(vi (trS sg o oc)), (vi (trA sg o oc)), (vi (trD sg o oc))])) := (f64 _ (by omega)).trans hc13
              have fR : ∀ b, (b < h.1) → h64.2.2 b = h.2.2 b := fun b hb => (f64 b (by omega)).trans (fR b hb)
              refine mw_wf (fun hwf64 => ?_)
              obtain ⟨wr, fw, hwy, hwr⟩ := hW1
              have eS1 : trS sg t c = sg.2 11 (8 * t + c) := rfl
              have eS2 : trS sg o oc = sg.2 11 (8 * o + oc) := rfl
              have eC1 : sg.2 2 (trS sg t c) = sg.2 2 (sg.2 11 (8 * t + c)) := rfl
              have ra := hwr (trS sg t c) (by omega) (by omega)
              have hway : W (trS sg t c) (trS sg o oc) = sg.2 4 (12 * sg.2 11 (8 * t + c) + sg.2 11 (8 * o + oc)) := (hW2 _ _ (by omega) (by omega) (by omega) (by omega)).trans (hWy _ _ (by omega) (by omega) (by omega) (by omega)).symm
              have hwb := oa4 (hT.2 4) (12 * sg.2 11 (8 * t + c) + sg.2 11 (8 * o + oc)) (by omega) (by omega)
              have hb1 := oa12 (hT.2 12) (8 * t + c) (by omega) (by omega)
              have hb2 := oa13 (hT.2 13) (8 * o + oc) (by omega) (by omega)
              have hb3 := oa2 (hT.2 2) (sg.2 11 (8 * t + c)) (by omega) (by omega)
              have hb4 := latOf_b hT y t (c - 1)
              have hb5 := latOf_b hT y o oc
              have eA : trA sg t c = sg.2 12 (8 * t + c) := rfl
              have eD : trD sg o oc = sg.2 13 (8 * o + oc) := rfl
              have hcm : cmI (sd sg y) (24 + t) c = trA sg t c + latOf sg y t (c - 1) := by { unfold cmI; rw [show (24 + t) % 24 = t by omega, show (24 + t) / 24 - 1 = 0 by omega, if_neg (by omega), sd_lat]; show sg.2 12 (8 * t + c) + 1440 * 0 + latOf sg (y + 0) t (c - 1) = _; rw [Int.add_zero, Int.mul_zero, Int.add_zero]; rfl }
              have hlv : lvI (sd sg y) (24 + o) oc = trD sg o oc + latOf sg y o oc := by { unfold lvI; rw [show (24 + o) % 24 = o by omega, show (24 + o) / 24 - 1 = 0 by omega, sd_lat]; show sg.2 13 (8 * o + oc) + 1440 * 0 + latOf sg (y + 0) o oc = _; rw [Int.add_zero, Int.mul_zero, Int.add_zero]; rfl }
              have hwy0 : h64.2.2 h.1 = some (true, aaE K 12 fw) := (rs_at hwy).1
              have l_hwy0 := hwf64 _ _ hwy0
              have hra : h64.2.2 (wr (trS sg t c)) = some (true, ia K 12 (W (trS sg t c))) := (rs_at ra.2).1
              have l_hra := hwf64 _ _ hra
              refine m_aload (y := yiX1_holds) dX1_holds_67 rfl ?_
              refine m_invV (y := yiX1_holds) (rB := (RX4, TX4, 3)) [] dX1_holds_69 hc3 rfl q796 q797 q798 q155 q799 rfl (c_X4_stop (d := 0) hc3) pdX4_stop ⟨Nat.le_of_ble_eq_true rfl, by decide, by omega⟩ (kk_z fun r69 h69 q69 => ?_) kx_z
              obtain ⟨rfl, rfl⟩ := q69
              refine mw_top (x' := (trS sg t c)) rfl ?_
              refine h_aald6 (y := yiX1_holds) dX1_holds_72 hwy0 ⟨by omega, by omega⟩ (by omega) ?_
              rw [ra.1]
              show MW K yiX1_holds d h64 73 [some (.ref x), some (vi y), some (vi t), some (vi c), some (vi o), some (vi oc), some (.ref r3), some (.ref r13), none, none, none] [(.ref (wr (trS sg t c)))] Q
              refine m_aload (y := yiX1_holds) dX1_holds_73 rfl ?_
              refine m_invV (y := yiX1_holds) (rB := (RX4, TX4, 3)) [] dX1_holds_75 hc13 rfl q796 q797 q798 q155 q799 rfl (c_X4_stop (d := 0) hc13) pdX4_stop ⟨Nat.le_of_ble_eq_true rfl, by decide, by omega⟩ (kk_z fun r75 h75 q75 => ?_) kx_z
              obtain ⟨rfl, rfl⟩ := q75
              refine mw_top (x' := (trS sg o oc)) rfl ?_
              refine j_iald (y := yiX1_holds) dX1_holds_78 hra (by omega) ⟨by omega, by omega⟩ ?_
              refine mw_top (x' := sg.2 4 (12 * sg.2 11 (8 * t + c) + sg.2 11 (8 * o + oc))) (hway) ?_
              refine j_istore (y := yiX1_holds) [some (.ref x), some (vi y), some (vi t), some (vi c), some (vi o), some (vi oc), some (.ref r3), some (.ref r13), some (vi (sg.2 4 (12 * sg.2 11 (8 * t + c) + sg.2 11 (8 * o + oc)))), none, none] dX1_holds_79 (by decide) rfl rfl ?_
              refine j_iload (y := yiX1_holds) dX1_holds_81 rfl ?_
              refine j_ldc (y := yiX1_holds) (1000000) dX1_holds_83 q920 (by decide) ?_
              refine j_icmp_ge (y := yiX1_holds) 92 dX1_holds_85 (by decide) ⟨⟨by omega, by omega⟩, ⟨by omega, by omega⟩⟩ (fun c85 => ?_) (fun c85 => ?_)
              · refine j_iconst (y := yiX1_holds) dX1_holds_92 ?_
                refine m_invS (y := yiX1_holds) [(vi 0)] dX1_holds_93 q922 q923 q123 q924 (c_X1_requireThere_0 K 6 h64 (by omega) ⟨by omega, by omega⟩) pdX1_requireThere ⟨Nat.le_of_ble_eq_true rfl, by decide, by omega⟩ kk_t (kx_t fun q93 h93 x93 => ?_)
                subst hQ; exact mx_ret rfl (Or.inr ⟨3, RJ17, q93, rfl, rfl, fun _ => ⟨QFr.th x93 ⟨by omega, by omega⟩ ⟨by omega, by omega⟩ fR, Or.inr (Or.inr (Or.inr (Or.inl ⟨⟨c3, c13⟩, ⟨c22, c32.1, by omega, by omega⟩, ⟨c41.2, c51.2⟩, by omega, rfl⟩)))⟩⟩)
              · refine j_iconst (y := yiX1_holds) dX1_holds_88 ?_
                refine m_goto (y := yiX1_holds) 93 dX1_holds_89 (by decide) ?_
                refine m_invS (y := yiX1_holds) [(vi 1)] dX1_holds_93 q922 q923 q123 q924 (c_X1_requireThere_1 K 0 h64) pdX1_requireThere ⟨Nat.le_of_ble_eq_true rfl, by decide, by omega⟩ (kk_v fun h93 q93 => ?_) kx_v
                obtain rfl := q93
                refine m_aload (y := yiX1_holds) dX1_holds_96 rfl ?_
                refine m_invV (y := yiX1_holds) (rB := (RX4, TX4, 3)) [] dX1_holds_98 hc3 rfl q800 q801 q802 q155 q803 rfl (c_X4_arrival (d := 0) hc3) pdX4_arrival ⟨Nat.le_of_ble_eq_true rfl, by decide, by omega⟩ (kk_z fun r98 h98 q98 => ?_) kx_z
                obtain ⟨rfl, rfl⟩ := q98
                refine mw_top (x' := (trA sg t c)) rfl ?_
                refine m_aload_n (y := yiX1_holds) dX1_holds_101 rfl ?_
                refine j_iload_n (y := yiX1_holds) dX1_holds_102 rfl ?_
                refine j_iload_n (y := yiX1_holds) dX1_holds_103 rfl ?_
                refine j_iload_n (y := yiX1_holds) dX1_holds_104 rfl ?_
                refine j_iconst (y := yiX1_holds) dX1_holds_105 ?_
                refine j_isub (y := yiX1_holds) dX1_holds_106 ?_
                refine m_invV (y := yiX1_holds) (rB := (RX1, TX1, 10)) [(vi y), (vi t), (vi (c - 1))] dX1_holds_107 hx rfl q1846 q1848 qs30 q123 q1849 rfl (c_X1_toldLat K 6 h64 z x sg y t (c - 1) (by omega) hT (hW9.cg (fun b hb => fR b (by omega))) (by omega) ⟨by omega, by omega⟩ ⟨by omega, by omega⟩ ⟨by omega, by omega⟩ ⟨by omega, by omega⟩) pdX1_toldLateness ⟨Nat.le_of_ble_eq_true rfl, by decide, by omega⟩ (kk_z fun r107 h107 q107 => ?_) kx_z
                obtain ⟨rfl, l2, l3, l4⟩ := q107
                have hx : h107.2.2 x = some (true, .inr (0, [(.ref ch), (.ref wk), (vi (sg.1 1)), (.ref sv), (.ref tr), (.ref lt), (.ref ws), (.ref tx), (vi (sg.1 21)), (va_rf kp)])) := (l4 _ (by omega)).trans hx
                have hch : h107.2.2 ch = some (true, ia K 12 (sg.2 2)) := (l4 _ (by omega)).trans hch
                have hc3 : h107.2.2 r3 = some (true, .inr (3, [(vi (trS sg t c)), (vi (trA sg t c)), (vi (trD sg t c))])) := (l4 _ (by omega)).trans hc3
                have hc13 : h107.2.2 r13 = some (true, .inr (3, [(vi (trS sg o oc)), (vi (trA sg o oc)), (vi (trD sg o oc))])) := (l4 _ (by omega)).trans hc13
                have hwy0 : h107.2.2 h.1 = some (true, aaE K 12 fw) := (l4 _ (by omega)).trans hwy0
                have hra : h107.2.2 (wr (trS sg t c)) = some (true, ia K 12 (W (trS sg t c))) := (l4 _ (by omega)).trans hra
                have fR : ∀ b, (b < h.1) → h107.2.2 b = h.2.2 b := fun b hb => (l4 b (by omega)).trans (fR b hb)
                refine mw_wf (fun hwf107 => ?_)
                refine mw_top (x' := latOf sg y t (c - 1)) rfl ?_
                refine j_iadd (y := yiX1_holds) dX1_holds_110 ?_
                refine j_istore (y := yiX1_holds) [some (.ref x), some (vi y), some (vi t), some (vi c), some (vi o), some (vi oc), some (.ref r3), some (.ref r13), some (vi (sg.2 4 (12 * sg.2 11 (8 * t + c) + sg.2 11 (8 * o + oc)))), some (vi ((trA sg t c) + (latOf sg y t (c - 1)))), none] dX1_holds_111 (by decide) rfl rfl ?_
                refine m_aload (y := yiX1_holds) dX1_holds_113 rfl ?_
                refine m_invV (y := yiX1_holds) (rB := (RX4, TX4, 3)) [] dX1_holds_115 hc13 rfl q804 q805 q806 q155 q807 rfl (c_X4_departure (d := 0) hc13) pdX4_departure ⟨Nat.le_of_ble_eq_true rfl, by decide, by omega⟩ (kk_z fun r115 h115 q115 => ?_) kx_z
                obtain ⟨rfl, rfl⟩ := q115
                refine mw_top (x' := (trD sg o oc)) rfl ?_
                refine m_aload_n (y := yiX1_holds) dX1_holds_118 rfl ?_
                refine j_iload_n (y := yiX1_holds) dX1_holds_119 rfl ?_
                refine j_iload (y := yiX1_holds) dX1_holds_120 rfl ?_
                refine j_iload (y := yiX1_holds) dX1_holds_122 rfl ?_
                refine m_invV (y := yiX1_holds) (rB := (RX1, TX1, 10)) [(vi y), (vi o), (vi oc)] dX1_holds_124 hx rfl q1846 q1848 qs30 q123 q1849 rfl (c_X1_toldLat K 6 h107 z x sg y o oc (by omega) hT (hW9.cg (fun b hb => fR b (by omega))) (by omega) ⟨by omega, by omega⟩ ⟨by omega, by omega⟩ i5 ⟨by omega, by omega⟩) pdX1_toldLateness ⟨Nat.le_of_ble_eq_true rfl, by decide, by omega⟩ (kk_z fun r124 h124 q124 => ?_) kx_z
                obtain ⟨rfl, m2, m3, m4⟩ := q124
                have hx : h124.2.2 x = some (true, .inr (0, [(.ref ch), (.ref wk), (vi (sg.1 1)), (.ref sv), (.ref tr), (.ref lt), (.ref ws), (.ref tx), (vi (sg.1 21)), (va_rf kp)])) := (m4 _ (by omega)).trans hx
                have hch : h124.2.2 ch = some (true, ia K 12 (sg.2 2)) := (m4 _ (by omega)).trans hch
                have hc3 : h124.2.2 r3 = some (true, .inr (3, [(vi (trS sg t c)), (vi (trA sg t c)), (vi (trD sg t c))])) := (m4 _ (by omega)).trans hc3
                have hc13 : h124.2.2 r13 = some (true, .inr (3, [(vi (trS sg o oc)), (vi (trA sg o oc)), (vi (trD sg o oc))])) := (m4 _ (by omega)).trans hc13
                have hwy0 : h124.2.2 h.1 = some (true, aaE K 12 fw) := (m4 _ (by omega)).trans hwy0
                have hra : h124.2.2 (wr (trS sg t c)) = some (true, ia K 12 (W (trS sg t c))) := (m4 _ (by omega)).trans hra
                have fR : ∀ b, (b < h.1) → h124.2.2 b = h.2.2 b := fun b hb => (m4 b (by omega)).trans (fR b hb)
                refine mw_wf (fun hwf124 => ?_)
                refine mw_top (x' := latOf sg y o oc) rfl ?_
                refine j_iadd (y := yiX1_holds) dX1_holds_127 ?_
                refine j_istore (y := yiX1_holds) [some (.ref x), some (vi y), some (vi t), some (vi c), some (vi o), some (vi oc), some (.ref r3), some (.ref r13), some (vi (sg.2 4 (12 * sg.2 11 (8 * t + c) + sg.2 11 (8 * o + oc)))), some (vi ((trA sg t c) + (latOf sg y t (c - 1)))), some (vi ((trD sg o oc) + (latOf sg y o oc)))] dX1_holds_128 (by decide) rfl rfl ?_
                refine j_iload (y := yiX1_holds) dX1_holds_130 rfl ?_
                refine m_aload (y := yiX1_holds) dX1_holds_132 rfl ?_
                refine m_invV (y := yiX1_holds) (rB := (RX4, TX4, 3)) [] dX1_holds_134 hc3 rfl q796 q797 q798 q155 q799 rfl (c_X4_stop (d := 0) hc3) pdX4_stop ⟨Nat.le_of_ble_eq_true rfl, by decide, by omega⟩ (kk_z fun r134 h134 q134 => ?_) kx_z
                obtain ⟨rfl, rfl⟩ := q134
                refine mw_top (x' := (trS sg t c)) rfl ?_
                refine m_aload (y := yiX1_holds) dX1_holds_137 rfl ?_
                refine m_invV (y := yiX1_holds) (rB := (RX4, TX4, 3)) [] dX1_holds_139 hc13 rfl q796 q797 q798 q155 q799 rfl (c_X4_stop (d := 0) hc13) pdX4_stop ⟨Nat.le_of_ble_eq_true rfl, by decide, by omega⟩ (kk_z fun r139 h139 q139 => ?_) kx_z
                obtain ⟨rfl, rfl⟩ := q139
                refine mw_top (x' := (trS sg o oc)) rfl ?_
                refine j_icmp_ne (y := yiX1_holds) 158 dX1_holds_142 (by decide) ⟨⟨by omega, by omega⟩, ⟨by omega, by omega⟩⟩ (fun c142 => ?_) (fun c142 => ?_)
                · refine j_iload (y := yiX1_holds) dX1_holds_158 rfl ?_
                  refine j_iadd (y := yiX1_holds) dX1_holds_160 ?_
                  refine j_iload (y := yiX1_holds) dX1_holds_161 rfl ?_
                  refine j_icmp_gt (y := yiX1_holds) 170 dX1_holds_163 (by decide) ⟨⟨by omega, by omega⟩, ⟨by omega, by omega⟩⟩ (fun c163 => ?_) (fun c163 => ?_)
                  · refine j_iconst (y := yiX1_holds) dX1_holds_170 ?_
                    subst hQ; exact j_wzret (y := yiX1_holds) dX1_holds_171 rfl (by omega) (⟨QFr.of (by omega) (by omega) fR, Or.inr (Or.inr (Or.inr (Or.inr ⟨⟨c3, c13⟩, ⟨c22, c32.1, by omega, by omega⟩, ⟨c41.2, c51.2⟩, by omega, rfl, (by { rw [hcm, hlv]; first | (rw [if_pos (by omega)]; first | exact bz_t (by show _ + sg.2 2 _ ≤ _; omega) | exact bz_f (by show ¬ (_ + sg.2 2 _ ≤ _); omega)) | (rw [if_neg (by omega)]; first | exact bz_t (by show _ + sg.2 4 _ ≤ _; omega) | exact bz_f (by show ¬ (_ + sg.2 4 _ ≤ _); omega)) })⟩)))⟩)
                  · refine j_iconst (y := yiX1_holds) dX1_holds_166 ?_
                    refine m_goto (y := yiX1_holds) 171 dX1_holds_167 (by decide) ?_
                    subst hQ; exact j_wzret (y := yiX1_holds) dX1_holds_171 rfl (by omega) (⟨QFr.of (by omega) (by omega) fR, Or.inr (Or.inr (Or.inr (Or.inr ⟨⟨c3, c13⟩, ⟨c22, c32.1, by omega, by omega⟩, ⟨c41.2, c51.2⟩, by omega, rfl, (by { rw [hcm, hlv]; first | (rw [if_pos (by omega)]; first | exact bz_t (by show _ + sg.2 2 _ ≤ _; omega) | exact bz_f (by show ¬ (_ + sg.2 2 _ ≤ _); omega)) | (rw [if_neg (by omega)]; first | exact bz_t (by show _ + sg.2 4 _ ≤ _; omega) | exact bz_f (by show ¬ (_ + sg.2 4 _ ≤ _); omega)) })⟩)))⟩)
                · refine m_aload_n (y := yiX1_holds) dX1_holds_145 rfl ?_
                  refine m_getfS (y := yiX1_holds) kc_0 0 (by decide) dX1_holds_146 q296 hx rfl ?_
                  refine m_aload (y := yiX1_holds) dX1_holds_149 rfl ?_
                  refine m_invV (y := yiX1_holds) (rB := (RX4, TX4, 3)) [] dX1_holds_151 hc3 rfl q796 q797 q798 q155 q799 rfl (c_X4_stop (d := 0) hc3) pdX4_stop ⟨Nat.le_of_ble_eq_true rfl, by decide, by omega⟩ (kk_z fun r151 h151 q151 => ?_) kx_z
                  obtain ⟨rfl, rfl⟩ := q151
                  refine mw_top (x' := (trS sg t c)) rfl ?_
                  refine j_iald (y := yiX1_holds) dX1_holds_154 hch (by omega) ⟨by omega, by omega⟩ ?_
                  refine m_goto (y := yiX1_holds) 160 dX1_holds_155 (by decide) ?_
                  refine j_iadd (y := yiX1_holds) dX1_holds_160 ?_
                  refine j_iload (y := yiX1_holds) dX1_holds_161 rfl ?_
                  refine j_icmp_gt (y := yiX1_holds) 170 dX1_holds_163 (by decide) ⟨⟨by omega, by omega⟩, ⟨by omega, by omega⟩⟩ (fun c163 => ?_) (fun c163 => ?_)
                  · refine j_iconst (y := yiX1_holds) dX1_holds_170 ?_
                    subst hQ; exact j_wzret (y := yiX1_holds) dX1_holds_171 rfl (by omega) (⟨QFr.of (by omega) (by omega) fR, Or.inr (Or.inr (Or.inr (Or.inr ⟨⟨c3, c13⟩, ⟨c22, c32.1, by omega, by omega⟩, ⟨c41.2, c51.2⟩, by omega, rfl, (by { rw [hcm, hlv]; first | (rw [if_pos (by omega)]; first | exact bz_t (by show _ + sg.2 2 _ ≤ _; omega) | exact bz_f (by show ¬ (_ + sg.2 2 _ ≤ _); omega)) | (rw [if_neg (by omega)]; first | exact bz_t (by show _ + sg.2 4 _ ≤ _; omega) | exact bz_f (by show ¬ (_ + sg.2 4 _ ≤ _); omega)) })⟩)))⟩)
                  · refine j_iconst (y := yiX1_holds) dX1_holds_166 ?_
                    refine m_goto (y := yiX1_holds) 171 dX1_holds_167 (by decide) ?_
                    subst hQ; exact j_wzret (y := yiX1_holds) dX1_holds_171 rfl (by omega) (⟨QFr.of (by omega) (by omega) fR, Or.inr (Or.inr (Or.inr (Or.inr ⟨⟨c3, c13⟩, ⟨c22, c32.1, by omega, by omega⟩, ⟨c41.2, c51.2⟩, by omega, rfl, (by { rw [hcm, hlv]; first | (rw [if_pos (by omega)]; first | exact bz_t (by show _ + sg.2 2 _ ≤ _; omega) | exact bz_f (by show ¬ (_ + sg.2 2 _ ≤ _); omega)) | (rw [if_neg (by omega)]; first | exact bz_t (by show _ + sg.2 4 _ ≤ _; omega) | exact bz_f (by show ¬ (_ + sg.2 4 _ ≤ _); omega)) })⟩)))⟩)
        · refine m_invV (y := yiX1_holds) (rB := (RX1, TX1, 10)) [(vi t), (vi c), (vi o), (vi oc)] dX1_holds_32 hx rfl q2812 q2814 qs61 q123 q2815 rfl (c_reqChange_0 K 7 h z x sg t c o oc (by omega) hT hW9 c13.1 i2 i3 i5 c32 ⟨by omega, by omega⟩) pdX1_requireChange ⟨Nat.le_of_ble_eq_true rfl, by decide, by omega⟩ kk_t (kx_t fun q32 h32 x32 => ?_)
          subst hQ; exact mx_ret rfl (Or.inr ⟨1, RJ12, q32, rfl, rfl, fun _ => ⟨QFr.th x32 ⟨by omega, by omega⟩ ⟨by omega, by omega⟩ (fun _ _ => rfl), Or.inr (Or.inl ⟨⟨c3, c13⟩, fun h9 => c32 ⟨h9.2.1, by omega, by omega⟩, rfl⟩)⟩⟩)
      · refine mw_top (x' := 0) ((bz_f c22).symm) ?_
        refine m_invS (y := yiX1_holds) [(vi 0)] dX1_holds_22 q853 q854 q123 q855 (c_X1_require_0 K 6 h (by omega) ⟨by omega, by omega⟩) pdX1_require ⟨Nat.le_of_ble_eq_true rfl, by decide, by omega⟩ kk_t (kx_t fun q22 h22 x22 => ?_)
        subst hQ; exact mx_ret rfl (Or.inr ⟨1, RJ12, q22, rfl, rfl, fun _ => ⟨QFr.th x22 ⟨by omega, by omega⟩ ⟨by omega, by omega⟩ (fun _ _ => rfl), Or.inr (Or.inl ⟨⟨c3, c13⟩, fun h9 => c22 h9.1, rfl⟩)⟩⟩)
    · refine m_invV (y := yiX1_holds) (rB := (RX1, TX1, 10)) [(vi o), (vi oc)] dX1_holds_13 hx rfl q1205 q1207 qs13 q123 q1208 rfl (c_callOf_0 K 8 h z x sg o oc (by omega) hT hW9 i4 i5 c13 ⟨by omega, by omega⟩) pdX1_callOf ⟨Nat.le_of_ble_eq_true rfl, by decide, by omega⟩ kk_t (kx_t fun q13 h13 x13 => ?_)
      subst hQ; exact mx_ret rfl (Or.inr ⟨0, RJ14, q13, rfl, rfl, fun _ => ⟨QFr.th x13 ⟨by omega, by omega⟩ ⟨by omega, by omega⟩ (fun _ _ => rfl), Or.inl ⟨fun h9 => c13 h9.2, rfl⟩⟩⟩)
  · refine m_invV (y := yiX1_holds) (rB := (RX1, TX1, 10)) [(vi t), (vi c)] dX1_holds_3 hx rfl q1205 q1207 qs13 q123 q1208 rfl (c_callOf_0 K 8 h z x sg t c (by omega) hT hW9 i2 i3 c3 ⟨by omega, by omega⟩) pdX1_callOf ⟨Nat.le_of_ble_eq_true rfl, by decide, by omega⟩ kk_t (kx_t fun q3 h3 x3 => ?_)
    subst hQ; exact mx_ret rfl (Or.inr ⟨0, RJ14, q3, rfl, rfl, fun _ => ⟨QFr.th x3 ⟨by omega, by omega⟩ ⟨by omega, by omega⟩ (fun _ _ => rfl), Or.inl ⟨fun h9 => c3 h9.1, rfl⟩⟩⟩)
end SML
