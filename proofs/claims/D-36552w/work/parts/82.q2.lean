/-! Lastbus: choices, choice -/
section CHO
variable (K : KT) (d : Nat) (h : MH) (z x : Nat) (sg : TS) (fr to day mi : Int)
theorem q_choices (hd : 13 ≤ d) (hIv : Iv sg) (hW : World K h z x sg) (hz1 : z ≤ h.1) (i1 : In fr) (i2 : In to) (i3 : In day) (i4 : In mi) (hz : h.1 + 25000 ≤ kC K ∧ h.2.1 + 304000 ≤ kS K) : Mt K yiX1_choices d [.ref x, vi fr, vi to, vi day, vi mi] h (Rw [RJ14, RJ12] fun th v h' => QFr h h' ∧ ((askT (sg.1 1) fr to day mi ≠ 0 ∧ th = askT (sg.1 1) fr to day mi) ∨ (askT (sg.1 1) fr to day mi = 0 ∧ th = 0 ∧ ∃ N a, chR sg fr to day mi N a ∧ v = chM a N.toNat))) := by
  have hF := hIv.1
  have f1b := of1 (hF.1.1 1)
  have hW0 := hW
  obtain ⟨own, e0, cc, ch, wk, sv, tr, lt, ws, tx, se, te, we, kp, sp, tp, wp, T, hK, hE, hI, hx, hch, hwk, hsv, htr, hlt, hws, htx, hkp, hR0⟩ := hW
  obtain ⟨hx, hxz, -⟩ := tg_at hx
  obtain ⟨hch, hchz, -⟩ := tg_at hch
  have hE1 := hE.1
  obtain ⟨hE2, hE2z, -⟩ := tg_at hE.2
  obtain ⟨k0, k1, k3, k4, k5, k8, k9, k10, k11, k12⟩ := hK
  have hwk := And.intro hwk.1.C hwk.2
  refine mt_ofQ (by decide) (Nat.le_of_ble_eq_true rfl) (fun Q hQ => ?_)
  show MW K yiX1_choices d h 0 [some (.ref x), some (vi fr), some (vi to), some (vi day), some (vi mi)] [] Q
  refine mw_wf (fun hwf => ?_)
  have l_hx := hwf _ _ hx
  have fR : ∀ b, (b < h.1) → h.2.2 b = h.2.2 b := fun _ _ => rfl
  refine m_aload_n (y := yiX1_choices) dX1_choices_0 rfl ?_
  refine j_iload_n (y := yiX1_choices) dX1_choices_1 rfl ?_
  refine j_iload_n (y := yiX1_choices) dX1_choices_2 rfl ?_
  refine j_iload_n (y := yiX1_choices) dX1_choices_3 rfl ?_
  refine j_iload (y := yiX1_choices) dX1_choices_4 rfl ?_
  by_cases c6 : (0 ≤ fr ∧ fr ≤ sg.1 1 - 1) ∧ 0 ≤ to ∧ to ≤ sg.1 1 - 1
  · by_cases c6_1 : (0 ≤ day ∧ day ≤ 27) ∧ 0 ≤ mi ∧ mi ≤ 1439
    · refine m_invV (y := yiX1_choices) (rB := (RX1, TX1, 10)) [(vi fr), (vi to), (vi day), (vi mi)] dX1_choices_6 hx rfl q1861 q1863 qs31 q123 q1864 rfl (c_reqAsked (d := 2) fr to day mi (by omega) hx ⟨by omega, by omega⟩ i1 i2 i3 i4 c6 c6_1) pdX1_requireAsked ⟨Nat.le_of_ble_eq_true rfl, by decide, by omega⟩ (kk_v fun h6 q6 => ?_) kx_v
      obtain rfl := q6
      refine m_aload_n (y := yiX1_choices) dX1_choices_9 rfl ?_
      refine j_iload_n (y := yiX1_choices) dX1_choices_10 rfl ?_
      refine j_iload_n (y := yiX1_choices) dX1_choices_11 rfl ?_
      refine j_iload_n (y := yiX1_choices) dX1_choices_12 rfl ?_
      refine j_iload (y := yiX1_choices) dX1_choices_13 rfl ?_
      refine m_invV (y := yiX1_choices) (rB := (RX1, TX1, 10)) [(vi fr), (vi to), (vi day), (vi mi)] dX1_choices_15 hx rfl q2794 q2796 qs60 q123 q2797 rfl (c_choicesC K 12 h z x sg fr to day mi (by omega) hIv hW0 hz1 ⟨by omega, by omega⟩ ⟨by omega, by omega⟩ c6_1.1 c6_1.2 ⟨by omega, by omega⟩) pdX1_choicesOf ⟨Nat.le_of_ble_eq_true rfl, by decide, by omega⟩ (kk_r fun r15 h15 q15 => ?_) kx_r
      obtain ⟨e0', e, m, N, a, p, hchR, hL, hm, hch', y15, z15, f15⟩ := q15
      obtain ⟨wq, capq, mcq, frq, hoq, heq, haeq, h0q, hwq, hcapq, hfq, hnoq⟩ := hL
      have hx : h15.2.2 x = some (true, .inr (0, [(.ref ch), (.ref wk), (vi (sg.1 1)), (.ref sv), (.ref tr), (.ref lt), (.ref ws), (.ref tx), (vi (sg.1 21)), (va_rf kp)])) := (f15 _ (by omega)).trans hx
      have fR : ∀ b, (b < h.1) → h15.2.2 b = h.2.2 b := fun b hb => (f15 b (by omega)).trans (fR b hb)
      refine mw_wf (fun hwf15 => ?_)
      have l_hoq15 := hwf15 _ _ hoq
      have l_heq15 := hwf15 _ _ heq
      refine m_invV (y := yiX1_choices) (rB := (RJ2, TJ2, 3)) [] dX1_choices_18 hoq rfl q333 q334 q335 q126 q336 rfl (c_J2_size K 0 h15 _ _ _ _ hoq) pdJ2_size ⟨Nat.le_of_ble_eq_true rfl, by decide, by omega⟩ (kk_z fun r18 h18 q18 => ?_) kx_z
      obtain ⟨rfl, rfl⟩ := q18
      refine mw_top (x' := m) rfl ?_
      subst hQ; exact j_wret (y := yiX1_choices) dX1_choices_21 rfl (⟨QFr.of (by omega) (by omega) fR, Or.inr ⟨ask3 c6 c6_1, rfl, N, a, hchR, hm⟩⟩)
    · refine m_invV (y := yiX1_choices) (rB := (RX1, TX1, 10)) [(vi fr), (vi to), (vi day), (vi mi)] dX1_choices_6 hx rfl q1861 q1863 qs31 q123 q1864 rfl (c_reqAsked_2 (d := 8) fr to day mi (by omega) hx ⟨by omega, by omega⟩ i1 i2 i3 i4 c6 c6_1 ⟨by omega, by omega⟩) pdX1_requireAsked ⟨Nat.le_of_ble_eq_true rfl, by decide, by omega⟩ kk_t (kx_t fun q6 h6 x6 => ?_)
      subst hQ; exact mx_ret rfl (Or.inr ⟨1, RJ12, q6, rfl, rfl, fun _ => (by first | exact ⟨QFr.th x6 ⟨by omega, by omega⟩ ⟨by omega, by omega⟩ (fun _ _ => rfl), Or.inl (by rw [ask1 c6]; exact ⟨by decide, rfl⟩)⟩ | exact ⟨QFr.th x6 ⟨by omega, by omega⟩ ⟨by omega, by omega⟩ (fun _ _ => rfl), Or.inl (by rw [ask2 c6 c6_1]; exact ⟨by decide, rfl⟩)⟩)⟩)
  · refine m_invV (y := yiX1_choices) (rB := (RX1, TX1, 10)) [(vi fr), (vi to), (vi day), (vi mi)] dX1_choices_6 hx rfl q1861 q1863 qs31 q123 q1864 rfl (c_reqAsked_1 (d := 8) fr to day mi (by omega) hx ⟨by omega, by omega⟩ i1 i2 c6 ⟨by omega, by omega⟩) pdX1_requireAsked ⟨Nat.le_of_ble_eq_true rfl, by decide, by omega⟩ kk_t (kx_t fun q6 h6 x6 => ?_)
    subst hQ; exact mx_ret rfl (Or.inr ⟨0, RJ14, q6, rfl, rfl, fun _ => (by first | exact ⟨QFr.th x6 ⟨by omega, by omega⟩ ⟨by omega, by omega⟩ (fun _ _ => rfl), Or.inl (by rw [ask1 c6]; exact ⟨by decide, rfl⟩)⟩ | exact ⟨QFr.th x6 ⟨by omega, by omega⟩ ⟨by omega, by omega⟩ (fun _ _ => rfl), Or.inl (by rw [ask2 c6 c6_1]; exact ⟨by decide, rfl⟩)⟩)⟩)
theorem q_choice (ix : Int) (hd : 13 ≤ d) (hIv : Iv sg) (hW : World K h z x sg) (hz1 : z ≤ h.1) (i1 : In fr) (i2 : In to) (i3 : In day) (i4 : In mi) (i5 : In ix) (hz : h.1 + 25000 ≤ kC K ∧ h.2.1 + 304000 ≤ kS K) : Mt K yiX1_choice d [.ref x, vi fr, vi to, vi day, vi mi, vi ix] h (Rw [RJ14, RJ12, RJ17] fun th v h' => QFr h h' ∧ ((askT (sg.1 1) fr to day mi ≠ 0 ∧ th = askT (sg.1 1) fr to day mi) ∨ (askT (sg.1 1) fr to day mi = 0 ∧ ∃ N a, chR sg fr to day mi N a ∧ ((¬ (0 ≤ ix ∧ ix ≤ chM a N.toNat - 1) ∧ th = 3) ∨ ((0 ≤ ix ∧ ix ≤ chM a N.toNat - 1) ∧ th = 0 ∧ ∃ q w, chI a N ix q w ∧ v = 5000 * q + w))))) := by
  have hF := hIv.1
  have f1b := of1 (hF.1.1 1)
  have := i5.1; have := i5.2
  have hW0 := hW
  obtain ⟨own, e0, cc, ch, wk, sv, tr, lt, ws, tx, se, te, we, kp, sp, tp, wp, T, hK, hE, hI, hx, hch, hwk, hsv, htr, hlt, hws, htx, hkp, hR0⟩ := hW
  obtain ⟨hx, hxz, -⟩ := tg_at hx
  obtain ⟨hch, hchz, -⟩ := tg_at hch
  have hE1 := hE.1
  obtain ⟨hE2, hE2z, -⟩ := tg_at hE.2
  obtain ⟨k0, k1, k3, k4, k5, k8, k9, k10, k11, k12⟩ := hK
  have hwk := And.intro hwk.1.C hwk.2
  refine mt_ofQ (by decide) (Nat.le_of_ble_eq_true rfl) (fun Q hQ => ?_)
  show MW K yiX1_choice d h 0 [some (.ref x), some (vi fr), some (vi to), some (vi day), some (vi mi), some (vi ix), none] [] Q
  refine mw_wf (fun hwf => ?_)
  have l_hx := hwf _ _ hx
  have fR : ∀ b, (b < h.1) → h.2.2 b = h.2.2 b := fun _ _ => rfl
  refine m_aload_n (y := yiX1_choice) dX1_choice_0 rfl ?_
  refine j_iload_n (y := yiX1_choice) dX1_choice_1 rfl ?_
  refine j_iload_n (y := yiX1_choice) dX1_choice_2 rfl ?_
  refine j_iload_n (y := yiX1_choice) dX1_choice_3 rfl ?_
  refine j_iload (y := yiX1_choice) dX1_choice_4 rfl ?_
  by_cases c6 : (0 ≤ fr ∧ fr ≤ sg.1 1 - 1) ∧ 0 ≤ to ∧ to ≤ sg.1 1 - 1
  · by_cases c6_1 : (0 ≤ day ∧ day ≤ 27) ∧ 0 ≤ mi ∧ mi ≤ 1439
    · refine m_invV (y := yiX1_choice) (rB := (RX1, TX1, 10)) [(vi fr), (vi to), (vi day), (vi mi)] dX1_choice_6 hx rfl q1861 q1863 qs31 q123 q1864 rfl (c_reqAsked (d := 2) fr to day mi (by omega) hx ⟨by omega, by omega⟩ i1 i2 i3 i4 c6 c6_1) pdX1_requireAsked ⟨Nat.le_of_ble_eq_true rfl, by decide, by omega⟩ (kk_v fun h6 q6 => ?_) kx_v
      obtain rfl := q6
      refine m_aload_n (y := yiX1_choice) dX1_choice_9 rfl ?_
      refine j_iload_n (y := yiX1_choice) dX1_choice_10 rfl ?_
      refine j_iload_n (y := yiX1_choice) dX1_choice_11 rfl ?_
      refine j_iload_n (y := yiX1_choice) dX1_choice_12 rfl ?_
      refine j_iload (y := yiX1_choice) dX1_choice_13 rfl ?_
      refine m_invV (y := yiX1_choice) (rB := (RX1, TX1, 10)) [(vi fr), (vi to), (vi day), (vi mi)] dX1_choice_15 hx rfl q2794 q2796 qs60 q123 q2797 rfl (c_choicesC K 12 h z x sg fr to day mi (by omega) hIv hW0 hz1 ⟨by omega, by omega⟩ ⟨by omega, by omega⟩ c6_1.1 c6_1.2 ⟨by omega, by omega⟩) pdX1_choicesOf ⟨Nat.le_of_ble_eq_true rfl, by decide, by omega⟩ (kk_r fun r15 h15 q15 => ?_) kx_r
      obtain ⟨e0', e, m, N, a, p, hchR, hL, hm, hch', y15, z15, f15⟩ := q15
      obtain ⟨wq, capq, mcq, frq, hoq, heq, haeq, h0q, hwq, hcapq, hfq, hnoq⟩ := hL
      have hx : h15.2.2 x = some (true, .inr (0, [(.ref ch), (.ref wk), (vi (sg.1 1)), (.ref sv), (.ref tr), (.ref lt), (.ref ws), (.ref tx), (vi (sg.1 21)), (va_rf kp)])) := (f15 _ (by omega)).trans hx
      have fR : ∀ b, (b < h.1) → h15.2.2 b = h.2.2 b := fun b hb => (f15 b (by omega)).trans (fR b hb)
      refine mw_wf (fun hwf15 => ?_)
      have l_hoq15 := hwf15 _ _ hoq
      have l_heq15 := hwf15 _ _ heq
      refine m_astore (y := yiX1_choice) dX1_choice_18 (by decide) rfl ?_
      show MW K yiX1_choice d h15 20 [some (.ref x), some (vi fr), some (vi to), some (vi day), some (vi mi), some (vi ix), some (.ref r15)] [] Q
      refine j_iload (y := yiX1_choice) dX1_choice_20 rfl ?_
      refine j_iconst (y := yiX1_choice) dX1_choice_22 ?_
      refine m_aload (y := yiX1_choice) dX1_choice_23 rfl ?_
      refine m_invV (y := yiX1_choice) (rB := (RJ2, TJ2, 3)) [] dX1_choice_25 hoq rfl q333 q334 q335 q126 q336 rfl (c_J2_size K 0 h15 _ _ _ _ hoq) pdJ2_size ⟨Nat.le_of_ble_eq_true rfl, by decide, by omega⟩ (kk_z fun r25 h25 q25 => ?_) kx_z
      obtain ⟨rfl, rfl⟩ := q25
      refine mw_top (x' := m) rfl ?_
      refine j_iconst (y := yiX1_choice) dX1_choice_28 ?_
      refine j_isub (y := yiX1_choice) dX1_choice_29 ?_
      refine m_invS (y := yiX1_choice) [(vi ix), (vi 0), (vi (m - 1))] dX1_choice_30 q850 q851 q123 q852 (c_X1_isBetween K 0 h15 ix 0 (m - 1) ⟨by omega, by omega⟩ ⟨by omega, by omega⟩ ⟨by omega, by omega⟩) pdX1_isBetween ⟨Nat.le_of_ble_eq_true rfl, by decide, by omega⟩ (kk_z fun r30 h30 q30 => ?_) kx_z
      obtain ⟨rfl, rfl⟩ := q30
      refine mw_top (x' := bz (0 ≤ ix ∧ ix ≤ (m - 1))) rfl ?_
      by_cases c33 : (0 ≤ ix ∧ ix ≤ (m - 1))
      · refine mw_top (x' := 1) ((bz_t c33).symm) ?_
        refine m_invS (y := yiX1_choice) [(vi 1)] dX1_choice_33 q922 q923 q123 q924 (c_X1_requireThere_1 K 0 h15) pdX1_requireThere ⟨Nat.le_of_ble_eq_true rfl, by decide, by omega⟩ (kk_v fun h33 q33 => ?_) kx_v
        obtain rfl := q33
        obtain ⟨q9, w9, u9, ⟨ww, e9⟩, i9⟩ := hch' ix (by omega) (by omega)
        refine m_aload (y := yiX1_choice) dX1_choice_36 rfl ?_
        refine j_iload (y := yiX1_choice) dX1_choice_38 rfl ?_
        refine m_invV (y := yiX1_choice) (rB := (RJ2, TJ2, 3)) [(vi ix)] dX1_choice_40 hoq rfl q1035 q1036 q1037 q126 q1038 rfl (c_J2_get K 2 h15 _ _ _ _ _ _ _ _ _ (by omega) hoq heq ⟨by omega, by omega⟩ ⟨by omega, by omega⟩ (hfq _ (by omega) (by omega))) pdJ2_get ⟨Nat.le_of_ble_eq_true rfl, by decide, by omega⟩ (kk_r fun r40 h40 q40 => ?_) kx_r
        obtain ⟨rfl, rfl⟩ := q40
        have e8 : h15.2.2 (p ix) = some (ww, .inr (22, [(vi (5000 * q9 + w9))])) := e9
        have l_e8 := hwf15 _ _ e8
        refine m_cast (y := yiX1_choice) dX1_choice_43 e8 rfl q1444 (Or.inl rfl) ?_
        refine m_invV (y := yiX1_choice) (rB := (RJ25, TJ25, 1)) [] dX1_choice_46 e8 rfl q1445 q1446 q1447 q151 q1448 rfl (c_J25_intValue (d := 0) e8) pdJ25_intValue ⟨Nat.le_of_ble_eq_true rfl, by decide, by omega⟩ (kk_z fun r46 h46 q46 => ?_) kx_z
        obtain ⟨rfl, rfl⟩ := q46
        refine mw_top (x' := (5000 * q9 + w9)) rfl ?_
        subst hQ; exact j_wret (y := yiX1_choice) dX1_choice_49 rfl (⟨QFr.of (by omega) (by omega) fR, Or.inr ⟨ask3 c6 c6_1, N, a, hchR, Or.inr ⟨by rw [← hm]; exact c33, rfl, q9, w9, u9, rfl⟩⟩⟩)
      · refine mw_top (x' := 0) ((bz_f c33).symm) ?_
        refine m_invS (y := yiX1_choice) [(vi 0)] dX1_choice_33 q922 q923 q123 q924 (c_X1_requireThere_0 K 6 h15 (by omega) ⟨by omega, by omega⟩) pdX1_requireThere ⟨Nat.le_of_ble_eq_true rfl, by decide, by omega⟩ kk_t (kx_t fun q33 h33 x33 => ?_)
        subst hQ; exact mx_ret rfl (Or.inr ⟨2, RJ17, q33, rfl, rfl, fun _ => ⟨QFr.th x33 ⟨by omega, by omega⟩ ⟨by omega, by omega⟩ fR, Or.inr ⟨ask3 c6 c6_1, N, a, hchR, Or.inl ⟨by rw [← hm]; exact c33, rfl⟩⟩⟩⟩)
    · refine m_invV (y := yiX1_choice) (rB := (RX1, TX1, 10)) [(vi fr), (vi to), (vi day), (vi mi)] dX1_choice_6 hx rfl q1861 q1863 qs31 q123 q1864 rfl (c_reqAsked_2 (d := 8) fr to day mi (by omega) hx ⟨by omega, by omega⟩ i1 i2 i3 i4 c6 c6_1 ⟨by omega, by omega⟩) pdX1_requireAsked ⟨Nat.le_of_ble_eq_true rfl, by decide, by omega⟩ kk_t (kx_t fun q6 h6 x6 => ?_)
      subst hQ; exact mx_ret rfl (Or.inr ⟨1, RJ12, q6, rfl, rfl, fun _ => (by first | exact ⟨QFr.th x6 ⟨by omega, by omega⟩ ⟨by omega, by omega⟩ (fun _ _ => rfl), Or.inl (by rw [ask1 c6]; exact ⟨by decide, rfl⟩)⟩ | exact ⟨QFr.th x6 ⟨by omega, by omega⟩ ⟨by omega, by omega⟩ (fun _ _ => rfl), Or.inl (by rw [ask2 c6 c6_1]; exact ⟨by decide, rfl⟩)⟩)⟩)
  · refine m_invV (y := yiX1_choice) (rB := (RX1, TX1, 10)) [(vi fr), (vi to), (vi day), (vi mi)] dX1_choice_6 hx rfl q1861 q1863 qs31 q123 q1864 rfl (c_reqAsked_1 (d := 8) fr to day mi (by omega) hx ⟨by omega, by omega⟩ i1 i2 c6 ⟨by omega, by omega⟩) pdX1_requireAsked ⟨Nat.le_of_ble_eq_true rfl, by decide, by omega⟩ kk_t (kx_t fun q6 h6 x6 => ?_)
    subst hQ; exact mx_ret rfl (Or.inr ⟨0, RJ14, q6, rfl, rfl, fun _ => (by first | exact ⟨QFr.th x6 ⟨by omega, by omega⟩ ⟨by omega, by omega⟩ (fun _ _ => rfl), Or.inl (by rw [ask1 c6]; exact ⟨by decide, rfl⟩)⟩ | exact ⟨QFr.th x6 ⟨by omega, by omega⟩ ⟨by omega, by omega⟩ (fun _ _ => rfl), Or.inl (by rw [ask2 c6 c6_1]; exact ⟨by decide, rfl⟩)⟩)⟩)
end CHO
