/-! Lastbus: type, erase -/
section TYP
variable (K : KT) (d : Nat) (own : Nat → Nat) (h : MH) (z x : Nat) (sg : TS)
theorem u_type (c : Int) (hd : 8 ≤ d) (hT : TB sg) (hV2 : (kV K 2).category ≠ 2) (hW : WorldO own K h z x sg) (hz1 : z ≤ h.1) (hc : 0 ≤ c ∧ c ≤ 65535) (hz : h.1 + 25000 ≤ kC K ∧ h.2.1 + 304000 ≤ kS K) : Mt K yiX1_type d [.ref x, vi c] h (Rw [RJ13] fun th v h' => (sg.1 19 = 80 ∧ th = 1 ∧ QFr h h') ∨ (sg.1 19 < 80 ∧ th = 0 ∧ MutQ K own h h' z x (ovr sg [(19, sg.1 19 + 1)] [(20, upz (sg.2 20) (sg.1 19) c)]) ∧ v = sg.1 19 + 1)) := by
  have f19 := of19 (hT.1 19)
  have hW0 : World K h z x sg := ⟨own, hW⟩
  obtain ⟨e0, cc, ch, wk, sv, tr, lt, ws, tx, se, te, we, kp, sp, tp, wp, T, hKt, hEt, hIt, hxt, hcht, hwkt, hsvt, htrt, hltt, hwst, htxt, hkpt, hR0⟩ := id hW
  obtain ⟨hx, hxz, -⟩ := tg_at hxt
  obtain ⟨hch, hchz, -⟩ := tg_at hcht
  have hxo := hR0.own hxt
  have hcho := hR0.own hcht
  have hE1 := hEt.1
  obtain ⟨hE2, hE2z, -⟩ := tg_at hEt.2
  obtain ⟨k0, k1, k3, k4, k5, k8, k9, k10, k11, k12⟩ := id hKt
  have hwk := And.intro hwkt.1.C hwkt.2
  have hsv := hsvt
  have htr := htrt
  have hlt := hltt
  have hws := hwst
  have htx := htxt
  have k0tx : KTx K := hKt.tx hV2
  obtain ⟨et, capt, mlt, cdt, ft, hml, hcd, hnt, htx0, hte0, htf, htB⟩ := id htxt
  obtain ⟨htq, htqz, -⟩ := tg_at htx0
  obtain ⟨htq2, htq2z, -⟩ := tg_at hte0
  have htqo := hR0.own htx0
  have hteo := hR0.own hte0
  have n1 : x ≠ tx := ne_oo hx htq (by decide)
  have n2 : x ≠ et := ne_oa hx htq2
  refine mt_ofQ (by decide) (Nat.le_of_ble_eq_true rfl) (fun Q hQ => ?_)
  show MW K yiX1_type d h 0 [some (.ref x), some (vi c)] [] Q
  refine mw_wf (fun hwf => ?_)
  have l_hx := hwf _ _ hx
  have l_htq := hwf _ _ htq
  refine m_aload_n (y := yiX1_type) dX1_type_0 rfl ?_
  refine m_getfS (y := yiX1_type) kc_0 7 (by decide) dX1_type_1 q305 hx rfl ?_
  refine m_invV (y := yiX1_type) (rB := (RJ6, TJ6, 4)) [] dX1_type_4 htq rfl q341 q342 q343 q130 q344 rfl (c_J6_length (d := 1) (by omega) htq) pdJ6_length ⟨Nat.le_of_ble_eq_true rfl, by decide, by omega⟩ (kk_z fun r4 h4 q4 => ?_) kx_z
  obtain ⟨rfl, rfl⟩ := q4
  refine mw_top (x' := (sg.1 19)) rfl ?_
  refine j_bipush (y := yiX1_type) dX1_type_7 (by decide) ?_
  refine j_icmp_ge (y := yiX1_type) 16 dX1_type_9 (by decide) ⟨⟨by omega, by omega⟩, ⟨by omega, by omega⟩⟩ (fun c9 => ?_) (fun c9 => ?_)
  · refine j_iconst (y := yiX1_type) dX1_type_16 ?_
    refine m_invS (y := yiX1_type) [(vi 0)] dX1_type_17 q861 q862 q123 q863 (c_X1_requireState_0 K 6 h (by omega) ⟨by omega, by omega⟩) pdX1_requireState ⟨Nat.le_of_ble_eq_true rfl, by decide, by omega⟩ kk_t (kx_t fun q17 h17 x17 => ?_)
    subst hQ; exact mx_ret rfl (Or.inr ⟨0, RJ13, q17, rfl, rfl, fun _ => Or.inl ⟨by omega, rfl, QFr.th x17 ⟨by omega, by omega⟩ ⟨by omega, by omega⟩ (fun _ _ => rfl)⟩⟩)
  · refine j_iconst (y := yiX1_type) dX1_type_12 ?_
    refine m_goto (y := yiX1_type) 17 dX1_type_13 (by decide) ?_
    refine m_invS (y := yiX1_type) [(vi 1)] dX1_type_17 q861 q862 q123 q863 (c_X1_requireState_1 K 0 h) pdX1_requireState ⟨Nat.le_of_ble_eq_true rfl, by decide, by omega⟩ (kk_v fun h17 q17 => ?_) kx_v
    obtain rfl := q17
    refine m_aload_n (y := yiX1_type) dX1_type_20 rfl ?_
    refine m_getfS (y := yiX1_type) kc_0 7 (by decide) dX1_type_21 q305 hx rfl ?_
    refine j_iload_n (y := yiX1_type) dX1_type_24 rfl ?_
    refine m_invV (y := yiX1_type) (rB := (RJ6, TJ6, 4)) [(vi c)] dX1_type_25 htq rfl q1259 q1260 q1261 q130 q1262 rfl (c_J6_append_3 (d := 7) (t := sg.2 20) c (by omega) k0tx hml hcd htq htq2 htf htB ⟨by omega, by omega⟩ hc ⟨by omega, by omega⟩) pdJ6_append_3 ⟨Nat.le_of_ble_eq_true rfl, by decide, by omega⟩ (kk_r fun r25 h25 q25 => ?_) kx_r
    obtain ⟨rfl, e2, cap2, ml2, cd2, f2, s1, s2, s3, s4, s5, s6, s7, s8, s9, s10⟩ := q25
    have hx : h25.2.2 x = some (true, .inr (0, [(.ref ch), (.ref wk), (vi (sg.1 1)), (.ref sv), (.ref tr), (.ref lt), (.ref ws), (.ref tx), (vi (sg.1 21)), (va_rf kp)])) := (s10 _ (by omega)).trans hx
    refine mw_wf (fun hwf25 => ?_)
    have l_s325 := hwf25 _ _ s3
    refine m_pop (y := yiX1_type) dX1_type_28 rfl ?_
    refine m_aload_n (y := yiX1_type) dX1_type_29 rfl ?_
    refine m_getfS (y := yiX1_type) kc_0 7 (by decide) dX1_type_30 q305 hx rfl ?_
    refine m_invV (y := yiX1_type) (rB := (RJ6, TJ6, 4)) [] dX1_type_33 s3 rfl q341 q342 q343 q130 q344 rfl (c_J6_length (d := 1) (by omega) s3) pdJ6_length ⟨Nat.le_of_ble_eq_true rfl, by decide, by omega⟩ (kk_z fun r33 h33 q33 => ?_) kx_z
    obtain ⟨rfl, rfl⟩ := q33
    refine mw_top (x' := (sg.1 19 + 1)) rfl ?_
    have eJ : ∀ b, b < z → own b ≠ 8 → h25.2.2 b = h.2.2 b := fun b hb hn => s10 b ⟨by omega, fun e9 => hn (by rw [e9]; exact htqo), fun e9 => hn (by rw [e9]; exact hteo)⟩
    have U := upO (j := 8) (by decide) (show z ≤ h25.1 by omega) eJ
    have hnew : TxA K (tg (ownJ own z 8) h25.1 8 h25) tx (sg.1 19 + 1) (upz (sg.2 20) (sg.1 19) c) := ⟨e2, cap2, ml2, cd2, f2, s1, s2, ⟨by omega, by omega⟩, tg_mk s3 (by omega) (Or.inl ((if_pos htqz).trans htqo)), tg_mk s4 (hwf25 _ _ s4) (by { unfold ownJ; by_cases e9 : e2 < z; { rw [if_pos e9]; rcases s7 with h9 | h9; { rw [h9]; exact Or.inl hteo }; { omega } }; { rw [if_neg e9]; exact Or.inl rfl } }), s5, s6⟩
    subst hQ; exact j_wret (y := yiX1_type) dX1_type_36 rfl (Or.inr ⟨by omega, rfl, ⟨ownJ own z 8, fun b hb => if_pos hb, ⟨e0, cc, ch, wk, sv, tr, lt, ws, tx, se, te, we, kp, sp, tp, wp, T, hKt, (by rw [U 0 (by decide)]; exact hEt), (by rw [U 0 (by decide)]; exact hIt), (by rw [U 1 (by decide)]; exact hxt), (by rw [U 2 (by decide)]; exact hcht), (by rw [U 3 (by decide)]; exact hwkt), ⟨by rw [U 4 (by decide)]; exact hsvt.1, fun s a b => by rw [U (100 + s.toNat) (by have b9 : s < sg.1 6 := b; omega)]; exact hsvt.2 s a b⟩, ⟨by rw [U 5 (by decide)]; exact htrt.1, fun t a b => by rw [U (200 + t.toNat) (by have b9 : t < sg.1 8 := b; omega)]; exact htrt.2 t a b⟩, (by rw [U 6 (by decide)]; exact hltt), ⟨by rw [U 7 (by decide)]; exact hwst.1, fun w a b => by rw [U 7 (by decide)]; exact hwst.2 w a b⟩, hnew, (by rw [U 9 (by decide)]; exact hkpt), hR0.up (J := fun q => q = 8) (fun b hb => if_pos hb) (fun b hb => if_neg (by omega)) (by decide) eJ⟩, fun b hb h10 => eJ b hb (by omega), by omega, by omega⟩, rfl⟩)
theorem u_erase (hd : 7 ≤ d) (hT : TB sg) (hV2 : (kV K 2).category ≠ 2) (hW : WorldO own K h z x sg) (hz1 : z ≤ h.1) (hz : h.1 + 25000 ≤ kC K ∧ h.2.1 + 304000 ≤ kS K) : Mt K yiX1_erase d [.ref x] h (Rz fun v h' => MutQ K own h h' z x (ovr sg [(19, 0)] []) ∧ sg.1 19 = v) := by
  have f19 := of19 (hT.1 19)
  have hW0 : World K h z x sg := ⟨own, hW⟩
  obtain ⟨e0, cc, ch, wk, sv, tr, lt, ws, tx, se, te, we, kp, sp, tp, wp, T, hKt, hEt, hIt, hxt, hcht, hwkt, hsvt, htrt, hltt, hwst, htxt, hkpt, hR0⟩ := id hW
  obtain ⟨hx, hxz, -⟩ := tg_at hxt
  obtain ⟨hch, hchz, -⟩ := tg_at hcht
  have hxo := hR0.own hxt
  have hcho := hR0.own hcht
  have hE1 := hEt.1
  obtain ⟨hE2, hE2z, -⟩ := tg_at hEt.2
  obtain ⟨k0, k1, k3, k4, k5, k8, k9, k10, k11, k12⟩ := id hKt
  have hwk := And.intro hwkt.1.C hwkt.2
  have hsv := hsvt
  have htr := htrt
  have hlt := hltt
  have hws := hwst
  have htx := htxt
  have k0tx : KTx K := hKt.tx hV2
  obtain ⟨et, capt, mlt, cdt, ft, hml, hcd, hnt, htx0, hte0, htf, htB⟩ := id htxt
  obtain ⟨htq, htqz, -⟩ := tg_at htx0
  obtain ⟨htq2, htq2z, -⟩ := tg_at hte0
  have htqo := hR0.own htx0
  have hteo := hR0.own hte0
  have n1 : x ≠ tx := ne_oo hx htq (by decide)
  have n2 : x ≠ et := ne_oa hx htq2
  refine mt_ofQ (by decide) (Nat.le_of_ble_eq_true rfl) (fun Q hQ => ?_)
  show MW K yiX1_erase d h 0 [some (.ref x), none] [] Q
  refine mw_wf (fun hwf => ?_)
  have l_hx := hwf _ _ hx
  have l_htq := hwf _ _ htq
  refine m_aload_n (y := yiX1_erase) dX1_erase_0 rfl ?_
  refine m_getfS (y := yiX1_erase) kc_0 7 (by decide) dX1_erase_1 q305 hx rfl ?_
  refine m_invV (y := yiX1_erase) (rB := (RJ6, TJ6, 4)) [] dX1_erase_4 htq rfl q341 q342 q343 q130 q344 rfl (c_J6_length (d := 1) (by omega) htq) pdJ6_length ⟨Nat.le_of_ble_eq_true rfl, by decide, by omega⟩ (kk_z fun r4 h4 q4 => ?_) kx_z
  obtain ⟨rfl, rfl⟩ := q4
  refine mw_top (x' := (sg.1 19)) rfl ?_
  refine j_istore_n (y := yiX1_erase) [some (.ref x), some (vi (sg.1 19))] dX1_erase_7 (by decide) rfl rfl ?_
  refine m_aload_n (y := yiX1_erase) dX1_erase_8 rfl ?_
  refine m_getfS (y := yiX1_erase) kc_0 7 (by decide) dX1_erase_9 q305 hx rfl ?_
  refine j_iconst (y := yiX1_erase) dX1_erase_12 ?_
  refine m_invV (y := yiX1_erase) (rB := (RJ6, TJ6, 4)) [(vi 0)] dX1_erase_13 htq rfl q348 q349 q350 q130 q351 rfl (c_J6_setLength0 (d := 6) (t := sg.2 20) (by omega) hml hcd htq htq2 htf htB ⟨by omega, by omega⟩ ⟨by omega, by omega⟩) pdJ6_setLength ⟨Nat.le_of_ble_eq_true rfl, by decide, by omega⟩ (kk_v fun h13 q13 => ?_) kx_v
  obtain ⟨e2, cap2, ml2, cd2, f2, s1, s2, s3, s4, s5, s6, s7, s8, s9, s10⟩ := q13
  have hx : h13.2.2 x = some (true, .inr (0, [(.ref ch), (.ref wk), (vi (sg.1 1)), (.ref sv), (.ref tr), (.ref lt), (.ref ws), (.ref tx), (vi (sg.1 21)), (va_rf kp)])) := (s10 _ (by omega)).trans hx
  refine mw_wf (fun hwf13 => ?_)
  refine j_iload_n (y := yiX1_erase) dX1_erase_16 rfl ?_
  have eJ : ∀ b, b < z → own b ≠ 8 → h13.2.2 b = h.2.2 b := fun b hb hn => s10 b ⟨by omega, fun e9 => hn (by rw [e9]; exact htqo), fun e9 => hn (by rw [e9]; exact hteo)⟩
  have U := upO (j := 8) (by decide) (show z ≤ h13.1 by omega) eJ
  have hnew : TxA K (tg (ownJ own z 8) h13.1 8 h13) tx 0 (sg.2 20) := ⟨e2, cap2, ml2, cd2, f2, s1, s2, ⟨by omega, by omega⟩, tg_mk s3 (by omega) (Or.inl ((if_pos htqz).trans htqo)), tg_mk s4 (hwf13 _ _ s4) (by { unfold ownJ; by_cases e9 : e2 < z; { rw [if_pos e9]; rcases s7 with h9 | h9; { rw [h9]; exact Or.inl hteo }; { omega } }; { rw [if_neg e9]; exact Or.inl rfl } }), s5, s6⟩
  subst hQ; exact j_iret (y := yiX1_erase) dX1_erase_17 rfl (⟨⟨ownJ own z 8, fun b hb => if_pos hb, ⟨e0, cc, ch, wk, sv, tr, lt, ws, tx, se, te, we, kp, sp, tp, wp, T, hKt, (by rw [U 0 (by decide)]; exact hEt), (by rw [U 0 (by decide)]; exact hIt), (by rw [U 1 (by decide)]; exact hxt), (by rw [U 2 (by decide)]; exact hcht), (by rw [U 3 (by decide)]; exact hwkt), ⟨by rw [U 4 (by decide)]; exact hsvt.1, fun s a b => by rw [U (100 + s.toNat) (by have b9 : s < sg.1 6 := b; omega)]; exact hsvt.2 s a b⟩, ⟨by rw [U 5 (by decide)]; exact htrt.1, fun t a b => by rw [U (200 + t.toNat) (by have b9 : t < sg.1 8 := b; omega)]; exact htrt.2 t a b⟩, (by rw [U 6 (by decide)]; exact hltt), ⟨by rw [U 7 (by decide)]; exact hwst.1, fun w a b => by rw [U 7 (by decide)]; exact hwst.2 w a b⟩, hnew, (by rw [U 9 (by decide)]; exact hkpt), hR0.up (J := fun q => q = 8) (fun b hb => if_pos hb) (fun b hb => if_neg (by omega)) (by decide) eJ⟩, fun b hb h10 => eJ b hb (by omega), by omega, by omega⟩, rfl⟩)
end TYP
