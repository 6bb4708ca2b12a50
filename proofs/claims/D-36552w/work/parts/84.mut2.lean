/-! Lastbus: days of services -/
theorem upz_ne {f : Int → Int} {i a j : Int} (h : j ≠ i) : upz f i a j = f j := by unfold upz; rw [if_neg h]
theorem SvA.cg {K : KT} {h : MH} {on on' : Int → Int} {s : Int} {q : Nat} (H : SvA K h on s q) (e : ∀ d, 0 ≤ d → d < 28 → (on (28 * s + d) ≠ 0 ↔ on' (28 * s + d) ≠ 0)) : SvA K h on' s q := by
  obtain ⟨w, n, f, h1, h2, h3⟩ := H
  exact ⟨w, n, f, h1, fun d a b => (h2 d a b).trans (e d a b), h3⟩
section SVC
variable (K : KT) (d : Nat) (own : Nat → Nat) (h : MH) (z x : Nat) (sg : TS)
theorem c_serviceOfA {x ch wk sv tr lt ws tx se : Nat} {n fl mcs m : Int} {kp : Value} {wsv : Bool} {caps : Nat} {fsv : Int → Option Nat} {sp : Int → Nat} (s : Int) (hd : 3 ≤ d) (hx : h.2.2 x = some (true, .inr (0, [.ref ch, .ref wk, vi n, .ref sv, .ref tr, .ref lt, .ref ws, .ref tx, vi fl, kp]))) (hso : h.2.2 sv = some (true, .inr (14, [vi mcs, .ref se, vi m]))) (hse : h.2.2 se = some (wsv, oaE K caps fsv)) (hcap : 0 ≤ m ∧ m ≤ (caps : Int) ∧ caps ≤ 60000) (hsf : ∀ i, 0 ≤ i → i < m → fsv i = some (sp i)) (hb : ∃ wb nb, h.2.2 (sp s) = some (true, .inr (16, [.ref wb, vi nb, vi 0]))) (hs : 0 ≤ s ∧ s ≤ m - 1) : Mt K yiX1_serviceOf d [.ref x, vi s] h (Rr fun r h' => h = h' ∧ sp s = r) := by
  obtain ⟨wb, nb, hbq⟩ := hb
  refine mt_ofQ (by decide) (Nat.le_of_ble_eq_true rfl) (fun Q hQ => ?_)
  show MW K yiX1_serviceOf d h 0 [some (.ref x), some (vi s)] [] Q
  refine mw_wf (fun hwf => ?_)
  have l_hx := hwf _ _ hx
  have l_hso := hwf _ _ hso
  have l_hse := hwf _ _ hse
  have l_hbq := hwf _ _ hbq
  refine j_iload_n (y := yiX1_serviceOf) dX1_serviceOf_0 rfl ?_
  refine j_iconst (y := yiX1_serviceOf) dX1_serviceOf_1 ?_
  refine m_aload_n (y := yiX1_serviceOf) dX1_serviceOf_2 rfl ?_
  refine m_getfS (y := yiX1_serviceOf) kc_0 3 (by decide) dX1_serviceOf_3 q301 hx rfl ?_
  refine m_invV (y := yiX1_serviceOf) (rB := (RJ2, TJ2, 3)) [] dX1_serviceOf_6 hso rfl q333 q334 q335 q126 q336 rfl (c_J2_size K 0 h _ _ _ _ hso) pdJ2_size ⟨Nat.le_of_ble_eq_true rfl, by decide, by omega⟩ (kk_z fun r6 h6 q6 => ?_) kx_z
  obtain ⟨rfl, rfl⟩ := q6
  refine mw_top (x' := m) rfl ?_
  refine j_iconst (y := yiX1_serviceOf) dX1_serviceOf_9 ?_
  refine j_isub (y := yiX1_serviceOf) dX1_serviceOf_10 ?_
  refine m_invS (y := yiX1_serviceOf) [(vi s), (vi 0), (vi (m - 1))] dX1_serviceOf_11 q850 q851 q123 q852 (c_X1_isBetween K 0 h s 0 (m - 1) ⟨by omega, by omega⟩ ⟨by omega, by omega⟩ ⟨by omega, by omega⟩) pdX1_isBetween ⟨Nat.le_of_ble_eq_true rfl, by decide, by omega⟩ (kk_z fun r11 h11 q11 => ?_) kx_z
  obtain ⟨rfl, rfl⟩ := q11
  refine mw_top (x' := bz (0 ≤ s ∧ s ≤ (m - 1))) rfl ?_
  by_cases c14 : (0 ≤ s ∧ s ≤ (m - 1))
  · refine mw_top (x' := 1) ((bz_t c14).symm) ?_
    refine m_invS (y := yiX1_serviceOf) [(vi 1)] dX1_serviceOf_14 q893 q894 q123 q895 (c_X1_requireIndex_1 K 0 h) pdX1_requireIndex ⟨Nat.le_of_ble_eq_true rfl, by decide, by omega⟩ (kk_v fun h14 q14 => ?_) kx_v
    obtain rfl := q14
    refine m_aload_n (y := yiX1_serviceOf) dX1_serviceOf_17 rfl ?_
    refine m_getfS (y := yiX1_serviceOf) kc_0 3 (by decide) dX1_serviceOf_18 q301 hx rfl ?_
    refine j_iload_n (y := yiX1_serviceOf) dX1_serviceOf_21 rfl ?_
    refine m_invV (y := yiX1_serviceOf) (rB := (RJ2, TJ2, 3)) [(vi s)] dX1_serviceOf_22 hso rfl q1035 q1036 q1037 q126 q1038 rfl (c_J2_get K 2 h _ _ _ _ _ _ _ _ _ (by omega) hso hse ⟨by omega, by omega⟩ ⟨by omega, by omega⟩ (hsf _ (by omega) (by omega))) pdJ2_get ⟨Nat.le_of_ble_eq_true rfl, by decide, by omega⟩ (kk_r fun r22 h22 q22 => ?_) kx_r
    obtain ⟨rfl, rfl⟩ := q22
    refine m_cast (y := yiX1_serviceOf) dX1_serviceOf_25 hbq rfl q808 (Or.inl rfl) ?_
    subst hQ; exact m_aret (y := yiX1_serviceOf) (x := (some (sp s))) dX1_serviceOf_28 rfl (Or.inl ⟨_, rfl⟩) ⟨(sp s), rfl, ⟨rfl, rfl⟩⟩
  · refine mw_top (x' := 0) ((bz_f c14).symm) ?_
    refine m_invS (y := yiX1_serviceOf) [(vi 0)] dX1_serviceOf_14 q893 q894 q123 q895 (c_X1_requireIndex_0 K 6 h (by omega) ⟨by omega, by omega⟩) pdX1_requireIndex ⟨Nat.le_of_ble_eq_true rfl, by decide, by omega⟩ kk_t (kx_t fun q14 h14 x14 => ?_)
    subst hQ; exact mx_ret rfl (absurd hs c14)
theorem c_tripOfA {x ch wk sv tr lt ws tx te : Nat} {n fl mct m : Int} {kp : Value} {wt : Bool} {capt : Nat} {ft : Int → Option Nat} {tp : Int → Nat} (t : Int) (hd : 3 ≤ d) (hx : h.2.2 x = some (true, .inr (0, [.ref ch, .ref wk, vi n, .ref sv, .ref tr, .ref lt, .ref ws, .ref tx, vi fl, kp]))) (hto : h.2.2 tr = some (true, .inr (14, [vi mct, .ref te, vi m]))) (hte : h.2.2 te = some (wt, oaE K capt ft)) (hcap : 0 ≤ m ∧ m ≤ (capt : Int) ∧ capt ≤ 60000) (htf : ∀ i, 0 ≤ i → i < m → ft i = some (tp i)) (hb : ∃ s0 l, h.2.2 (tp t) = some (true, .inr (2, [vi s0, .ref l]))) (ht : 0 ≤ t ∧ t ≤ m - 1) : Mt K yiX1_tripOf d [.ref x, vi t] h (Rr fun r h' => h = h' ∧ tp t = r) := by
  obtain ⟨s0, l, htq⟩ := hb
  refine mt_ofQ (by decide) (Nat.le_of_ble_eq_true rfl) (fun Q hQ => ?_)
  show MW K yiX1_tripOf d h 0 [some (.ref x), some (vi t)] [] Q
  refine mw_wf (fun hwf => ?_)
  have l_hx := hwf _ _ hx
  have l_hto := hwf _ _ hto
  have l_hte := hwf _ _ hte
  have l_htq := hwf _ _ htq
  refine j_iload_n (y := yiX1_tripOf) dX1_tripOf_0 rfl ?_
  refine j_iconst (y := yiX1_tripOf) dX1_tripOf_1 ?_
  refine m_aload_n (y := yiX1_tripOf) dX1_tripOf_2 rfl ?_
  refine m_getfS (y := yiX1_tripOf) kc_0 4 (by decide) dX1_tripOf_3 q302 hx rfl ?_
  refine m_invV (y := yiX1_tripOf) (rB := (RJ2, TJ2, 3)) [] dX1_tripOf_6 hto rfl q333 q334 q335 q126 q336 rfl (c_J2_size K 0 h _ _ _ _ hto) pdJ2_size ⟨Nat.le_of_ble_eq_true rfl, by decide, by omega⟩ (kk_z fun r6 h6 q6 => ?_) kx_z
  obtain ⟨rfl, rfl⟩ := q6
  refine mw_top (x' := m) rfl ?_
  refine j_iconst (y := yiX1_tripOf) dX1_tripOf_9 ?_
  refine j_isub (y := yiX1_tripOf) dX1_tripOf_10 ?_
  refine m_invS (y := yiX1_tripOf) [(vi t), (vi 0), (vi (m - 1))] dX1_tripOf_11 q850 q851 q123 q852 (c_X1_isBetween K 0 h t 0 (m - 1) ⟨by omega, by omega⟩ ⟨by omega, by omega⟩ ⟨by omega, by omega⟩) pdX1_isBetween ⟨Nat.le_of_ble_eq_true rfl, by decide, by omega⟩ (kk_z fun r11 h11 q11 => ?_) kx_z
  obtain ⟨rfl, rfl⟩ := q11
  refine mw_top (x' := bz (0 ≤ t ∧ t ≤ (m - 1))) rfl ?_
  by_cases c14 : (0 ≤ t ∧ t ≤ (m - 1))
  · refine mw_top (x' := 1) ((bz_t c14).symm) ?_
    refine m_invS (y := yiX1_tripOf) [(vi 1)] dX1_tripOf_14 q893 q894 q123 q895 (c_X1_requireIndex_1 K 0 h) pdX1_requireIndex ⟨Nat.le_of_ble_eq_true rfl, by decide, by omega⟩ (kk_v fun h14 q14 => ?_) kx_v
    obtain rfl := q14
    refine m_aload_n (y := yiX1_tripOf) dX1_tripOf_17 rfl ?_
    refine m_getfS (y := yiX1_tripOf) kc_0 4 (by decide) dX1_tripOf_18 q302 hx rfl ?_
    refine j_iload_n (y := yiX1_tripOf) dX1_tripOf_21 rfl ?_
    refine m_invV (y := yiX1_tripOf) (rB := (RJ2, TJ2, 3)) [(vi t)] dX1_tripOf_22 hto rfl q1035 q1036 q1037 q126 q1038 rfl (c_J2_get K 2 h _ _ _ _ _ _ _ _ _ (by omega) hto hte ⟨by omega, by omega⟩ ⟨by omega, by omega⟩ (htf _ (by omega) (by omega))) pdJ2_get ⟨Nat.le_of_ble_eq_true rfl, by decide, by omega⟩ (kk_r fun r22 h22 q22 => ?_) kx_r
    obtain ⟨rfl, rfl⟩ := q22
    refine m_cast (y := yiX1_tripOf) dX1_tripOf_25 htq rfl q794 (Or.inl rfl) ?_
    subst hQ; exact m_aret (y := yiX1_tripOf) (x := (some (tp t))) dX1_tripOf_28 rfl (Or.inl ⟨_, rfl⟩) ⟨(tp t), rfl, ⟨rfl, rfl⟩⟩
  · refine mw_top (x' := 0) ((bz_f c14).symm) ?_
    refine m_invS (y := yiX1_tripOf) [(vi 0)] dX1_tripOf_14 q893 q894 q123 q895 (c_X1_requireIndex_0 K 6 h (by omega) ⟨by omega, by omega⟩) pdX1_requireIndex ⟨Nat.le_of_ble_eq_true rfl, by decide, by omega⟩ kk_t (kx_t fun q14 h14 x14 => ?_)
    subst hQ; exact mx_ret rfl (absurd ht c14)
theorem q_nextDay (s y : Int) (hd : 9 ≤ d) (hT : TB sg) (hW : WorldO own K h z x sg) (i1 : In s) (i2 : In y) (hz : h.1 + 1 ≤ kC K ∧ h.2.1 + 6 ≤ kS K) : Mt K yiX1_nextDay d [.ref x, vi s, vi y] h (Rw [RJ14, RJ12, RJ17] fun th v h' => (¬ (0 ≤ s ∧ s ≤ sg.1 6 - 1) ∧ th = 1 ∧ QFr h h') ∨ ((0 ≤ s ∧ s ≤ sg.1 6 - 1) ∧ ¬ (0 ≤ y ∧ y ≤ 27) ∧ th = 2 ∧ QFr h h') ∨ ((0 ≤ s ∧ s ≤ sg.1 6 - 1) ∧ (0 ≤ y ∧ y ≤ 27) ∧ (∀ j, y ≤ j → j < 28 → sg.2 7 (28 * s + j) = 0) ∧ th = 3 ∧ QFr h h') ∨ ((0 ≤ s ∧ s ≤ sg.1 6 - 1) ∧ (0 ≤ y ∧ y ≤ 27) ∧ ((y ≤ v ∧ v < 28) ∧ sg.2 7 (28 * s + v) ≠ 0 ∧ ∀ j, y ≤ j → j < v → sg.2 7 (28 * s + j) = 0) ∧ th = 0 ∧ h' = h)) := by
  have f6 := of6 (hT.1 6)
  have := i1.1; have := i1.2; have := i2.1; have := i2.2
  have hW0 : World K h z x sg := ⟨own, hW⟩
  obtain ⟨e0, cc, ch, wk, sv, tr, lt, ws, tx, se, te, we, kp, sp, tp, wp, T, hKt, hEt, hIt, hxt, hcht, hwkt, hsvt, htrt, hltt, hwst, htxt, hkpt, hR0⟩ := id hW
  obtain ⟨hx, hxz, -⟩ := tg_at hxt
  obtain ⟨hch, hchz, -⟩ := tg_at hcht
  have hxo := hR0.own hxt
  have hcho := hR0.own hcht
  have hE1 := hEt.1
  obtain ⟨hE2, hE2z, -⟩ := tg_at hEt.2
  obtain ⟨k0, k1, k3, k4, k5, k8, k9, k10, k11, k12⟩ := id hKt
  have hwk := And.intro hwkt.1.C hwkt.2
  have hsv := hsvt
  have htr := htrt
  have hlt := hltt
  have hws := hwst
  have htx := htxt
  obtain ⟨⟨wsv, caps, mcs, fsv, hso, hse, hsne, hs0, hsw, hscap, hsf, hsno⟩, hss⟩ := hsv
  obtain ⟨hso, hsoz, -⟩ := tg_at hso
  obtain ⟨hse, hsez, -⟩ := tg_at hse
  have hW9 : World K h z x sg := ⟨own, hW⟩
  have hsq : (0 ≤ s ∧ s ≤ sg.1 6 - 1) → ∃ wb nb, h.2.2 (sp s) = some (true, .inr (16, [.ref wb, vi nb, vi 0])) := fun c => by
    obtain ⟨wb, nb, fb, hb, -⟩ := hss s (by omega) (by omega)
    exact ⟨wb, nb, (tg_at hb.1).1⟩
  refine mt_ofQ (by decide) (Nat.le_of_ble_eq_true rfl) (fun Q hQ => ?_)
  show MW K yiX1_nextDay d h 0 [some (.ref x), some (vi s), some (vi y), none, none] [] Q
  refine mw_wf (fun hwf => ?_)
  have l_hx := hwf _ _ hx
  have l_hso := hwf _ _ hso
  have l_hse := hwf _ _ hse
  refine m_aload_n (y := yiX1_nextDay) dX1_nextDay_0 rfl ?_
  refine j_iload_n (y := yiX1_nextDay) dX1_nextDay_1 rfl ?_
  by_cases c2 : 0 ≤ s ∧ s ≤ sg.1 6 - 1
  · refine m_invV (y := yiX1_nextDay) (rB := (RX1, TX1, 10)) [(vi s)] dX1_nextDay_2 hx rfl q1031 q1033 qs8 q123 q1034 rfl (c_serviceOfA K 3 h s (by omega) hx hso hse hscap hsf (hsq c2) c2) pdX1_serviceOf ⟨Nat.le_of_ble_eq_true rfl, by decide, by omega⟩ (kk_r fun r2 h2 q2 => ?_) kx_r
    obtain ⟨rfl, rfl⟩ := q2
    obtain ⟨wb, nb, fb, hb, hb1, hb2⟩ := hss s (by omega) (by omega)
    obtain ⟨hbt1, hbt2, hbt3⟩ := id hb
    obtain ⟨hbq, hbqz, -⟩ := tg_at hbt1
    obtain ⟨hbw, hbwz, -⟩ := tg_at hbt2
    have hbqo := hR0.own hbt1
    have hbwo := hR0.own hbt2
    have hb9 : BsA K h (sp s) wb nb 1 fb := ⟨hbq, hbw, hbt3⟩
    have hbq : h.2.2 (sp s) = some (true, .inr (16, [(.ref wb), (vi nb), (vi 0)])) := hbq
    have l_hbq := hwf _ _ hbq
    have hbw : h.2.2 wb = some (true, laE K 1 fb) := hbw
    have l_hbw := hwf _ _ hbw
    refine m_astore_n (y := yiX1_nextDay) dX1_nextDay_5 (by decide) rfl ?_
    show MW K yiX1_nextDay d h 6 [some (.ref x), some (vi s), some (vi y), some (.ref (sp s)), none] [] Q
    refine j_iload_n (y := yiX1_nextDay) dX1_nextDay_6 rfl ?_
    refine m_invS (y := yiX1_nextDay) [(vi y)] dX1_nextDay_7 q1049 q1050 q123 q1051 (c_X1_isDay K 1 h y (by omega) ⟨by omega, by omega⟩) pdX1_isDay ⟨Nat.le_of_ble_eq_true rfl, by decide, by omega⟩ (kk_z fun r7 h7 q7 => ?_) kx_z
    obtain ⟨rfl, rfl⟩ := q7
    refine mw_top (x' := bz (0 ≤ y ∧ y ≤ 27)) rfl ?_
    by_cases c10 : (0 ≤ y ∧ y ≤ 27)
    · refine mw_top (x' := 1) ((bz_t c10).symm) ?_
      refine m_invS (y := yiX1_nextDay) [(vi 1)] dX1_nextDay_10 q853 q854 q123 q855 (c_X1_require_1 K 0 h) pdX1_require ⟨Nat.le_of_ble_eq_true rfl, by decide, by omega⟩ (kk_v fun h10 q10 => ?_) kx_v
      obtain rfl := q10
      refine m_aload_n (y := yiX1_nextDay) dX1_nextDay_13 rfl ?_
      refine j_iload_n (y := yiX1_nextDay) dX1_nextDay_14 rfl ?_
      refine m_invV (y := yiX1_nextDay) (rB := (RJ18, TJ18, 3)) [(vi y)] dX1_nextDay_15 hbq rfl q1112 q1113 q1114 q143 q1115 rfl (c_J18_nextSetBit K 3 h (sp s) wb nb y 1 fb (by omega) k8 hb9 (by omega) hb2) pdJ18_nextSetBit ⟨Nat.le_of_ble_eq_true rfl, by decide, by omega⟩ (kk_z fun r15 h15 q15 => ?_) kx_z
      obtain ⟨rfl, e15⟩ := q15
      have hv9 : -1 ≤ r15 ∧ r15 < 28 := by rcases e15 with ⟨h9, -⟩ | ⟨h9, -⟩ <;> omega
      refine j_istore (y := yiX1_nextDay) [some (.ref x), some (vi s), some (vi y), some (.ref (sp s)), some (vi r15)] dX1_nextDay_18 (by decide) rfl rfl ?_
      refine j_iload (y := yiX1_nextDay) dX1_nextDay_20 rfl ?_
      refine j_if_lt (y := yiX1_nextDay) 29 dX1_nextDay_22 (by decide) ⟨by omega, by omega⟩ (fun c22 => ?_) (fun c22 => ?_)
      · refine j_iconst (y := yiX1_nextDay) dX1_nextDay_29 ?_
        refine m_invS (y := yiX1_nextDay) [(vi 0)] dX1_nextDay_30 q922 q923 q123 q924 (c_X1_requireThere_0 K 6 h (by omega) ⟨by omega, by omega⟩) pdX1_requireThere ⟨Nat.le_of_ble_eq_true rfl, by decide, by omega⟩ kk_t (kx_t fun q30 h30 x30 => ?_)
        subst hQ; exact mx_ret rfl (Or.inr ⟨2, RJ17, q30, rfl, rfl, fun _ => Or.inr (Or.inr (Or.inl ⟨c2, c10, fun j j0 j1 => by { rcases e15 with ⟨h9, h8⟩ | ⟨h9, -⟩; { exact Classical.byContradiction (fun h7 => h8 j j0 j1 ((hb1 j (by omega) j1).mpr h7)) }; { omega } }, rfl, QFr.th x30 ⟨by omega, by omega⟩ ⟨by omega, by omega⟩ (fun _ _ => rfl)⟩))⟩)
      · refine j_iconst (y := yiX1_nextDay) dX1_nextDay_25 ?_
        refine m_goto (y := yiX1_nextDay) 30 dX1_nextDay_26 (by decide) ?_
        refine m_invS (y := yiX1_nextDay) [(vi 1)] dX1_nextDay_30 q922 q923 q123 q924 (c_X1_requireThere_1 K 0 h) pdX1_requireThere ⟨Nat.le_of_ble_eq_true rfl, by decide, by omega⟩ (kk_v fun h30 q30 => ?_) kx_v
        obtain rfl := q30
        refine j_iload (y := yiX1_nextDay) dX1_nextDay_33 rfl ?_
        subst hQ; exact j_wret (y := yiX1_nextDay) dX1_nextDay_35 rfl (Or.inr (Or.inr (Or.inr ⟨c2, c10, by { rcases e15 with ⟨h9, h8⟩ | ⟨h9, h8, h7⟩; { omega }; { exact ⟨h9, (hb1 _ (by omega) (by omega)).mp h8, fun j j0 j1 => Classical.byContradiction (fun h6 => h7 j j0 j1 ((hb1 j (by omega) (by omega)).mpr h6))⟩ } }, rfl, rfl⟩)))
    · refine mw_top (x' := 0) ((bz_f c10).symm) ?_
      refine m_invS (y := yiX1_nextDay) [(vi 0)] dX1_nextDay_10 q853 q854 q123 q855 (c_X1_require_0 K 6 h (by omega) ⟨by omega, by omega⟩) pdX1_require ⟨Nat.le_of_ble_eq_true rfl, by decide, by omega⟩ kk_t (kx_t fun q10 h10 x10 => ?_)
      subst hQ; exact mx_ret rfl (Or.inr ⟨1, RJ12, q10, rfl, rfl, fun _ => Or.inr (Or.inl ⟨c2, c10, rfl, QFr.th x10 ⟨by omega, by omega⟩ ⟨by omega, by omega⟩ (fun _ _ => rfl)⟩)⟩)
  · refine m_invV (y := yiX1_nextDay) (rB := (RX1, TX1, 10)) [(vi s)] dX1_nextDay_2 hx rfl q1031 q1033 qs8 q123 q1034 rfl (c_serviceOf_0 K 7 h z x sg s (by omega) hT hW9 i1 c2 ⟨by omega, by omega⟩) pdX1_serviceOf ⟨Nat.le_of_ble_eq_true rfl, by decide, by omega⟩ kk_t (kx_t fun q2 h2 x2 => ?_)
    subst hQ; exact mx_ret rfl (Or.inr ⟨0, RJ14, q2, rfl, rfl, fun _ => Or.inl ⟨c2, rfl, QFr.th x2 ⟨by omega, by omega⟩ ⟨by omega, by omega⟩ (fun _ _ => rfl)⟩⟩)
theorem u_putDay (s y : Int) (p : Prop) [Decidable p] (hd : 9 ≤ d) (hT : TB sg) (hW : WorldO own K h z x sg) (hz1 : z ≤ h.1) (i1 : In s) (i2 : In y) (hz : h.1 + 25000 ≤ kC K ∧ h.2.1 + 304000 ≤ kS K) : Mt K yiX1_putDay d [.ref x, vi s, vi y, vi (bz p)] h (Rw [RJ14, RJ12] fun th v h' => (¬ (0 ≤ s ∧ s ≤ sg.1 6 - 1) ∧ th = 1 ∧ QFr h h') ∨ ((0 ≤ s ∧ s ≤ sg.1 6 - 1) ∧ ¬ (0 ≤ y ∧ y ≤ 27) ∧ th = 2 ∧ QFr h h') ∨ ((0 ≤ s ∧ s ≤ sg.1 6 - 1) ∧ (0 ≤ y ∧ y ≤ 27) ∧ th = 0 ∧ MutQ K own h h' z x (ovr sg [] [(7, upz (sg.2 7) (28 * s + y) (bz p))]) ∧ v = sg.2 7 (28 * s + y))) := by
  have f6 := of6 (hT.1 6)
  have hbp := bz01 p
  have := i1.1; have := i1.2; have := i2.1; have := i2.2
  have hW0 : World K h z x sg := ⟨own, hW⟩
  obtain ⟨e0, cc, ch, wk, sv, tr, lt, ws, tx, se, te, we, kp, sp, tp, wp, T, hKt, hEt, hIt, hxt, hcht, hwkt, hsvt, htrt, hltt, hwst, htxt, hkpt, hR0⟩ := id hW
  obtain ⟨hx, hxz, -⟩ := tg_at hxt
  obtain ⟨hch, hchz, -⟩ := tg_at hcht
  have hxo := hR0.own hxt
  have hcho := hR0.own hcht
  have hE1 := hEt.1
  obtain ⟨hE2, hE2z, -⟩ := tg_at hEt.2
  obtain ⟨k0, k1, k3, k4, k5, k8, k9, k10, k11, k12⟩ := id hKt
  have hwk := And.intro hwkt.1.C hwkt.2
  have hsv := hsvt
  have htr := htrt
  have hlt := hltt
  have hws := hwst
  have htx := htxt
  obtain ⟨⟨wsv, caps, mcs, fsv, hso, hse, hsne, hs0, hsw, hscap, hsf, hsno⟩, hss⟩ := hsv
  obtain ⟨hso, hsoz, -⟩ := tg_at hso
  obtain ⟨hse, hsez, -⟩ := tg_at hse
  have hW9 : World K h z x sg := ⟨own, hW⟩
  have hsq : (0 ≤ s ∧ s ≤ sg.1 6 - 1) → ∃ wb nb, h.2.2 (sp s) = some (true, .inr (16, [.ref wb, vi nb, vi 0])) := fun c => by
    obtain ⟨wb, nb, fb, hb, -⟩ := hss s (by omega) (by omega)
    exact ⟨wb, nb, (tg_at hb.1).1⟩
  have hcg : ∀ s9, s9 ≠ s → (0 ≤ y ∧ y ≤ 27) → ∀ q, 0 ≤ q → q < 28 → (sg.2 7 (28 * s9 + q) ≠ 0 ↔ upz (sg.2 7) (28 * s + y) (bz p) (28 * s9 + q) ≠ 0) := fun s9 n9 y9 q q0 q1 => by rw [upz_ne (by omega)]
  refine mt_ofQ (by decide) (Nat.le_of_ble_eq_true rfl) (fun Q hQ => ?_)
  show MW K yiX1_putDay d h 0 [some (.ref x), some (vi s), some (vi y), some (vi (bz p)), none, none] [] Q
  refine mw_wf (fun hwf => ?_)
  have l_hx := hwf _ _ hx
  have l_hso := hwf _ _ hso
  have l_hse := hwf _ _ hse
  refine m_aload_n (y := yiX1_putDay) dX1_putDay_0 rfl ?_
  refine j_iload_n (y := yiX1_putDay) dX1_putDay_1 rfl ?_
  by_cases c2 : 0 ≤ s ∧ s ≤ sg.1 6 - 1
  · refine m_invV (y := yiX1_putDay) (rB := (RX1, TX1, 10)) [(vi s)] dX1_putDay_2 hx rfl q1031 q1033 qs8 q123 q1034 rfl (c_serviceOfA K 3 h s (by omega) hx hso hse hscap hsf (hsq c2) c2) pdX1_serviceOf ⟨Nat.le_of_ble_eq_true rfl, by decide, by omega⟩ (kk_r fun r2 h2 q2 => ?_) kx_r
    obtain ⟨rfl, rfl⟩ := q2
    obtain ⟨wb, nb, fb, hb, hb1, hb2⟩ := hss s (by omega) (by omega)
    obtain ⟨hbt1, hbt2, hbt3⟩ := id hb
    obtain ⟨hbq, hbqz, -⟩ := tg_at hbt1
    obtain ⟨hbw, hbwz, -⟩ := tg_at hbt2
    have hbqo := hR0.own hbt1
    have hbwo := hR0.own hbt2
    have hb9 : BsA K h (sp s) wb nb 1 fb := ⟨hbq, hbw, hbt3⟩
    have hbq : h.2.2 (sp s) = some (true, .inr (16, [(.ref wb), (vi nb), (vi 0)])) := hbq
    have l_hbq := hwf _ _ hbq
    have hbw : h.2.2 wb = some (true, laE K 1 fb) := hbw
    have l_hbw := hwf _ _ hbw
    refine m_astore (y := yiX1_putDay) dX1_putDay_5 (by decide) rfl ?_
    show MW K yiX1_putDay d h 7 [some (.ref x), some (vi s), some (vi y), some (vi (bz p)), some (.ref (sp s)), none] [] Q
    refine j_iload_n (y := yiX1_putDay) dX1_putDay_7 rfl ?_
    refine m_invS (y := yiX1_putDay) [(vi y)] dX1_putDay_8 q1049 q1050 q123 q1051 (c_X1_isDay K 1 h y (by omega) ⟨by omega, by omega⟩) pdX1_isDay ⟨Nat.le_of_ble_eq_true rfl, by decide, by omega⟩ (kk_z fun r8 h8 q8 => ?_) kx_z
    obtain ⟨rfl, rfl⟩ := q8
    refine mw_top (x' := bz (0 ≤ y ∧ y ≤ 27)) rfl ?_
    by_cases c11 : (0 ≤ y ∧ y ≤ 27)
    · refine mw_top (x' := 1) ((bz_t c11).symm) ?_
      refine m_invS (y := yiX1_putDay) [(vi 1)] dX1_putDay_11 q853 q854 q123 q855 (c_X1_require_1 K 0 h) pdX1_require ⟨Nat.le_of_ble_eq_true rfl, by decide, by omega⟩ (kk_v fun h11 q11 => ?_) kx_v
      obtain rfl := q11
      refine m_aload (y := yiX1_putDay) dX1_putDay_14 rfl ?_
      refine j_iload_n (y := yiX1_putDay) dX1_putDay_16 rfl ?_
      refine m_invV (y := yiX1_putDay) (rB := (RJ18, TJ18, 3)) [(vi y)] dX1_putDay_17 hbq rfl q809 q810 q811 q143 q812 rfl (c_J18_get K 1 h (sp s) wb nb y 1 fb (by omega) k8 hb9 (by omega)) pdJ18_get ⟨Nat.le_of_ble_eq_true rfl, by decide, by omega⟩ (kk_z fun r17 h17 q17 => ?_) kx_z
      obtain ⟨rfl, e1, e2⟩ := q17
      have hin := hb1 y (by omega) (by omega)
      have hon := oa7 (hT.2 7) (28 * s + y) (by omega) (by omega)
      have hcg := fun s9 n9 => hcg s9 n9 c11
      refine j_istore (y := yiX1_putDay) [some (.ref x), some (vi s), some (vi y), some (vi (bz p)), some (.ref (sp s)), some (vi r17)] dX1_putDay_20 (by decide) rfl rfl ?_
      refine j_iload (y := yiX1_putDay) dX1_putDay_22 rfl ?_
      refine j_iload_n (y := yiX1_putDay) dX1_putDay_24 rfl ?_
      refine j_icmp_eq (y := yiX1_putDay) 34 dX1_putDay_25 (by decide) ⟨⟨by omega, by omega⟩, ⟨by omega, by omega⟩⟩ (fun c25 => ?_) (fun c25 => ?_)
      · have eJ : ∀ b, b < z → own b ≠ 100 + s.toNat → h.2.2 b = h.2.2 b := by first | exact fun _ _ _ => rfl | exact fun b hb hn => f31 b ⟨fun e9 => hn (by rw [e9]; exact hbqo), fun e9 => hn (by rw [e9]; exact hbwo)⟩
        have hz9 : z ≤ h.1 := by omega
        have U := upO (j := 100 + s.toNat) (by omega) hz9 eJ
        have tm : ∀ q c, q < z → own q = 100 + s.toNat → h.2.2 q = some c → (tg (ownJ own z (100 + s.toNat)) h.1 (100 + s.toNat) h).2.2 q = some c := fun q c l1 l2 l3 => tg_mk l3 (by omega) (Or.inl ((if_pos l1).trans l2))
        have hnew : SvA K (tg (ownJ own z (100 + s.toNat)) h.1 (100 + s.toNat) h) (upz (sg.2 7) (28 * s + y) (bz p)) s (sp s) := by first | exact ⟨wb, nb, fb, ⟨tm _ _ hbqz hbqo hbq, tm _ _ hbwz hbwo hbw, hbt3⟩, fun q q0 q1 => (hb1 q q0 q1).trans (by { by_cases e9 : q = y; { rw [e9, upz_at, ← c25]; constructor; { intro h9; have := e2.mpr (hin.mpr h9); omega }; { intro h9; exact hin.mp (e2.mp (by omega)) } }; { rw [upz_ne (by omega)] } }), hb2⟩ | exact ⟨wb, n2, f2, ⟨tm _ _ hbqz hbqo hB2.1, tm _ _ hbwz hbwo hB2.2.1, hB2.2.2⟩, fun q q0 q1 => (hj2 q q0).trans (by { by_cases e9 : q = y; { rw [e9, upz_at, if_pos rfl]; exact ⟨fun h9 => by { have : r17 ≠ 1 := fun h8 => h9 (e2.mp h8); omega }, fun h9 h8 => by { have := e2.mpr h8; omega }⟩ }; { rw [if_neg e9, upz_ne (by omega)]; exact hb1 q q0 q1 } }), fun q q0 h9 => by { have h8 := (hj2 q (by omega)).mp h9; rw [if_neg (by omega)] at h8; exact hb2 q q0 h8 }⟩
        refine j_iload (y := yiX1_putDay) dX1_putDay_34 rfl ?_
        subst hQ; exact j_wzret (y := yiX1_putDay) dX1_putDay_36 rfl (by omega) (Or.inr (Or.inr ⟨c2, c11, rfl, ⟨ownJ own z (100 + s.toNat), fun b hb => if_pos hb, ⟨e0, cc, ch, wk, sv, tr, lt, ws, tx, se, te, we, kp, sp, tp, wp, T, hKt, (by rw [U 0 (by omega)]; exact hEt), (by rw [U 0 (by omega)]; exact hIt), (by rw [U 1 (by omega)]; exact hxt), (by rw [U 2 (by omega)]; exact hcht), (by rw [U 3 (by omega)]; exact hwkt), ⟨by rw [U 4 (by omega)]; exact hsvt.1, fun s9 a b => by { by_cases e9 : s9 = s; { rw [e9]; exact hnew }; { rw [U (100 + s9.toNat) (by omega)]; exact (hsvt.2 s9 a b).cg (hcg s9 e9) } }⟩, ⟨by rw [U 5 (by omega)]; exact htrt.1, fun t a b => by rw [U (200 + t.toNat) (by have b9 : t < sg.1 8 := b; omega)]; exact htrt.2 t a b⟩, (by rw [U 6 (by omega)]; exact hltt), ⟨by rw [U 7 (by omega)]; exact hwst.1, fun w a b => by rw [U 7 (by omega)]; exact hwst.2 w a b⟩, (by rw [U 8 (by omega)]; exact htxt), (by rw [U 9 (by omega)]; exact hkpt), hR0.up (J := fun q => q = 100 + s.toNat) (fun b hb => if_pos hb) (fun b hb => if_neg (by omega)) (by omega) eJ⟩, fun b hb h10 => eJ b hb (by omega), by omega, by omega⟩, (by { rcases e1 with h9 | h9; { have : ¬ sg.2 7 (28 * s + y) ≠ 0 := fun h8 => by { have := e2.mpr (hin.mpr h8); omega }; omega }; { have := hin.mp (e2.mp h9); omega } })⟩))
      · refine m_aload (y := yiX1_putDay) dX1_putDay_28 rfl ?_
        refine j_iload_n (y := yiX1_putDay) dX1_putDay_30 rfl ?_
        refine m_invV (y := yiX1_putDay) (rB := (RJ18, TJ18, 3)) [(vi y)] dX1_putDay_31 hbq rfl q1090 q1091 q1092 q143 q1093 rfl (c_J18_flip_1 K 4 h (sp s) wb nb y 1 fb (by omega) k8 hb9 (by omega)) pdJ18_flip ⟨Nat.le_of_ble_eq_true rfl, by decide, by omega⟩ (kk_v fun h31 q31 => ?_) kx_v
        obtain ⟨n2, f2, hB2, hj2, y31, z31, f31⟩ := q31
        refine mw_wf (fun hwf31 => ?_)
        have eJ : ∀ b, b < z → own b ≠ 100 + s.toNat → h31.2.2 b = h.2.2 b := by first | exact fun _ _ _ => rfl | exact fun b hb hn => f31 b ⟨fun e9 => hn (by rw [e9]; exact hbqo), fun e9 => hn (by rw [e9]; exact hbwo)⟩
        have hz9 : z ≤ h31.1 := by omega
        have U := upO (j := 100 + s.toNat) (by omega) hz9 eJ
        have tm : ∀ q c, q < z → own q = 100 + s.toNat → h31.2.2 q = some c → (tg (ownJ own z (100 + s.toNat)) h31.1 (100 + s.toNat) h31).2.2 q = some c := fun q c l1 l2 l3 => tg_mk l3 (by omega) (Or.inl ((if_pos l1).trans l2))
        have hnew : SvA K (tg (ownJ own z (100 + s.toNat)) h31.1 (100 + s.toNat) h31) (upz (sg.2 7) (28 * s + y) (bz p)) s (sp s) := by first | exact ⟨wb, nb, fb, ⟨tm _ _ hbqz hbqo hbq, tm _ _ hbwz hbwo hbw, hbt3⟩, fun q q0 q1 => (hb1 q q0 q1).trans (by { by_cases e9 : q = y; { rw [e9, upz_at, ← c25]; constructor; { intro h9; have := e2.mpr (hin.mpr h9); omega }; { intro h9; exact hin.mp (e2.mp (by omega)) } }; { rw [upz_ne (by omega)] } }), hb2⟩ | exact ⟨wb, n2, f2, ⟨tm _ _ hbqz hbqo hB2.1, tm _ _ hbwz hbwo hB2.2.1, hB2.2.2⟩, fun q q0 q1 => (hj2 q q0).trans (by { by_cases e9 : q = y; { rw [e9, upz_at, if_pos rfl]; exact ⟨fun h9 => by { have : r17 ≠ 1 := fun h8 => h9 (e2.mp h8); omega }, fun h9 h8 => by { have := e2.mpr h8; omega }⟩ }; { rw [if_neg e9, upz_ne (by omega)]; exact hb1 q q0 q1 } }), fun q q0 h9 => by { have h8 := (hj2 q (by omega)).mp h9; rw [if_neg (by omega)] at h8; exact hb2 q q0 h8 }⟩
        refine j_iload (y := yiX1_putDay) dX1_putDay_34 rfl ?_
        subst hQ; exact j_wzret (y := yiX1_putDay) dX1_putDay_36 rfl (by omega) (Or.inr (Or.inr ⟨c2, c11, rfl, ⟨ownJ own z (100 + s.toNat), fun b hb => if_pos hb, ⟨e0, cc, ch, wk, sv, tr, lt, ws, tx, se, te, we, kp, sp, tp, wp, T, hKt, (by rw [U 0 (by omega)]; exact hEt), (by rw [U 0 (by omega)]; exact hIt), (by rw [U 1 (by omega)]; exact hxt), (by rw [U 2 (by omega)]; exact hcht), (by rw [U 3 (by omega)]; exact hwkt), ⟨by rw [U 4 (by omega)]; exact hsvt.1, fun s9 a b => by { by_cases e9 : s9 = s; { rw [e9]; exact hnew }; { rw [U (100 + s9.toNat) (by omega)]; exact (hsvt.2 s9 a b).cg (hcg s9 e9) } }⟩, ⟨by rw [U 5 (by omega)]; exact htrt.1, fun t a b => by rw [U (200 + t.toNat) (by have b9 : t < sg.1 8 := b; omega)]; exact htrt.2 t a b⟩, (by rw [U 6 (by omega)]; exact hltt), ⟨by rw [U 7 (by omega)]; exact hwst.1, fun w a b => by rw [U 7 (by omega)]; exact hwst.2 w a b⟩, (by rw [U 8 (by omega)]; exact htxt), (by rw [U 9 (by omega)]; exact hkpt), hR0.up (J := fun q => q = 100 + s.toNat) (fun b hb => if_pos hb) (fun b hb => if_neg (by omega)) (by omega) eJ⟩, fun b hb h10 => eJ b hb (by omega), by omega, by omega⟩, (by { rcases e1 with h9 | h9; { have : ¬ sg.2 7 (28 * s + y) ≠ 0 := fun h8 => by { have := e2.mpr (hin.mpr h8); omega }; omega }; { have := hin.mp (e2.mp h9); omega } })⟩))
    · refine mw_top (x' := 0) ((bz_f c11).symm) ?_
      refine m_invS (y := yiX1_putDay) [(vi 0)] dX1_putDay_11 q853 q854 q123 q855 (c_X1_require_0 K 6 h (by omega) ⟨by omega, by omega⟩) pdX1_require ⟨Nat.le_of_ble_eq_true rfl, by decide, by omega⟩ kk_t (kx_t fun q11 h11 x11 => ?_)
      subst hQ; exact mx_ret rfl (Or.inr ⟨1, RJ12, q11, rfl, rfl, fun _ => Or.inr (Or.inl ⟨c2, c11, rfl, QFr.th x11 ⟨by omega, by omega⟩ ⟨by omega, by omega⟩ (fun _ _ => rfl)⟩)⟩)
  · refine m_invV (y := yiX1_putDay) (rB := (RX1, TX1, 10)) [(vi s)] dX1_putDay_2 hx rfl q1031 q1033 qs8 q123 q1034 rfl (c_serviceOf_0 K 7 h z x sg s (by omega) hT hW9 i1 c2 ⟨by omega, by omega⟩) pdX1_serviceOf ⟨Nat.le_of_ble_eq_true rfl, by decide, by omega⟩ kk_t (kx_t fun q2 h2 x2 => ?_)
    subst hQ; exact mx_ret rfl (Or.inr ⟨0, RJ14, q2, rfl, rfl, fun _ => Or.inl ⟨c2, rfl, QFr.th x2 ⟨by omega, by omega⟩ ⟨by omega, by omega⟩ (fun _ _ => rfl)⟩⟩)
theorem cB_dcnt {f : Int → Int64} {on : Int → Int} {s : Int} : ∀ n : Nat, n ≤ 28 → (∀ j, 0 ≤ j → j < 28 → (inB f j ↔ on (28 * s + j) ≠ 0)) → cB (inB f) n = dcnt on s n
  | 0, _, _ => rfl
  | n + 1, hn, h => by
    have ih := cB_dcnt (f := f) (on := on) (s := s) n (by omega) h
    have e := h (n : Int) (by omega) (by omega)
    show _ = dcnt on s n + (if on (28 * s + (n : Int)) = 0 then 0 else 1)
    by_cases q : inB f (n : Int)
    · have := cB_y (p := inB f) (b := (n : Int)) (by omega) q
      rw [show ((n : Int) + 1).toNat = n + 1 by omega, Int.toNat_natCast, ih] at this
      rw [this, if_neg (e.mp q)]
    · have := cB_n (p := inB f) (b := (n : Int)) (by omega) q
      rw [show ((n : Int) + 1).toNat = n + 1 by omega, Int.toNat_natCast, ih] at this
      rw [this, if_pos (Classical.byContradiction (fun h9 => q (e.mpr h9))), Int.add_zero]
theorem u_week (s dy fr to : Int) (hd : 9 ≤ d) (hT : TB sg) (hW : WorldO own K h z x sg) (hz1 : z ≤ h.1) (i1 : In s) (i2 : In dy) (i3 : In fr) (i4 : In to) (hz : h.1 + 25000 ≤ kC K ∧ h.2.1 + 304000 ≤ kS K) : Mt K yiX1_week d [.ref x, vi s, vi dy, vi fr, vi to] h (Rw [RJ14, RJ12] fun th v h' => (¬ (0 ≤ s ∧ s ≤ sg.1 6 - 1) ∧ th = 1 ∧ QFr h h') ∨ ((0 ≤ s ∧ s ≤ sg.1 6 - 1) ∧ ¬ ((0 ≤ dy ∧ dy ≤ 127) ∧ (0 ≤ fr ∧ fr ≤ 27) ∧ (0 ≤ to ∧ to ≤ 27) ∧ fr ≤ to) ∧ th = 2 ∧ QFr h h') ∨ ((0 ≤ s ∧ s ≤ sg.1 6 - 1) ∧ ((0 ≤ dy ∧ dy ≤ 127) ∧ (0 ≤ fr ∧ fr ≤ 27) ∧ (0 ≤ to ∧ to ≤ 27) ∧ fr ≤ to) ∧ th = 0 ∧ MutQ K own h h' z x (ovr sg [] [(7, wkOn (sg.2 7) s dy fr (to + 1))]) ∧ v = dcnt (wkOn (sg.2 7) s dy fr (to + 1)) s 28)) := by
  have f6 := of6 (hT.1 6)
  have := i1.1; have := i1.2; have := i2.1; have := i2.2; have := i3.1; have := i3.2; have := i4.1; have := i4.2
  have hW0 : World K h z x sg := ⟨own, hW⟩
  obtain ⟨e0, cc, ch, wk, sv, tr, lt, ws, tx, se, te, we, kp, sp, tp, wp, T, hKt, hEt, hIt, hxt, hcht, hwkt, hsvt, htrt, hltt, hwst, htxt, hkpt, hR0⟩ := id hW
  obtain ⟨hx, hxz, -⟩ := tg_at hxt
  obtain ⟨hch, hchz, -⟩ := tg_at hcht
  have hxo := hR0.own hxt
  have hcho := hR0.own hcht
  have hE1 := hEt.1
  obtain ⟨hE2, hE2z, -⟩ := tg_at hEt.2
  obtain ⟨k0, k1, k3, k4, k5, k8, k9, k10, k11, k12⟩ := id hKt
  have hwk := And.intro hwkt.1.C hwkt.2
  have hsv := hsvt
  have htr := htrt
  have hlt := hltt
  have hws := hwst
  have htx := htxt
  obtain ⟨⟨wsv, caps, mcs, fsv, hso, hse, hsne, hs0, hsw, hscap, hsf, hsno⟩, hss⟩ := hsv
  obtain ⟨hso, hsoz, -⟩ := tg_at hso
  obtain ⟨hse, hsez, -⟩ := tg_at hse
  have hW9 : World K h z x sg := ⟨own, hW⟩
  have hsq : (0 ≤ s ∧ s ≤ sg.1 6 - 1) → ∃ wb nb, h.2.2 (sp s) = some (true, .inr (16, [.ref wb, vi nb, vi 0])) := fun c => by
    obtain ⟨wb, nb, fb, hb, -⟩ := hss s (by omega) (by omega)
    exact ⟨wb, nb, (tg_at hb.1).1⟩
  have hcg0 : ∀ s9, s9 ≠ s → (0 ≤ fr ∧ to ≤ 27) → ∀ q, 0 ≤ q → q < 28 → (sg.2 7 (28 * s9 + q) ≠ 0 ↔ wkOn (sg.2 7) s dy fr (to + 1) (28 * s9 + q) ≠ 0) := fun s9 n9 y9 q q0 q1 => by unfold wkOn; rw [if_neg (by omega)]
  refine mt_ofQ (by decide) (Nat.le_of_ble_eq_true rfl) (fun Q hQ => ?_)
  show MW K yiX1_week d h 0 [some (.ref x), some (vi s), some (vi dy), some (vi fr), some (vi to), none, none] [] Q
  refine mw_wf (fun hwf => ?_)
  have l_hx := hwf _ _ hx
  have l_hso := hwf _ _ hso
  have l_hse := hwf _ _ hse
  refine m_aload_n (y := yiX1_week) dX1_week_0 rfl ?_
  refine j_iload_n (y := yiX1_week) dX1_week_1 rfl ?_
  by_cases c2 : 0 ≤ s ∧ s ≤ sg.1 6 - 1
  · refine m_invV (y := yiX1_week) (rB := (RX1, TX1, 10)) [(vi s)] dX1_week_2 hx rfl q1031 q1033 qs8 q123 q1034 rfl (c_serviceOfA K 3 h s (by omega) hx hso hse hscap hsf (hsq c2) c2) pdX1_serviceOf ⟨Nat.le_of_ble_eq_true rfl, by decide, by omega⟩ (kk_r fun r2 h2 q2 => ?_) kx_r
    obtain ⟨rfl, rfl⟩ := q2
    obtain ⟨wb, nb, fb, hb, hb1, hb2⟩ := hss s (by omega) (by omega)
    obtain ⟨hbt1, hbt2, hbt3⟩ := id hb
    obtain ⟨hbq, hbqz, -⟩ := tg_at hbt1
    obtain ⟨hbw, hbwz, -⟩ := tg_at hbt2
    have hbqo := hR0.own hbt1
    have hbwo := hR0.own hbt2
    have hb9 : BsA K h (sp s) wb nb 1 fb := ⟨hbq, hbw, hbt3⟩
    have hbq : h.2.2 (sp s) = some (true, .inr (16, [(.ref wb), (vi nb), (vi 0)])) := hbq
    have l_hbq := hwf _ _ hbq
    have hbw : h.2.2 wb = some (true, laE K 1 fb) := hbw
    have l_hbw := hwf _ _ hbw
    refine m_astore (y := yiX1_week) dX1_week_5 (by decide) rfl ?_
    show MW K yiX1_week d h 7 [some (.ref x), some (vi s), some (vi dy), some (vi fr), some (vi to), some (.ref (sp s)), none] [] Q
    refine j_iload_n (y := yiX1_week) dX1_week_7 rfl ?_
    refine j_iconst (y := yiX1_week) dX1_week_8 ?_
    refine j_bipush (y := yiX1_week) dX1_week_9 (by decide) ?_
    refine m_invS (y := yiX1_week) [(vi dy), (vi 0), (vi 127)] dX1_week_11 q850 q851 q123 q852 (c_X1_isBetween K 0 h dy 0 127 ⟨by omega, by omega⟩ ⟨by omega, by omega⟩ ⟨by omega, by omega⟩) pdX1_isBetween ⟨Nat.le_of_ble_eq_true rfl, by decide, by omega⟩ (kk_z fun r11 h11 q11 => ?_) kx_z
    obtain ⟨rfl, rfl⟩ := q11
    refine mw_top (x' := bz (0 ≤ dy ∧ dy ≤ 127)) rfl ?_
    refine j_bz_eq (y := yiX1_week) 42 dX1_week_14 (by decide) (fun c14 => ?_) (fun c14 => ?_)
    · refine j_iconst (y := yiX1_week) dX1_week_42 ?_
      refine m_invS (y := yiX1_week) [(vi 0)] dX1_week_43 q853 q854 q123 q855 (c_X1_require_0 K 6 h (by omega) ⟨by omega, by omega⟩) pdX1_require ⟨Nat.le_of_ble_eq_true rfl, by decide, by omega⟩ kk_t (kx_t fun q43 h43 x43 => ?_)
      subst hQ; exact mx_ret rfl (Or.inr ⟨1, RJ12, q43, rfl, rfl, fun _ => Or.inr (Or.inl ⟨c2, by omega, rfl, QFr.th x43 ⟨by omega, by omega⟩ ⟨by omega, by omega⟩ (fun _ _ => rfl)⟩)⟩)
    · refine j_iload_n (y := yiX1_week) dX1_week_17 rfl ?_
      refine m_invS (y := yiX1_week) [(vi fr)] dX1_week_18 q1049 q1050 q123 q1051 (c_X1_isDay K 1 h fr (by omega) ⟨by omega, by omega⟩) pdX1_isDay ⟨Nat.le_of_ble_eq_true rfl, by decide, by omega⟩ (kk_z fun r18 h18 q18 => ?_) kx_z
      obtain ⟨rfl, rfl⟩ := q18
      refine mw_top (x' := bz (0 ≤ fr ∧ fr ≤ 27)) rfl ?_
      refine j_bz_eq (y := yiX1_week) 42 dX1_week_21 (by decide) (fun c21 => ?_) (fun c21 => ?_)
      · refine j_iconst (y := yiX1_week) dX1_week_42 ?_
        refine m_invS (y := yiX1_week) [(vi 0)] dX1_week_43 q853 q854 q123 q855 (c_X1_require_0 K 6 h (by omega) ⟨by omega, by omega⟩) pdX1_require ⟨Nat.le_of_ble_eq_true rfl, by decide, by omega⟩ kk_t (kx_t fun q43 h43 x43 => ?_)
        subst hQ; exact mx_ret rfl (Or.inr ⟨1, RJ12, q43, rfl, rfl, fun _ => Or.inr (Or.inl ⟨c2, by omega, rfl, QFr.th x43 ⟨by omega, by omega⟩ ⟨by omega, by omega⟩ (fun _ _ => rfl)⟩)⟩)
      · refine j_iload (y := yiX1_week) dX1_week_24 rfl ?_
        refine m_invS (y := yiX1_week) [(vi to)] dX1_week_26 q1049 q1050 q123 q1051 (c_X1_isDay K 1 h to (by omega) ⟨by omega, by omega⟩) pdX1_isDay ⟨Nat.le_of_ble_eq_true rfl, by decide, by omega⟩ (kk_z fun r26 h26 q26 => ?_) kx_z
        obtain ⟨rfl, rfl⟩ := q26
        refine mw_top (x' := bz (0 ≤ to ∧ to ≤ 27)) rfl ?_
        refine j_bz_eq (y := yiX1_week) 42 dX1_week_29 (by decide) (fun c29 => ?_) (fun c29 => ?_)
        · refine j_iconst (y := yiX1_week) dX1_week_42 ?_
          refine m_invS (y := yiX1_week) [(vi 0)] dX1_week_43 q853 q854 q123 q855 (c_X1_require_0 K 6 h (by omega) ⟨by omega, by omega⟩) pdX1_require ⟨Nat.le_of_ble_eq_true rfl, by decide, by omega⟩ kk_t (kx_t fun q43 h43 x43 => ?_)
          subst hQ; exact mx_ret rfl (Or.inr ⟨1, RJ12, q43, rfl, rfl, fun _ => Or.inr (Or.inl ⟨c2, by omega, rfl, QFr.th x43 ⟨by omega, by omega⟩ ⟨by omega, by omega⟩ (fun _ _ => rfl)⟩)⟩)
        · refine j_iload_n (y := yiX1_week) dX1_week_32 rfl ?_
          refine j_iload (y := yiX1_week) dX1_week_33 rfl ?_
          refine j_icmp_gt (y := yiX1_week) 42 dX1_week_35 (by decide) ⟨⟨by omega, by omega⟩, ⟨by omega, by omega⟩⟩ (fun c35 => ?_) (fun c35 => ?_)
          · refine j_iconst (y := yiX1_week) dX1_week_42 ?_
            refine m_invS (y := yiX1_week) [(vi 0)] dX1_week_43 q853 q854 q123 q855 (c_X1_require_0 K 6 h (by omega) ⟨by omega, by omega⟩) pdX1_require ⟨Nat.le_of_ble_eq_true rfl, by decide, by omega⟩ kk_t (kx_t fun q43 h43 x43 => ?_)
            subst hQ; exact mx_ret rfl (Or.inr ⟨1, RJ12, q43, rfl, rfl, fun _ => Or.inr (Or.inl ⟨c2, by omega, rfl, QFr.th x43 ⟨by omega, by omega⟩ ⟨by omega, by omega⟩ (fun _ _ => rfl)⟩)⟩)
          · refine j_iconst (y := yiX1_week) dX1_week_38 ?_
            refine m_goto (y := yiX1_week) 43 dX1_week_39 (by decide) ?_
            refine m_invS (y := yiX1_week) [(vi 1)] dX1_week_43 q853 q854 q123 q855 (c_X1_require_1 K 0 h) pdX1_require ⟨Nat.le_of_ble_eq_true rfl, by decide, by omega⟩ (kk_v fun h43 q43 => ?_) kx_v
            obtain rfl := q43
            have hcg := fun s9 n9 => hcg0 s9 n9 ⟨by omega, by omega⟩
            have fJ : ∀ b, (b ≠ sp s ∧ b ≠ wb) → h.2.2 b = h.2.2 b := fun _ _ => rfl
            refine j_iload_n (y := yiX1_week) dX1_week_46 rfl ?_
            refine j_istore (y := yiX1_week) [some (.ref x), some (vi s), some (vi dy), some (vi fr), some (vi to), some (.ref (sp s)), some (vi fr)] dX1_week_47 (by decide) rfl rfl ?_
            have L49 : ∀ (N : Nat) (y n : Int) (f : Int → Int64) (g : MH), (to + 1 - y).toNat = N → (g.2.2 (sp s) = some (true, .inr (16, [(.ref wb), (vi n), (vi 0)]))) → (g.2.2 wb = some (true, laE K 1 f)) → (∀ b, (b ≠ sp s ∧ b ≠ wb) → g.2.2 b = h.2.2 b) → (fr ≤ y ∧ y ≤ to + 1) → (BsA K g (sp s) wb n 1 f) → (∀ j, 0 ≤ j → j < 28 → (inB f j ↔ wkOn (sg.2 7) s dy fr y (28 * s + j) ≠ 0)) → (∀ j, 28 ≤ j → ¬ inB f j) → (g.1 = h.1 ∧ g.2.1 = h.2.1) → MW K yiX1_week d g 49 [some (.ref x), some (vi s), some (vi dy), some (vi fr), some (vi to), some (.ref (sp s)), some (vi y)] [] Q := by
              intro N
              induction N using Nat.strongRecOn with
              | _ N ih49 =>
              intro y n f g hN49 hbq hbw fJ hy hB hin hno hg
              refine mw_wf (fun hwf49 => ?_)
              have l_hbq49 := hwf49 _ _ hbq
              have l_hbw49 := hwf49 _ _ hbw
              refine j_iload (y := yiX1_week) dX1_week_49 rfl ?_
              refine j_iload (y := yiX1_week) dX1_week_51 rfl ?_
              refine j_icmp_gt (y := yiX1_week) 82 dX1_week_53 (by decide) ⟨⟨by omega, by omega⟩, ⟨by omega, by omega⟩⟩ (fun c53 => ?_) (fun c53 => ?_)
              · refine m_aload (y := yiX1_week) dX1_week_82 rfl ?_
                refine m_invV (y := yiX1_week) (rB := (RJ18, TJ18, 3)) [] dX1_week_84 hbq rfl q1073 q1074 q1075 q143 q1076 rfl (c_J18_cardinality K 1 g (sp s) wb n 1 f (by omega) hB hno) pdJ18_cardinality ⟨Nat.le_of_ble_eq_true rfl, by decide, by omega⟩ (kk_z fun r84 h84 q84 => ?_) kx_z
                obtain ⟨rfl, rfl⟩ := q84
                refine mw_top (x' := cB (inB f) 28) rfl ?_
                have ey : y = to + 1 := by omega
                have eJ : ∀ b, b < z → own b ≠ 100 + s.toNat → g.2.2 b = h.2.2 b := fun b hb hn => fJ b ⟨fun e9 => hn (by rw [e9]; exact hbqo), fun e9 => hn (by rw [e9]; exact hbwo)⟩
                have hz9 : z ≤ g.1 := by omega
                have U := upO (j := 100 + s.toNat) (by omega) hz9 eJ
                have tm : ∀ q c, q < z → own q = 100 + s.toNat → g.2.2 q = some c → (tg (ownJ own z (100 + s.toNat)) g.1 (100 + s.toNat) g).2.2 q = some c := fun q c l1 l2 l3 => tg_mk l3 (by omega) (Or.inl ((if_pos l1).trans l2))
                have hnew : SvA K (tg (ownJ own z (100 + s.toNat)) g.1 (100 + s.toNat) g) (wkOn (sg.2 7) s dy fr (to + 1)) s (sp s) := ⟨wb, n, f, ⟨tm _ _ hbqz hbqo hB.1, tm _ _ hbwz hbwo hB.2.1, hB.2.2⟩, fun q q0 q1 => by { rw [← ey]; exact hin q q0 q1 }, hno⟩
                subst hQ; exact j_wret (y := yiX1_week) dX1_week_87 rfl (Or.inr (Or.inr ⟨c2, by omega, rfl, ⟨ownJ own z (100 + s.toNat), fun b hb => if_pos hb, ⟨e0, cc, ch, wk, sv, tr, lt, ws, tx, se, te, we, kp, sp, tp, wp, T, hKt, (by rw [U 0 (by omega)]; exact hEt), (by rw [U 0 (by omega)]; exact hIt), (by rw [U 1 (by omega)]; exact hxt), (by rw [U 2 (by omega)]; exact hcht), (by rw [U 3 (by omega)]; exact hwkt), ⟨by rw [U 4 (by omega)]; exact hsvt.1, fun s9 a b => by { by_cases e9 : s9 = s; { rw [e9]; exact hnew }; { rw [U (100 + s9.toNat) (by omega)]; exact (hsvt.2 s9 a b).cg (hcg s9 e9) } }⟩, ⟨by rw [U 5 (by omega)]; exact htrt.1, fun t a b => by rw [U (200 + t.toNat) (by have b9 : t < sg.1 8 := b; omega)]; exact htrt.2 t a b⟩, (by rw [U 6 (by omega)]; exact hltt), ⟨by rw [U 7 (by omega)]; exact hwst.1, fun w a b => by rw [U 7 (by omega)]; exact hwst.2 w a b⟩, (by rw [U 8 (by omega)]; exact htxt), (by rw [U 9 (by omega)]; exact hkpt), hR0.up (J := fun q => q = 100 + s.toNat) (fun b hb => if_pos hb) (fun b hb => if_neg (by omega)) (by omega) eJ⟩, fun b hb h10 => eJ b hb (by omega), by omega, by omega⟩, (by rw [← ey]; exact cB_dcnt 28 (Nat.le_refl _) hin)⟩))
              · refine j_iload_n (y := yiX1_week) dX1_week_56 rfl ?_
                refine j_iload (y := yiX1_week) dX1_week_57 rfl ?_
                refine j_bipush (y := yiX1_week) dX1_week_59 (by decide) ?_
                refine j_irem (y := yiX1_week) dX1_week_61 ⟨⟨by omega, by omega⟩, ⟨by omega, by omega⟩⟩ ⟨by omega, by omega⟩ ?_
                refine j_ishr (y := yiX1_week) dX1_week_62 ⟨by omega, by omega⟩ ⟨by omega, by omega⟩ ?_
                refine j_iconst (y := yiX1_week) dX1_week_63 ?_
                refine j_iand1 (y := yiX1_week) dX1_week_64 ?_
                refine j_iconst (y := yiX1_week) dX1_week_65 ?_
                refine j_icmp_ne (y := yiX1_week) 76 dX1_week_66 (by decide) ⟨⟨by omega, by omega⟩, ⟨by omega, by omega⟩⟩ (fun c66 => ?_) (fun c66 => ?_)
                · refine j_iinc (y := yiX1_week) [some (.ref x), some (vi s), some (vi dy), some (vi fr), some (vi to), some (.ref (sp s)), some (vi (y + 1))] dX1_week_76 rfl (by decide) rfl rfl ?_
                  refine m_goto (y := yiX1_week) 49 dX1_week_79 (by decide) ?_
                  exact ih49 _ (by omega) _ _ _ _ rfl hbq hbw fJ (by omega) hB (fun j j0 j1 => by rw [← wkOn_n c66]; exact hin j j0 j1) hno (⟨by omega, by omega⟩)
                · refine m_aload (y := yiX1_week) dX1_week_69 rfl ?_
                  refine j_iload (y := yiX1_week) dX1_week_71 rfl ?_
                  refine m_invV (y := yiX1_week) (rB := (RJ18, TJ18, 3)) [(vi y)] dX1_week_73 hbq rfl q1052 q1053 q1054 q143 q1055 rfl (c_J18_set_1 K 4 g (sp s) wb n y 1 f (by omega) k8 hB (by omega)) pdJ18_set ⟨Nat.le_of_ble_eq_true rfl, by decide, by omega⟩ (kk_v fun h73 q73 => ?_) kx_v
                  obtain ⟨n2, f2, hB2, hj2, y73, z73, f73⟩ := q73
                  have u73 := hB2.1
                  have v73 := hB2.2.1
                  have hi73 : ∀ j, 0 ≤ j → j < 28 → (inB f2 j ↔ wkOn (sg.2 7) s dy fr (y + 1) (28 * s + j) ≠ 0) := fun j j0 j1 => (hj2 j j0).trans (by { rw [← wkOn_y (by omega) c66]; by_cases e9 : j = y; { rw [e9, upz_at]; exact ⟨fun _ => by decide, fun _ => Or.inl rfl⟩ }; { rw [upz_ne (by omega)]; exact ⟨fun h9 => (hin j j0 j1).mp (h9.resolve_left e9), fun h9 => Or.inr ((hin j j0 j1).mpr h9)⟩ } })
                  have hn73 : ∀ j, 28 ≤ j → ¬ inB f2 j := fun j j0 h9 => by { rcases (hj2 j (by omega)).mp h9 with h8 | h8; { omega }; { exact hno j j0 h8 } }
                  have fJ : ∀ b, (b ≠ sp s ∧ b ≠ wb) → h73.2.2 b = h.2.2 b := fun b hb => (f73 b (by omega)).trans (fJ b hb)
                  refine mw_wf (fun hwf73 => ?_)
                  have l_u7373 := hwf73 _ _ u73
                  have l_v7373 := hwf73 _ _ v73
                  refine j_iinc (y := yiX1_week) [some (.ref x), some (vi s), some (vi dy), some (vi fr), some (vi to), some (.ref (sp s)), some (vi (y + 1))] dX1_week_76 rfl (by decide) rfl rfl ?_
                  refine m_goto (y := yiX1_week) 49 dX1_week_79 (by decide) ?_
                  exact ih49 _ (by omega) _ _ _ _ rfl u73 v73 fJ (by omega) hB2 hi73 hn73 (⟨by omega, by omega⟩)
            exact L49 _ fr nb fb _ rfl hbq hbw fJ (by omega) hb9 (fun j j0 j1 => by rw [← wkOn_0]; exact hb1 j j0 j1) hb2 (⟨by omega, by omega⟩)
  · refine m_invV (y := yiX1_week) (rB := (RX1, TX1, 10)) [(vi s)] dX1_week_2 hx rfl q1031 q1033 qs8 q123 q1034 rfl (c_serviceOf_0 K 7 h z x sg s (by omega) hT hW9 i1 c2 ⟨by omega, by omega⟩) pdX1_serviceOf ⟨Nat.le_of_ble_eq_true rfl, by decide, by omega⟩ kk_t (kx_t fun q2 h2 x2 => ?_)
    subst hQ; exact mx_ret rfl (Or.inr ⟨0, RJ14, q2, rfl, rfl, fun _ => Or.inl ⟨c2, rfl, QFr.th x2 ⟨by omega, by omega⟩ ⟨by omega, by omega⟩ (fun _ _ => rfl)⟩⟩)
end SVC
