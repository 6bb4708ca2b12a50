/-! Lastbus: what is asked, walks, runs; earliest, wall -/
theorem flQ_out {n : Int} {told : Int → Int} {cut q : Int} (hn : 0 ≤ n ∧ n ≤ 12) (hq : ¬ insQ n q) : flQ n told cut q = 0 := by
  unfold flQ
  rw [(fwK_at hn (g := wini n told cut n 0 (fun _ => 0)) (fun _ _ => rfl) n.toNat (by omega)).2 q hq]
  unfold wini
  rw [if_neg]
  unfold insQ at hq
  omega
theorem WayA.of {K : KT} {h : MH} {wy : Nat} {W : Int → Int → Int} {sg : TS} {told : Int → Int} {cut : Int} (hn : 0 ≤ sg.1 1 ∧ sg.1 1 ≤ 12) (ht : okA 3 told) (hw : ∀ a b, 0 ≤ a → a < sg.1 1 → 0 ≤ b → b < sg.1 1 → sg.2 4 (12 * a + b) = flQ (sg.1 1) told cut (12 * a + b)) (hy : WyC K h wy W) (hr : rlG W (flQ (sg.1 1) told cut)) : WayA K h wy W sg := by
  refine ⟨hy, fun i j a b c d => ?_, fun i j a b c d => ?_⟩
  · rw [hr i j a (by omega) c (by omega), hw i j a b c d]
  · rw [hr i j a b c d]
    by_cases e : i < sg.1 1 ∧ j < sg.1 1
    · have := (flQ_d (cut := cut) hn ht).1 i j a e.1 c e.2
      omega
    · rw [flQ_out hn (by unfold insQ; omega)]; omega
section ASK
variable {K : KT} {d : Nat} {h : MH} {x ch wk sv tr lt ws tx : Nat} {n fl : Int} {kp : Value}
theorem c_reqAsked (fr to day mi : Int) (hd : 2 ≤ d) (hx : h.2.2 x = some (true, .inr (0, [.ref ch, .ref wk, vi n, .ref sv, .ref tr, .ref lt, .ref ws, .ref tx, vi fl, kp]))) (hn : 0 ≤ n ∧ n ≤ 12) (i1 : In fr) (i2 : In to) (i3 : In day) (i4 : In mi) (h1 : (0 ≤ fr ∧ fr ≤ n - 1) ∧ 0 ≤ to ∧ to ≤ n - 1) (h2 : (0 ≤ day ∧ day ≤ 27) ∧ 0 ≤ mi ∧ mi ≤ 1439) : Mt K yiX1_requireAsked d [.ref x, vi fr, vi to, vi day, vi mi] h (Rv fun h' => h = h') := by
  have := i1.1; have := i1.2; have := i2.1; have := i2.2; have := i3.1; have := i3.2; have := i4.1; have := i4.2
  refine mt_ofQ (by decide) (Nat.le_of_ble_eq_true rfl) (fun Q hQ => ?_)
  show MW K yiX1_requireAsked d h 0 [some (.ref x), some (vi fr), some (vi to), some (vi day), some (vi mi)] [] Q
  refine mw_wf (fun hwf => ?_)
  have l_hx := hwf _ _ hx
  refine m_aload_n (y := yiX1_requireAsked) dX1_requireAsked_0 rfl ?_
  refine j_iload_n (y := yiX1_requireAsked) dX1_requireAsked_1 rfl ?_
  refine m_invV (y := yiX1_requireAsked) (rB := (RX1, TX1, 10)) [(vi fr)] dX1_requireAsked_2 hx rfl q889 q891 qs2 q123 q892 rfl (c_X1_isStop (d := 1) fr (by omega) hx ⟨by omega, by omega⟩ ⟨by omega, by omega⟩) pdX1_isStop ⟨Nat.le_of_ble_eq_true rfl, by decide, by omega⟩ (kk_z fun r2 h2 q2 => ?_) kx_z
  obtain ⟨rfl, rfl⟩ := q2
  refine mw_top (x' := bz (0 ≤ fr ∧ fr ≤ n - 1)) rfl ?_
  refine j_bz_eq (y := yiX1_requireAsked) 20 dX1_requireAsked_5 (by decide) (fun c5 => ?_) (fun c5 => ?_)
  · exfalso; omega
  · refine m_aload_n (y := yiX1_requireAsked) dX1_requireAsked_8 rfl ?_
    refine j_iload_n (y := yiX1_requireAsked) dX1_requireAsked_9 rfl ?_
    refine m_invV (y := yiX1_requireAsked) (rB := (RX1, TX1, 10)) [(vi to)] dX1_requireAsked_10 hx rfl q889 q891 qs2 q123 q892 rfl (c_X1_isStop (d := 1) to (by omega) hx ⟨by omega, by omega⟩ ⟨by omega, by omega⟩) pdX1_isStop ⟨Nat.le_of_ble_eq_true rfl, by decide, by omega⟩ (kk_z fun r10 h10 q10 => ?_) kx_z
    obtain ⟨rfl, rfl⟩ := q10
    refine mw_top (x' := bz (0 ≤ to ∧ to ≤ n - 1)) rfl ?_
    refine j_bz_eq (y := yiX1_requireAsked) 20 dX1_requireAsked_13 (by decide) (fun c13 => ?_) (fun c13 => ?_)
    · exfalso; omega
    · refine j_iconst (y := yiX1_requireAsked) dX1_requireAsked_16 ?_
      refine m_goto (y := yiX1_requireAsked) 21 dX1_requireAsked_17 (by decide) ?_
      refine m_invS (y := yiX1_requireAsked) [(vi 1)] dX1_requireAsked_21 q893 q894 q123 q895 (c_X1_requireIndex_1 K 0 h) pdX1_requireIndex ⟨Nat.le_of_ble_eq_true rfl, by decide, by omega⟩ (kk_v fun h21 q21 => ?_) kx_v
      obtain rfl := q21
      refine j_iload_n (y := yiX1_requireAsked) dX1_requireAsked_24 rfl ?_
      refine m_invS (y := yiX1_requireAsked) [(vi day)] dX1_requireAsked_25 q1049 q1050 q123 q1051 (c_X1_isDay K 1 h day (by omega) ⟨by omega, by omega⟩) pdX1_isDay ⟨Nat.le_of_ble_eq_true rfl, by decide, by omega⟩ (kk_z fun r25 h25 q25 => ?_) kx_z
      obtain ⟨rfl, rfl⟩ := q25
      refine mw_top (x' := bz (0 ≤ day ∧ day ≤ 27)) rfl ?_
      refine j_bz_eq (y := yiX1_requireAsked) 47 dX1_requireAsked_28 (by decide) (fun c28 => ?_) (fun c28 => ?_)
      · exfalso; omega
      · refine j_iload (y := yiX1_requireAsked) dX1_requireAsked_31 rfl ?_
        refine j_iconst (y := yiX1_requireAsked) dX1_requireAsked_33 ?_
        refine j_sipush (y := yiX1_requireAsked) dX1_requireAsked_34 (by decide) ?_
        refine m_invS (y := yiX1_requireAsked) [(vi mi), (vi 0), (vi 1439)] dX1_requireAsked_37 q850 q851 q123 q852 (c_X1_isBetween K 0 h mi 0 1439 ⟨by omega, by omega⟩ ⟨by omega, by omega⟩ ⟨by omega, by omega⟩) pdX1_isBetween ⟨Nat.le_of_ble_eq_true rfl, by decide, by omega⟩ (kk_z fun r37 h37 q37 => ?_) kx_z
        obtain ⟨rfl, rfl⟩ := q37
        refine mw_top (x' := bz (0 ≤ mi ∧ mi ≤ 1439)) rfl ?_
        refine j_bz_eq (y := yiX1_requireAsked) 47 dX1_requireAsked_40 (by decide) (fun c40 => ?_) (fun c40 => ?_)
        · exfalso; omega
        · refine j_iconst (y := yiX1_requireAsked) dX1_requireAsked_43 ?_
          refine m_goto (y := yiX1_requireAsked) 48 dX1_requireAsked_44 (by decide) ?_
          refine m_invS (y := yiX1_requireAsked) [(vi 1)] dX1_requireAsked_48 q853 q854 q123 q855 (c_X1_require_1 K 0 h) pdX1_require ⟨Nat.le_of_ble_eq_true rfl, by decide, by omega⟩ (kk_v fun h48 q48 => ?_) kx_v
          obtain rfl := q48
          subst hQ; exact j_vret (y := yiX1_requireAsked) dX1_requireAsked_51 rfl rfl
theorem c_reqAsked_1 (fr to day mi : Int) (hd : 8 ≤ d) (hx : h.2.2 x = some (true, .inr (0, [.ref ch, .ref wk, vi n, .ref sv, .ref tr, .ref lt, .ref ws, .ref tx, vi fl, kp]))) (hn : 0 ≤ n ∧ n ≤ 12) (i1 : In fr) (i2 : In to) (h1 : ¬ ((0 ≤ fr ∧ fr ≤ n - 1) ∧ 0 ≤ to ∧ to ≤ n - 1)) (hz : h.1 + 1 ≤ kC K ∧ h.2.1 + 6 ≤ kS K) : Mt K yiX1_requireAsked d [.ref x, vi fr, vi to, vi day, vi mi] h (Rt RJ14 (ThH h)) := by
  have := i1.1; have := i1.2; have := i2.1; have := i2.2
  refine mt_ofQ (by decide) (Nat.le_of_ble_eq_true rfl) (fun Q hQ => ?_)
  show MW K yiX1_requireAsked d h 0 [some (.ref x), some (vi fr), some (vi to), some (vi day), some (vi mi)] [] Q
  refine mw_wf (fun hwf => ?_)
  have l_hx := hwf _ _ hx
  refine m_aload_n (y := yiX1_requireAsked) dX1_requireAsked_0 rfl ?_
  refine j_iload_n (y := yiX1_requireAsked) dX1_requireAsked_1 rfl ?_
  refine m_invV (y := yiX1_requireAsked) (rB := (RX1, TX1, 10)) [(vi fr)] dX1_requireAsked_2 hx rfl q889 q891 qs2 q123 q892 rfl (c_X1_isStop (d := 1) fr (by omega) hx ⟨by omega, by omega⟩ ⟨by omega, by omega⟩) pdX1_isStop ⟨Nat.le_of_ble_eq_true rfl, by decide, by omega⟩ (kk_z fun r2 h2 q2 => ?_) kx_z
  obtain ⟨rfl, rfl⟩ := q2
  refine mw_top (x' := bz (0 ≤ fr ∧ fr ≤ n - 1)) rfl ?_
  refine j_bz_eq (y := yiX1_requireAsked) 20 dX1_requireAsked_5 (by decide) (fun c5 => ?_) (fun c5 => ?_)
  · refine j_iconst (y := yiX1_requireAsked) dX1_requireAsked_20 ?_
    refine m_invS (y := yiX1_requireAsked) [(vi 0)] dX1_requireAsked_21 q893 q894 q123 q895 (c_X1_requireIndex_0 K 6 h (by omega) ⟨by omega, by omega⟩) pdX1_requireIndex ⟨Nat.le_of_ble_eq_true rfl, by decide, by omega⟩ kk_t (kx_t fun q21 h21 x21 => ?_)
    subst hQ; exact mx_ret rfl (⟨q21, rfl, x21⟩)
  · refine m_aload_n (y := yiX1_requireAsked) dX1_requireAsked_8 rfl ?_
    refine j_iload_n (y := yiX1_requireAsked) dX1_requireAsked_9 rfl ?_
    refine m_invV (y := yiX1_requireAsked) (rB := (RX1, TX1, 10)) [(vi to)] dX1_requireAsked_10 hx rfl q889 q891 qs2 q123 q892 rfl (c_X1_isStop (d := 1) to (by omega) hx ⟨by omega, by omega⟩ ⟨by omega, by omega⟩) pdX1_isStop ⟨Nat.le_of_ble_eq_true rfl, by decide, by omega⟩ (kk_z fun r10 h10 q10 => ?_) kx_z
    obtain ⟨rfl, rfl⟩ := q10
    refine mw_top (x' := bz (0 ≤ to ∧ to ≤ n - 1)) rfl ?_
    refine j_bz_eq (y := yiX1_requireAsked) 20 dX1_requireAsked_13 (by decide) (fun c13 => ?_) (fun c13 => ?_)
    · refine j_iconst (y := yiX1_requireAsked) dX1_requireAsked_20 ?_
      refine m_invS (y := yiX1_requireAsked) [(vi 0)] dX1_requireAsked_21 q893 q894 q123 q895 (c_X1_requireIndex_0 K 6 h (by omega) ⟨by omega, by omega⟩) pdX1_requireIndex ⟨Nat.le_of_ble_eq_true rfl, by decide, by omega⟩ kk_t (kx_t fun q21 h21 x21 => ?_)
      subst hQ; exact mx_ret rfl (⟨q21, rfl, x21⟩)
    · refine j_iconst (y := yiX1_requireAsked) dX1_requireAsked_16 ?_
      refine m_goto (y := yiX1_requireAsked) 21 dX1_requireAsked_17 (by decide) ?_
      refine m_invS (y := yiX1_requireAsked) [(vi 1)] dX1_requireAsked_21 q893 q894 q123 q895 (c_X1_requireIndex_1 K 0 h) pdX1_requireIndex ⟨Nat.le_of_ble_eq_true rfl, by decide, by omega⟩ (kk_v fun h21 q21 => ?_) kx_v
      obtain rfl := q21
      exfalso; omega
theorem c_reqAsked_2 (fr to day mi : Int) (hd : 8 ≤ d) (hx : h.2.2 x = some (true, .inr (0, [.ref ch, .ref wk, vi n, .ref sv, .ref tr, .ref lt, .ref ws, .ref tx, vi fl, kp]))) (hn : 0 ≤ n ∧ n ≤ 12) (i1 : In fr) (i2 : In to) (i3 : In day) (i4 : In mi) (h1 : (0 ≤ fr ∧ fr ≤ n - 1) ∧ 0 ≤ to ∧ to ≤ n - 1) (h2 : ¬ ((0 ≤ day ∧ day ≤ 27) ∧ 0 ≤ mi ∧ mi ≤ 1439)) (hz : h.1 + 1 ≤ kC K ∧ h.2.1 + 6 ≤ kS K) : Mt K yiX1_requireAsked d [.ref x, vi fr, vi to, vi day, vi mi] h (Rt RJ12 (ThH h)) := by
  have := i1.1; have := i1.2; have := i2.1; have := i2.2; have := i3.1; have := i3.2; have := i4.1; have := i4.2
  refine mt_ofQ (by decide) (Nat.le_of_ble_eq_true rfl) (fun Q hQ => ?_)
  show MW K yiX1_requireAsked d h 0 [some (.ref x), some (vi fr), some (vi to), some (vi day), some (vi mi)] [] Q
  refine mw_wf (fun hwf => ?_)
  have l_hx := hwf _ _ hx
  refine m_aload_n (y := yiX1_requireAsked) dX1_requireAsked_0 rfl ?_
  refine j_iload_n (y := yiX1_requireAsked) dX1_requireAsked_1 rfl ?_
  refine m_invV (y := yiX1_requireAsked) (rB := (RX1, TX1, 10)) [(vi fr)] dX1_requireAsked_2 hx rfl q889 q891 qs2 q123 q892 rfl (c_X1_isStop (d := 1) fr (by omega) hx ⟨by omega, by omega⟩ ⟨by omega, by omega⟩) pdX1_isStop ⟨Nat.le_of_ble_eq_true rfl, by decide, by omega⟩ (kk_z fun r2 h2 q2 => ?_) kx_z
  obtain ⟨rfl, rfl⟩ := q2
  refine mw_top (x' := bz (0 ≤ fr ∧ fr ≤ n - 1)) rfl ?_
  refine j_bz_eq (y := yiX1_requireAsked) 20 dX1_requireAsked_5 (by decide) (fun c5 => ?_) (fun c5 => ?_)
  · exfalso; omega
  · refine m_aload_n (y := yiX1_requireAsked) dX1_requireAsked_8 rfl ?_
    refine j_iload_n (y := yiX1_requireAsked) dX1_requireAsked_9 rfl ?_
    refine m_invV (y := yiX1_requireAsked) (rB := (RX1, TX1, 10)) [(vi to)] dX1_requireAsked_10 hx rfl q889 q891 qs2 q123 q892 rfl (c_X1_isStop (d := 1) to (by omega) hx ⟨by omega, by omega⟩ ⟨by omega, by omega⟩) pdX1_isStop ⟨Nat.le_of_ble_eq_true rfl, by decide, by omega⟩ (kk_z fun r10 h10 q10 => ?_) kx_z
    obtain ⟨rfl, rfl⟩ := q10
    refine mw_top (x' := bz (0 ≤ to ∧ to ≤ n - 1)) rfl ?_
    refine j_bz_eq (y := yiX1_requireAsked) 20 dX1_requireAsked_13 (by decide) (fun c13 => ?_) (fun c13 => ?_)
    · exfalso; omega
    · refine j_iconst (y := yiX1_requireAsked) dX1_requireAsked_16 ?_
      refine m_goto (y := yiX1_requireAsked) 21 dX1_requireAsked_17 (by decide) ?_
      refine m_invS (y := yiX1_requireAsked) [(vi 1)] dX1_requireAsked_21 q893 q894 q123 q895 (c_X1_requireIndex_1 K 0 h) pdX1_requireIndex ⟨Nat.le_of_ble_eq_true rfl, by decide, by omega⟩ (kk_v fun h21 q21 => ?_) kx_v
      obtain rfl := q21
      refine j_iload_n (y := yiX1_requireAsked) dX1_requireAsked_24 rfl ?_
      refine m_invS (y := yiX1_requireAsked) [(vi day)] dX1_requireAsked_25 q1049 q1050 q123 q1051 (c_X1_isDay K 1 h day (by omega) ⟨by omega, by omega⟩) pdX1_isDay ⟨Nat.le_of_ble_eq_true rfl, by decide, by omega⟩ (kk_z fun r25 h25 q25 => ?_) kx_z
      obtain ⟨rfl, rfl⟩ := q25
      refine mw_top (x' := bz (0 ≤ day ∧ day ≤ 27)) rfl ?_
      refine j_bz_eq (y := yiX1_requireAsked) 47 dX1_requireAsked_28 (by decide) (fun c28 => ?_) (fun c28 => ?_)
      · refine j_iconst (y := yiX1_requireAsked) dX1_requireAsked_47 ?_
        refine m_invS (y := yiX1_requireAsked) [(vi 0)] dX1_requireAsked_48 q853 q854 q123 q855 (c_X1_require_0 K 6 h (by omega) ⟨by omega, by omega⟩) pdX1_require ⟨Nat.le_of_ble_eq_true rfl, by decide, by omega⟩ kk_t (kx_t fun q48 h48 x48 => ?_)
        subst hQ; exact mx_ret rfl (⟨q48, rfl, x48⟩)
      · refine j_iload (y := yiX1_requireAsked) dX1_requireAsked_31 rfl ?_
        refine j_iconst (y := yiX1_requireAsked) dX1_requireAsked_33 ?_
        refine j_sipush (y := yiX1_requireAsked) dX1_requireAsked_34 (by decide) ?_
        refine m_invS (y := yiX1_requireAsked) [(vi mi), (vi 0), (vi 1439)] dX1_requireAsked_37 q850 q851 q123 q852 (c_X1_isBetween K 0 h mi 0 1439 ⟨by omega, by omega⟩ ⟨by omega, by omega⟩ ⟨by omega, by omega⟩) pdX1_isBetween ⟨Nat.le_of_ble_eq_true rfl, by decide, by omega⟩ (kk_z fun r37 h37 q37 => ?_) kx_z
        obtain ⟨rfl, rfl⟩ := q37
        refine mw_top (x' := bz (0 ≤ mi ∧ mi ≤ 1439)) rfl ?_
        refine j_bz_eq (y := yiX1_requireAsked) 47 dX1_requireAsked_40 (by decide) (fun c40 => ?_) (fun c40 => ?_)
        · refine j_iconst (y := yiX1_requireAsked) dX1_requireAsked_47 ?_
          refine m_invS (y := yiX1_requireAsked) [(vi 0)] dX1_requireAsked_48 q853 q854 q123 q855 (c_X1_require_0 K 6 h (by omega) ⟨by omega, by omega⟩) pdX1_require ⟨Nat.le_of_ble_eq_true rfl, by decide, by omega⟩ kk_t (kx_t fun q48 h48 x48 => ?_)
          subst hQ; exact mx_ret rfl (⟨q48, rfl, x48⟩)
        · refine j_iconst (y := yiX1_requireAsked) dX1_requireAsked_43 ?_
          refine m_goto (y := yiX1_requireAsked) 48 dX1_requireAsked_44 (by decide) ?_
          refine m_invS (y := yiX1_requireAsked) [(vi 1)] dX1_requireAsked_48 q853 q854 q123 q855 (c_X1_require_1 K 0 h) pdX1_require ⟨Nat.le_of_ble_eq_true rfl, by decide, by omega⟩ (kk_v fun h48 q48 => ?_) kx_v
          obtain rfl := q48
          exfalso; omega
end ASK
theorem ask1 {n fr to day mi : Int} (h : ¬ ((0 ≤ fr ∧ fr ≤ n - 1) ∧ 0 ≤ to ∧ to ≤ n - 1)) : askT n fr to day mi = 1 := by
  unfold askT
  by_cases e : 0 ≤ fr ∧ fr ≤ n - 1
  · rw [if_neg (fun h9 => h9 e), if_pos (fun h9 => h ⟨e, h9⟩)]
  · rw [if_pos e]
theorem ask2 {n fr to day mi : Int} (h : (0 ≤ fr ∧ fr ≤ n - 1) ∧ 0 ≤ to ∧ to ≤ n - 1) (h2 : ¬ ((0 ≤ day ∧ day ≤ 27) ∧ 0 ≤ mi ∧ mi ≤ 1439)) : askT n fr to day mi = 2 := by
  unfold askT
  rw [if_neg (fun h9 => h9 h.1), if_neg (fun h9 => h9 h.2), if_pos]
  omega
theorem ask3 {n fr to day mi : Int} (h : (0 ≤ fr ∧ fr ≤ n - 1) ∧ 0 ≤ to ∧ to ≤ n - 1) (h2 : (0 ≤ day ∧ day ≤ 27) ∧ 0 ≤ mi ∧ mi ≤ 1439) : askT n fr to day mi = 0 := by
  unfold askT
  rw [if_neg (fun h9 => h9 h.1), if_neg (fun h9 => h9 h.2), if_neg]
  omega
theorem c_X1_runsAbout (K : KT) (d : Nat) (h : MH) (z x : Nat) (sg : TS) (y : Int) (hd : 9 ≤ d) (hT : TB sg) (hC : clOk sg) (hO : svOk sg) (hW : World K h z x sg) (hz1 : z ≤ h.1) (hy : 0 ≤ y ∧ y ≤ 27) (hz : h.1 + 440 ≤ kC K ∧ h.2.1 + 11000 ≤ kS K) : Mt K yiX1_runsAbout d [.ref x, vi y] h (Rr fun r h' => RunsQ K h h' (sd sg y) r) := by
  have hW0 := hW
  obtain ⟨own, e0, cc, ch, wk, sv, tr, lt, ws, tx, se, te, we, kp, sp, tp, wp, T, hK, hE, hI, hx, hch, hwk, hsv, htr, hlt, hws, htx, hkp, hR0⟩ := hW
  obtain ⟨hx, hxz, -⟩ := tg_at hx
  obtain ⟨hch, hchz, -⟩ := tg_at hch
  have hE1 := hE.1
  obtain ⟨hE2, hE2z, -⟩ := tg_at hE.2
  obtain ⟨k0, k1, k3, k4, k5, k8, k9, k10, k11, k12⟩ := hK
  have hwk := And.intro hwk.1.C hwk.2
  refine mt_ofQ (by decide) (Nat.le_of_ble_eq_true rfl) (fun Q hQ => ?_)
  show MW K yiX1_runsAbout d h 0 [some (.ref x), some (vi y)] [] Q
  refine mw_wf (fun hwf => ?_)
  have l_hx := hwf _ _ hx
  refine m_aload_n (y := yiX1_runsAbout) dX1_runsAbout_0 rfl ?_
  refine j_iload_n (y := yiX1_runsAbout) dX1_runsAbout_1 rfl ?_
  refine j_iconst (y := yiX1_runsAbout) dX1_runsAbout_2 ?_
  refine m_null (y := yiX1_runsAbout) dX1_runsAbout_3 ?_
  refine m_invV (y := yiX1_runsAbout) (rB := (RX1, TX1, 10)) [(vi y), (vi (-1)), .null] dX1_runsAbout_4 hx rfl q1873 q1875 qs34 q123 q1876 rfl (c_X1_runsAbout_2N K 8 h z x sg y (by omega) hT hC hO hW0 hz1 hy hz) pdX1_runsAbout_2 ⟨Nat.le_of_ble_eq_true rfl, by decide, by omega⟩ (kk_r fun r4 h4 q4 => ?_) kx_r
  obtain q4 := q4
  refine mw_wf (fun hwf4 => ?_)
  subst hQ; exact m_aret (y := yiX1_runsAbout) (x := (some r4)) dX1_runsAbout_7 rfl (Or.inl ⟨_, rfl⟩) ⟨r4, rfl, q4⟩
/-- runs, rides and walks of a day -/
def DayA (K : KT) (h : MH) (e0 x ch wk sv tr lt ws tx : Nat) (fl : Int) (kp : Value) (sg : TS) (n : Int) (rix : Int → Int) (p : Int → Nat) (ra re wy : Nat) (W : Int → Int → Int) : Prop := WdA K h x ch wk sv tr lt ws tx fl kp sg ∧ WayA K h wy W sg ∧ RunsA K h e0 ra re n sg rix p ∧ E0A K h e0
/-- labels of a scan from stop fr at minute mi, on a day -/
def Scd3 (K : KT) (h h' : MH) (x : Nat) (sg : TS) (fr mi : Int) (r : Nat) : Prop := ∃ (A B R wy : Nat), LbQ K h' x (-1) wy r A B R sg (b0 (sg.2 4) fr mi) (EvI sg (b0 (sg.2 4) fr mi) BG) ∧ (h.1 ≤ h'.1 ∧ h'.1 ≤ h.1 + 700) ∧ (h.2.1 ≤ h'.2.1 ∧ h'.2.1 ≤ h.2.1 + 20000) ∧ ∀ b, b < h.1 → h'.2.2 b = h.2.2 b
theorem c_X1_scanned (K : KT) (d : Nat) (h : MH) (z x : Nat) (sg : TS) (fr day mi : Int) (hd : 15 ≤ d) (hIv : Iv sg) (hW : World K h z x sg) (hz1 : z ≤ h.1) (hy : 0 ≤ day ∧ day ≤ 27) (hf : 0 ≤ fr ∧ fr < sg.1 1) (hmi : 0 ≤ mi ∧ mi ≤ 5000) (hz : h.1 + 720 ≤ kC K ∧ h.2.1 + 20100 ≤ kS K) : Mt K yiX1_scanned d [.ref x, vi fr, vi day, vi mi] h (Rr fun r h' => Scd3 K h h' x (sd sg day) fr mi r) := by
  have hcls := hIv.cls
  obtain ⟨hF, hCl, hO, hWy, hcut, -, -, -⟩ := hIv
  have hFd := hF.sd hy
  have f1b := of1 (hF.1.1 1)
  have hW0 := hW
  obtain ⟨own, e0, cc, ch, wk, sv, tr, lt, ws, tx, se, te, we, kp, sp, tp, wp, T, hK, hE, hI, hx, hch, hwk, hsv, htr, hlt, hws, htx, hkp, hR0⟩ := hW
  obtain ⟨hx, hxz, -⟩ := tg_at hx
  obtain ⟨hch, hchz, -⟩ := tg_at hch
  have hE1 := hE.1
  obtain ⟨hE2, hE2z, -⟩ := tg_at hE.2
  obtain ⟨k0, k1, k3, k4, k5, k8, k9, k10, k11, k12⟩ := hK
  have hwk := And.intro hwk.1.C hwk.2
  refine mt_ofQ (by decide) (Nat.le_of_ble_eq_true rfl) (fun Q hQ => ?_)
  show MW K yiX1_scanned d h 0 [some (.ref x), some (vi fr), some (vi day), some (vi mi)] [] Q
  refine mw_wf (fun hwf => ?_)
  have l_hx := hwf _ _ hx
  have l_hch := hwf _ _ hch
  have fR : ∀ b, (b < h.1) → h.2.2 b = h.2.2 b := fun _ _ => rfl
  refine m_aload_n (y := yiX1_scanned) dX1_scanned_0 rfl ?_
  refine m_aload_n (y := yiX1_scanned) dX1_scanned_1 rfl ?_
  refine j_iload_n (y := yiX1_scanned) dX1_scanned_2 rfl ?_
  refine m_invV (y := yiX1_scanned) (rB := (RX1, TX1, 10)) [(vi day)] dX1_scanned_3 hx rfl q1869 q1871 qs33 q123 q1872 rfl (c_X1_runsAbout K 9 h z x sg day (by omega) hF.1 hCl hO hW0 hz1 hy ⟨by omega, by omega⟩) pdX1_runsAbout ⟨Nat.le_of_ble_eq_true rfl, by decide, by omega⟩ (kk_r fun r3 h3 q3 => ?_) kx_r
  obtain ⟨e0', re, n, rix, p, hRu, n3, y3, z3, f3, l3, k03⟩ := q3
  have hx : h3.2.2 x = some (true, .inr (0, [(.ref ch), (.ref wk), (vi (sg.1 1)), (.ref sv), (.ref tr), (.ref lt), (.ref ws), (.ref tx), (vi (sg.1 21)), (va_rf kp)])) := (f3 _ (by omega)).trans hx
  have hch : h3.2.2 ch = some (true, ia K 12 (sg.2 2)) := (f3 _ (by omega)).trans hch
  have fR : ∀ b, (b < h.1) → h3.2.2 b = h.2.2 b := fun b hb => (f3 b (by omega)).trans (fR b hb)
  refine mw_wf (fun hwf3 => ?_)
  obtain ⟨wr3, cap3, mc3, fr3, hro3, -⟩ := id hRu.1
  have he3 : e0' = e0 := by { have u9 := k03.symm.trans k0; injection u9 }
  rw [he3] at hRu
  have hro3 : h3.2.2 r3 = some (true, .inr (14, [(vi mc3), (.ref re), (vi n)])) := hro3
  have l_hro3 := hwf3 _ _ hro3
  refine m_invS (y := yiX1_scanned) [(.ref r3)] dX1_scanned_6 q1928 q1929 q123 q1930 (c_byDep K 14 h3 e0 r3 re n (sd sg day) rix p (by omega) hFd.1 hCl hcls.1 k11 k12 hRu ⟨k0, (f3 _ (by omega)).trans hE2⟩ ⟨by omega, by omega⟩) pdX1_byDepartures ⟨Nat.le_of_ble_eq_true rfl, by decide, by omega⟩ (kk_r fun r6 h6 q6 => ?_) kx_r
  obtain ⟨ea, m, q, ui, ci, hRd, m6, y6, z6, f6, l6⟩ := q6
  have hx : h6.2.2 x = some (true, .inr (0, [(.ref ch), (.ref wk), (vi (sg.1 1)), (.ref sv), (.ref tr), (.ref lt), (.ref ws), (.ref tx), (vi (sg.1 21)), (va_rf kp)])) := (f6 _ (by omega)).trans hx
  have hch : h6.2.2 ch = some (true, ia K 12 (sg.2 2)) := (f6 _ (by omega)).trans hch
  have hro3 : h6.2.2 r3 = some (true, .inr (14, [(vi mc3), (.ref re), (vi n)])) := (f6 _ (by omega)).trans hro3
  have fR : ∀ b, (b < h.1) → h6.2.2 b = h.2.2 b := fun b hb => (f6 b (by omega)).trans (fR b hb)
  refine mw_wf (fun hwf6 => ?_)
  refine j_iload_n (y := yiX1_scanned) dX1_scanned_9 rfl ?_
  refine j_iload_n (y := yiX1_scanned) dX1_scanned_10 rfl ?_
  refine j_iconst (y := yiX1_scanned) dX1_scanned_11 ?_
  refine m_aload_n (y := yiX1_scanned) dX1_scanned_12 rfl ?_
  refine j_iconst (y := yiX1_scanned) dX1_scanned_13 ?_
  refine m_invV (y := yiX1_scanned) (rB := (RX1, TX1, 10)) [(vi (-1))] dX1_scanned_14 hx rfl q916 q918 qs3 q123 q919 rfl (c_X1_closedWalks K 1 h6 x ch wk sv tr lt ws tx (sg.1 1) (sg.1 21) (-1) _ T (sg.2 3) (by omega) hx (hwk.1.up (fun b c e9 => by { have u9 := tg_at e9; exact (fR b (by omega)).trans u9.1 })) hwk.2 (hF.1.2 3) ⟨by omega, by omega⟩ ⟨by omega, by omega⟩ ⟨by omega, by omega⟩) pdX1_closedWalks ⟨Nat.le_of_ble_eq_true rfl, by decide, by omega⟩ (kk_r fun r14 h14 q14 => ?_) kx_r
  obtain ⟨rfl, y14, z14, f14, W, hW1, hW2, hW3⟩ := q14
  have hx : h14.2.2 x = some (true, .inr (0, [(.ref ch), (.ref wk), (vi (sg.1 1)), (.ref sv), (.ref tr), (.ref lt), (.ref ws), (.ref tx), (vi (sg.1 21)), (va_rf kp)])) := (f14 _ (by omega)).trans hx
  have hch : h14.2.2 ch = some (true, ia K 12 (sg.2 2)) := (f14 _ (by omega)).trans hch
  have hro3 : h14.2.2 r3 = some (true, .inr (14, [(vi mc3), (.ref re), (vi n)])) := (f14 _ (by omega)).trans hro3
  have fR : ∀ b, (b < h.1) → h14.2.2 b = h.2.2 b := fun b hb => (f14 b (by omega)).trans (fR b hb)
  refine mw_wf (fun hwf14 => ?_)
  have hup6 : ∀ b c, h6.2.2 b = some c → h14.2.2 b = some c := fr_up hwf6 f14
  have hup3 : ∀ b c, h3.2.2 b = some c → h6.2.2 b = some c := fr_up hwf3 f6
  refine m_invV (y := yiX1_scanned) (rB := (RX1, TX1, 10)) [(.ref r6), (vi fr), (vi mi), (vi (-1)), (.ref h6.1)] dX1_scanned_17 hx rfl q2096 q2098 qs43 q123 q2099 rfl (c_scannedC K 6 h14 e0 x h6.1 ch wk sv tr lt ws tx r6 ea r3 re (sg.1 21) n m _ W (sd sg day) rix ui ci p q fr mi (-1) hcut (by omega) hFd ⟨by show -1 ≤ sg.1 5; omega, by show sg.1 5 ≤ 11; omega⟩ k8 ⟨hx, hch⟩ (WayA.of (cut := -1) (show 0 ≤ sg.1 1 ∧ sg.1 1 ≤ 12 from ⟨by omega, by omega⟩) (hF.1.2 3) hWy (hW1.up (fun b c e9 => (rs_at e9).1)) hW2) ((hRu.up hup3).up hup6) (hRd.up hup6) (by omega) hf hmi ⟨by omega, by omega⟩) pdX1_scanned_2 ⟨Nat.le_of_ble_eq_true rfl, by decide, by omega⟩ (kk_r fun r17 h17 q17 => ?_) kx_r
  obtain ⟨A, B, R, f0, E, q17, e17, o17, y17, z17, f17⟩ := q17
  have hx : h17.2.2 x = some (true, .inr (0, [(.ref ch), (.ref wk), (vi (sg.1 1)), (.ref sv), (.ref tr), (.ref lt), (.ref ws), (.ref tx), (vi (sg.1 21)), (va_rf kp)])) := (f17 _ (by omega)).trans hx
  have hch : h17.2.2 ch = some (true, ia K 12 (sg.2 2)) := (f17 _ (by omega)).trans hch
  have hro3 : h17.2.2 r3 = some (true, .inr (14, [(vi mc3), (.ref re), (vi n)])) := (f17 _ (by omega)).trans hro3
  have fR : ∀ b, (b < h.1) → h17.2.2 b = h.2.2 b := fun b hb => (f17 b (by omega)).trans (fR b hb)
  refine mw_wf (fun hwf17 => ?_)
  subst hQ; exact m_aret (y := yiX1_scanned) (x := (some r17)) dX1_scanned_20 rfl (Or.inl ⟨_, rfl⟩) ⟨r17, rfl, (by { obtain ⟨ee1, ee2⟩ := e17 (by show fr ≠ sg.1 5; omega); subst ee1; subst ee2; rw [show (sd sg day).1 5 = -1 from hcut] at q17; exact ⟨A, B, R, _, q17, by omega, by omega, fR⟩ })⟩
/-- labels' cells and what they say -/
theorem Scd3.lab {K : KT} {h h' : MH} {x : Nat} {sg : TS} {fr mi : Int} {r : Nat} (Q : Scd3 K h h' x sg fr mi r) (hF : WF sg) : ∃ (A B R wy : Nat) (chg : Int) (fa fb fd : Int → Int), h'.2.2 r = some (true, .inr (9, [vi (-1), .ref wy, .ref A, .ref B, .ref R, vi chg, .ref x])) ∧ h'.2.2 A = some (true, ia K 12 fa) ∧ h'.2.2 B = some (true, ia K 12 fb) ∧ (∀ s, 0 ≤ s → s < sg.1 1 → EA sg fr mi s (fa s)) ∧ (∀ s, 0 ≤ s → s < sg.1 1 → ByR sg fr mi s (fb s)) ∧ (Rng fa ∧ Rng fb) ∧ (h.1 ≤ h'.1 ∧ h'.1 ≤ h.1 + 700) ∧ (h.2.1 ≤ h'.2.1 ∧ h'.2.1 ≤ h.2.1 + 20000) ∧ ∀ b, b < h.1 → h'.2.2 b = h.2.2 b := by
  obtain ⟨A, B, R, wy, ⟨chg, fa, fb, fd, ⟨k1, k2, k3, k4⟩, c1, hCL, hR⟩, q2, q3, q4⟩ := Q
  have hn := of1 (hF.1.1 1)
  exact ⟨A, B, R, wy, chg, fa, fb, fd, k1, k2, k3, fun s a b => hCL.ea hF.2.2.2 (by omega) hR.1 ⟨a, b⟩, fun s a b => hCL.byr hF.2.2.2 (by omega) hR.2.1 ⟨a, b⟩, ⟨hR.1, hR.2.1⟩, q2, q3, q4⟩
theorem q_earliest (K : KT) (d : Nat) (h : MH) (z x : Nat) (sg : TS) (fr to day mi : Int) (hd : 18 ≤ d) (hIv : Iv sg) (hW : World K h z x sg) (hz1 : z ≤ h.1) (i1 : In fr) (i2 : In to) (i3 : In day) (i4 : In mi) (hz : h.1 + 25000 ≤ kC K ∧ h.2.1 + 304000 ≤ kS K) : Mt K yiX1_earliest d [.ref x, vi fr, vi to, vi day, vi mi] h (Rw [RJ14, RJ12, RJ17] fun th v h' => QFr h h' ∧ earP sg fr to day mi th v) := by
  have hF := hIv.1
  have f1b := of1 (hF.1.1 1)
  have hW0 := hW
  obtain ⟨own, e0, cc, ch, wk, sv, tr, lt, ws, tx, se, te, we, kp, sp, tp, wp, T, hK, hE, hI, hx, hch, hwk, hsv, htr, hlt, hws, htx, hkp, hR0⟩ := hW
  obtain ⟨hx, hxz, -⟩ := tg_at hx
  obtain ⟨hch, hchz, -⟩ := tg_at hch
  have hE1 := hE.1
  obtain ⟨hE2, hE2z, -⟩ := tg_at hE.2
  obtain ⟨k0, k1, k3, k4, k5, k8, k9, k10, k11, k12⟩ := hK
  have hwk := And.intro hwk.1.C hwk.2
  refine mt_ofQ (by decide) (Nat.le_of_ble_eq_true rfl) (fun Q hQ => ?_)
  show MW K yiX1_earliest d h 0 [some (.ref x), some (vi fr), some (vi to), some (vi day), some (vi mi)] [] Q
  refine mw_wf (fun hwf => ?_)
  have l_hx := hwf _ _ hx
  have fR : ∀ b, (b < h.1) → h.2.2 b = h.2.2 b := fun _ _ => rfl
  refine m_aload_n (y := yiX1_earliest) dX1_earliest_0 rfl ?_
  refine j_iload_n (y := yiX1_earliest) dX1_earliest_1 rfl ?_
  refine j_iload_n (y := yiX1_earliest) dX1_earliest_2 rfl ?_
  refine j_iload_n (y := yiX1_earliest) dX1_earliest_3 rfl ?_
  refine j_iload (y := yiX1_earliest) dX1_earliest_4 rfl ?_
  by_cases c6 : (0 ≤ fr ∧ fr ≤ sg.1 1 - 1) ∧ 0 ≤ to ∧ to ≤ sg.1 1 - 1
  · by_cases c6_1 : (0 ≤ day ∧ day ≤ 27) ∧ 0 ≤ mi ∧ mi ≤ 1439
    · refine m_invV (y := yiX1_earliest) (rB := (RX1, TX1, 10)) [(vi fr), (vi to), (vi day), (vi mi)] dX1_earliest_6 hx rfl q1861 q1863 qs31 q123 q1864 rfl (c_reqAsked (d := 2) fr to day mi (by omega) hx ⟨by omega, by omega⟩ i1 i2 i3 i4 c6 c6_1) pdX1_requireAsked ⟨Nat.le_of_ble_eq_true rfl, by decide, by omega⟩ (kk_v fun h6 q6 => ?_) kx_v
      obtain rfl := q6
      refine m_aload_n (y := yiX1_earliest) dX1_earliest_9 rfl ?_
      refine j_iload_n (y := yiX1_earliest) dX1_earliest_10 rfl ?_
      refine j_iload_n (y := yiX1_earliest) dX1_earliest_11 rfl ?_
      refine j_iload (y := yiX1_earliest) dX1_earliest_12 rfl ?_
      refine m_invV (y := yiX1_earliest) (rB := (RX1, TX1, 10)) [(vi fr), (vi day), (vi mi)] dX1_earliest_14 hx rfl q1865 q1867 qs32 q123 q1868 rfl (c_X1_scanned K 15 h z x sg fr day mi (by omega) hIv hW0 hz1 c6_1.1 ⟨by omega, by omega⟩ ⟨by omega, by omega⟩ ⟨by omega, by omega⟩) pdX1_scanned ⟨Nat.le_of_ble_eq_true rfl, by decide, by omega⟩ (kk_r fun r14 h14 q14 => ?_) kx_r
      obtain q14 := q14
      obtain ⟨A, B, R, wy, chg, fa, fb, fd, k1, k2, k3, hEA, hBR, hRg, y14, z14, f14⟩ := q14.lab (hF.sd c6_1.1)
      have hx : h14.2.2 x = some (true, .inr (0, [(.ref ch), (.ref wk), (vi (sg.1 1)), (.ref sv), (.ref tr), (.ref lt), (.ref ws), (.ref tx), (vi (sg.1 21)), (va_rf kp)])) := (f14 _ (by omega)).trans hx
      have fR : ∀ b, (b < h.1) → h14.2.2 b = h.2.2 b := fun b hb => (f14 b (by omega)).trans (fR b hb)
      refine mw_wf (fun hwf14 => ?_)
      have l_k114 := hwf14 _ _ k1
      have l_k214 := hwf14 _ _ k2
      refine m_getfN (y := yiX1_earliest) kc_9 2 (by decide) dX1_earliest_17 q2113 k1 rfl ?_
      refine j_iload_n (y := yiX1_earliest) dX1_earliest_20 rfl ?_
      refine j_iald (y := yiX1_earliest) dX1_earliest_21 k2 (by omega) ⟨by omega, by omega⟩ ?_
      have hvt := hRg.1.v (s := to) ⟨by omega, by omega⟩
      have hea := hEA to c6.2.1 (by show to < sg.1 1; omega)
      by_cases c22 : fa to < 1000000
      · refine m_invS (y := yiX1_earliest) [(vi (fa to))] dX1_earliest_22 q2161 q2162 q123 q2163 (c_X1_told_1 K 1 h14 (fa to) (by omega) ⟨by omega, by omega⟩ c22) pdX1_told ⟨Nat.le_of_ble_eq_true rfl, by decide, by omega⟩ (kk_z fun r22 h22 q22 => ?_) kx_z
        obtain ⟨rfl, rfl⟩ := q22
        refine mw_top (x' := fa to) rfl ?_
        subst hQ; exact j_wret (y := yiX1_earliest) dX1_earliest_25 rfl (⟨QFr.of (by omega) (by omega) fR, Or.inr ⟨ask3 c6 c6_1, fa to, hea, by rw [if_neg (by omega)], fun _ => rfl⟩⟩)
      · refine m_invS (y := yiX1_earliest) [(vi (fa to))] dX1_earliest_22 q2161 q2162 q123 q2163 (c_X1_told_0 K 7 h14 (fa to) (by omega) ⟨by omega, by omega⟩ c22 ⟨by omega, by omega⟩) pdX1_told ⟨Nat.le_of_ble_eq_true rfl, by decide, by omega⟩ kk_t (kx_t fun q22 h22 x22 => ?_)
        subst hQ; exact mx_ret rfl (Or.inr ⟨2, RJ17, q22, rfl, rfl, fun _ => ⟨QFr.th x22 ⟨by omega, by omega⟩ ⟨by omega, by omega⟩ fR, Or.inr ⟨ask3 c6 c6_1, fa to, hea, by rw [if_pos (by omega)]; rfl, fun h9 => absurd h9 c22⟩⟩⟩)
    · refine m_invV (y := yiX1_earliest) (rB := (RX1, TX1, 10)) [(vi fr), (vi to), (vi day), (vi mi)] dX1_earliest_6 hx rfl q1861 q1863 qs31 q123 q1864 rfl (c_reqAsked_2 (d := 8) fr to day mi (by omega) hx ⟨by omega, by omega⟩ i1 i2 i3 i4 c6 c6_1 ⟨by omega, by omega⟩) pdX1_requireAsked ⟨Nat.le_of_ble_eq_true rfl, by decide, by omega⟩ kk_t (kx_t fun q6 h6 x6 => ?_)
      subst hQ; exact mx_ret rfl (Or.inr ⟨1, RJ12, q6, rfl, rfl, fun _ => (by first | exact ⟨QFr.th x6 ⟨by omega, by omega⟩ ⟨by omega, by omega⟩ (fun _ _ => rfl), Or.inl (by rw [ask1 c6]; exact ⟨by decide, rfl⟩)⟩ | exact ⟨QFr.th x6 ⟨by omega, by omega⟩ ⟨by omega, by omega⟩ (fun _ _ => rfl), Or.inl (by rw [ask2 c6 c6_1]; exact ⟨by decide, rfl⟩)⟩)⟩)
  · refine m_invV (y := yiX1_earliest) (rB := (RX1, TX1, 10)) [(vi fr), (vi to), (vi day), (vi mi)] dX1_earliest_6 hx rfl q1861 q1863 qs31 q123 q1864 rfl (c_reqAsked_1 (d := 8) fr to day mi (by omega) hx ⟨by omega, by omega⟩ i1 i2 c6 ⟨by omega, by omega⟩) pdX1_requireAsked ⟨Nat.le_of_ble_eq_true rfl, by decide, by omega⟩ kk_t (kx_t fun q6 h6 x6 => ?_)
    subst hQ; exact mx_ret rfl (Or.inr ⟨0, RJ14, q6, rfl, rfl, fun _ => (by first | exact ⟨QFr.th x6 ⟨by omega, by omega⟩ ⟨by omega, by omega⟩ (fun _ _ => rfl), Or.inl (by rw [ask1 c6]; exact ⟨by decide, rfl⟩)⟩ | exact ⟨QFr.th x6 ⟨by omega, by omega⟩ ⟨by omega, by omega⟩ (fun _ _ => rfl), Or.inl (by rw [ask2 c6 c6_1]; exact ⟨by decide, rfl⟩)⟩)⟩)
