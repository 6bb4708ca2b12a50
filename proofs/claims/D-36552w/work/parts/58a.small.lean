/-! getters and constructors of the small classes -/
theorem c_J27_init (K : KT) (d : Nat) (h : MH) (a : Nat) (hd : 1 ≤ d) : Mt K yiJ27_init d [.ref a] h (Rv fun h' => h = h') := by
  refine mt_ofQ (by decide) (Nat.le_of_ble_eq_true rfl) (fun Q hQ => ?_)
  show MW K yiJ27_init d h 0 [some (.ref a)] [] Q
  refine mw_wf (fun hwf => ?_)
  refine m_aload_n dJ27_init_0 rfl ?_
  refine m_objInit dJ27_init_1 q1159 q195 q196 ⟨Nat.le_of_ble_eq_true rfl, by omega⟩ ?_
  subst hQ; exact j_vret dJ27_init_4 rfl rfl
theorem c_X4_stop {K : KT} {d : Nat} {h : MH} {a : Nat} {w : Bool} {v0 v1 v2 : Int} (ha : h.2.2 a = some (w, .inr (3, [vi v0, vi v1, vi v2]))) : Mt K yiX4_stop d [.ref a] h (Rz fun v h' => h = h' ∧ v0 = v) := by
  refine mt_ofQ (by decide) (Nat.le_of_ble_eq_true rfl) (fun Q hQ => ?_)
  show MW K yiX4_stop d h 0 [some (.ref a)] [] Q
  refine mw_wf (fun hwf => ?_)
  have l_ha := hwf _ _ ha
  refine m_aload_n dX4_stop_0 rfl ?_
  refine m_getfS kc_3 0 (by decide) dX4_stop_1 q1160 ha rfl ?_
  subst hQ; exact j_iret dX4_stop_4 rfl (⟨rfl, rfl⟩)
theorem c_X4_arrival {K : KT} {d : Nat} {h : MH} {a : Nat} {w : Bool} {v0 v1 v2 : Int} (ha : h.2.2 a = some (w, .inr (3, [vi v0, vi v1, vi v2]))) : Mt K yiX4_arrival d [.ref a] h (Rz fun v h' => h = h' ∧ v1 = v) := by
  refine mt_ofQ (by decide) (Nat.le_of_ble_eq_true rfl) (fun Q hQ => ?_)
  show MW K yiX4_arrival d h 0 [some (.ref a)] [] Q
  refine mw_wf (fun hwf => ?_)
  have l_ha := hwf _ _ ha
  refine m_aload_n dX4_arrival_0 rfl ?_
  refine m_getfS kc_3 1 (by decide) dX4_arrival_1 q1161 ha rfl ?_
  subst hQ; exact j_iret dX4_arrival_4 rfl (⟨rfl, rfl⟩)
theorem c_X4_departure {K : KT} {d : Nat} {h : MH} {a : Nat} {w : Bool} {v0 v1 v2 : Int} (ha : h.2.2 a = some (w, .inr (3, [vi v0, vi v1, vi v2]))) : Mt K yiX4_departure d [.ref a] h (Rz fun v h' => h = h' ∧ v2 = v) := by
  refine mt_ofQ (by decide) (Nat.le_of_ble_eq_true rfl) (fun Q hQ => ?_)
  show MW K yiX4_departure d h 0 [some (.ref a)] [] Q
  refine mw_wf (fun hwf => ?_)
  have l_ha := hwf _ _ ha
  refine m_aload_n dX4_departure_0 rfl ?_
  refine m_getfS kc_3 2 (by decide) dX4_departure_1 q1162 ha rfl ?_
  subst hQ; exact j_iret dX4_departure_4 rfl (⟨rfl, rfl⟩)
theorem c_X4_init {K : KT} {d : Nat} {h : MH} {a : Nat} (v0 v1 v2 : Int) (hd : 2 ≤ d) (ha : h.2.2 a = some (true, .inr (3, [vi 0, vi 0, vi 0]))) : Mt K yiX4_init d [.ref a, vi v0, vi v1, vi v2] h (Rv fun h' => Hp h h' a (true, .inr (3, [vi v0, vi v1, vi v2])) 0 0) := by
  refine mt_ofQ (by decide) (Nat.le_of_ble_eq_true rfl) (fun Q hQ => ?_)
  show MW K yiX4_init d h 0 [some (.ref a), some (vi v0), some (vi v1), some (vi v2)] [] Q
  refine mw_wf (fun hwf => ?_)
  have l_ha := hwf _ _ ha
  refine m_aload_n dX4_init_0 rfl ?_
  refine m_invI [] dX4_init_1 q1156 q1157 q154 q1158 rfl rfl (c_J27_init K 1 h a (by omega)) pdJ27_init ⟨Nat.le_of_ble_eq_true rfl, by decide, by omega⟩ (kk_v fun h1 q1 => ?_) kx_v
  obtain rfl := q1
  refine m_aload_n dX4_init_4 rfl ?_
  refine j_iload_n dX4_init_5 rfl ?_
  refine m_putfF kc_3 0 (by decide) dX4_init_6 q1160 rfl rfl rfl ha rfl rfl (hp_put fun g1 g1H => ?_)
  have ha : g1.2.2 a = some (true, .inr (3, [(vi v0), (vi 0), (vi 0)])) := g1H.2.2.1
  have g11 := g1H.1
  have g12 := g1H.2.1
  refine m_aload_n dX4_init_9 rfl ?_
  refine j_iload_n dX4_init_10 rfl ?_
  refine m_putfF kc_3 1 (by decide) dX4_init_11 q1161 rfl rfl rfl ha rfl rfl (hp_put fun g2 g2H => ?_)
  have ha : g2.2.2 a = some (true, .inr (3, [(vi v0), (vi v1), (vi 0)])) := g2H.2.2.1
  have g21 := g2H.1
  have g22 := g2H.2.1
  refine m_aload_n dX4_init_14 rfl ?_
  refine j_iload_n dX4_init_15 rfl ?_
  refine m_putfF kc_3 2 (by decide) dX4_init_16 q1162 rfl rfl rfl ha rfl rfl (hp_put fun g3 g3H => ?_)
  have ha : g3.2.2 a = some (true, .inr (3, [(vi v0), (vi v1), (vi v2)])) := g3H.2.2.1
  have g31 := g3H.1
  have g32 := g3H.2.1
  subst hQ; exact j_vret dX4_init_19 rfl (⟨by omega, by omega, ha, fun b hb => (g3H.2.2.2 b hb).trans ((g2H.2.2.2 b hb).trans (g1H.2.2.2 b hb))⟩)
theorem c_X7_call {K : KT} {d : Nat} {h : MH} {a : Nat} {w : Bool} {v0 v1 : Int} (ha : h.2.2 a = some (w, .inr (6, [vi v0, vi v1]))) : Mt K yiX7_call d [.ref a] h (Rz fun v h' => h = h' ∧ v0 = v) := by
  refine mt_ofQ (by decide) (Nat.le_of_ble_eq_true rfl) (fun Q hQ => ?_)
  show MW K yiX7_call d h 0 [some (.ref a)] [] Q
  refine mw_wf (fun hwf => ?_)
  have l_ha := hwf _ _ ha
  refine m_aload_n dX7_call_0 rfl ?_
  refine m_getfS kc_6 0 (by decide) dX7_call_1 q1737 ha rfl ?_
  subst hQ; exact j_iret dX7_call_4 rfl (⟨rfl, rfl⟩)
theorem c_X7_minutes {K : KT} {d : Nat} {h : MH} {a : Nat} {w : Bool} {v0 v1 : Int} (ha : h.2.2 a = some (w, .inr (6, [vi v0, vi v1]))) : Mt K yiX7_minutes d [.ref a] h (Rz fun v h' => h = h' ∧ v1 = v) := by
  refine mt_ofQ (by decide) (Nat.le_of_ble_eq_true rfl) (fun Q hQ => ?_)
  show MW K yiX7_minutes d h 0 [some (.ref a)] [] Q
  refine mw_wf (fun hwf => ?_)
  have l_ha := hwf _ _ ha
  refine m_aload_n dX7_minutes_0 rfl ?_
  refine m_getfS kc_6 1 (by decide) dX7_minutes_1 q1738 ha rfl ?_
  subst hQ; exact j_iret dX7_minutes_4 rfl (⟨rfl, rfl⟩)
theorem c_X7_init {K : KT} {d : Nat} {h : MH} {a : Nat} (v0 v1 : Int) (hd : 2 ≤ d) (ha : h.2.2 a = some (true, .inr (6, [vi 0, vi 0]))) : Mt K yiX7_init d [.ref a, vi v0, vi v1] h (Rv fun h' => Hp h h' a (true, .inr (6, [vi v0, vi v1])) 0 0) := by
  refine mt_ofQ (by decide) (Nat.le_of_ble_eq_true rfl) (fun Q hQ => ?_)
  show MW K yiX7_init d h 0 [some (.ref a), some (vi v0), some (vi v1)] [] Q
  refine mw_wf (fun hwf => ?_)
  have l_ha := hwf _ _ ha
  refine m_aload_n dX7_init_0 rfl ?_
  refine m_invI [] dX7_init_1 q1736 q1157 q154 q1158 rfl rfl (c_J27_init K 1 h a (by omega)) pdJ27_init ⟨Nat.le_of_ble_eq_true rfl, by decide, by omega⟩ (kk_v fun h1 q1 => ?_) kx_v
  obtain rfl := q1
  refine m_aload_n dX7_init_4 rfl ?_
  refine j_iload_n dX7_init_5 rfl ?_
  refine m_putfF kc_6 0 (by decide) dX7_init_6 q1737 rfl rfl rfl ha rfl rfl (hp_put fun g1 g1H => ?_)
  have ha : g1.2.2 a = some (true, .inr (6, [(vi v0), (vi 0)])) := g1H.2.2.1
  have g11 := g1H.1
  have g12 := g1H.2.1
  refine m_aload_n dX7_init_9 rfl ?_
  refine j_iload_n dX7_init_10 rfl ?_
  refine m_putfF kc_6 1 (by decide) dX7_init_11 q1738 rfl rfl rfl ha rfl rfl (hp_put fun g2 g2H => ?_)
  have ha : g2.2.2 a = some (true, .inr (6, [(vi v0), (vi v1)])) := g2H.2.2.1
  have g21 := g2H.1
  have g22 := g2H.2.1
  subst hQ; exact j_vret dX7_init_14 rfl (⟨by omega, by omega, ha, fun b hb => (g2H.2.2.2 b hb).trans (g1H.2.2.2 b hb)⟩)
theorem c_X12_trip {K : KT} {d : Nat} {h : MH} {a : Nat} {w : Bool} {v0 v1 v2 v3 : Int} (ha : h.2.2 a = some (w, .inr (11, [vi v0, vi v1, vi v2, vi v3]))) : Mt K yiX12_trip d [.ref a] h (Rz fun v h' => h = h' ∧ v0 = v) := by
  refine mt_ofQ (by decide) (Nat.le_of_ble_eq_true rfl) (fun Q hQ => ?_)
  show MW K yiX12_trip d h 0 [some (.ref a)] [] Q
  refine mw_wf (fun hwf => ?_)
  have l_ha := hwf _ _ ha
  refine m_aload_n dX12_trip_0 rfl ?_
  refine m_getfS kc_11 0 (by decide) dX12_trip_1 q2393 ha rfl ?_
  subst hQ; exact j_iret dX12_trip_4 rfl (⟨rfl, rfl⟩)
theorem c_X12_shift {K : KT} {d : Nat} {h : MH} {a : Nat} {w : Bool} {v0 v1 v2 v3 : Int} (ha : h.2.2 a = some (w, .inr (11, [vi v0, vi v1, vi v2, vi v3]))) : Mt K yiX12_shift d [.ref a] h (Rz fun v h' => h = h' ∧ v1 = v) := by
  refine mt_ofQ (by decide) (Nat.le_of_ble_eq_true rfl) (fun Q hQ => ?_)
  show MW K yiX12_shift d h 0 [some (.ref a)] [] Q
  refine mw_wf (fun hwf => ?_)
  have l_ha := hwf _ _ ha
  refine m_aload_n dX12_shift_0 rfl ?_
  refine m_getfS kc_11 1 (by decide) dX12_shift_1 q2394 ha rfl ?_
  subst hQ; exact j_iret dX12_shift_4 rfl (⟨rfl, rfl⟩)
theorem c_X12_on {K : KT} {d : Nat} {h : MH} {a : Nat} {w : Bool} {v0 v1 v2 v3 : Int} (ha : h.2.2 a = some (w, .inr (11, [vi v0, vi v1, vi v2, vi v3]))) : Mt K yiX12_on d [.ref a] h (Rz fun v h' => h = h' ∧ v2 = v) := by
  refine mt_ofQ (by decide) (Nat.le_of_ble_eq_true rfl) (fun Q hQ => ?_)
  show MW K yiX12_on d h 0 [some (.ref a)] [] Q
  refine mw_wf (fun hwf => ?_)
  have l_ha := hwf _ _ ha
  refine m_aload_n dX12_on_0 rfl ?_
  refine m_getfS kc_11 2 (by decide) dX12_on_1 q2395 ha rfl ?_
  subst hQ; exact j_iret dX12_on_4 rfl (⟨rfl, rfl⟩)
theorem c_X12_off {K : KT} {d : Nat} {h : MH} {a : Nat} {w : Bool} {v0 v1 v2 v3 : Int} (ha : h.2.2 a = some (w, .inr (11, [vi v0, vi v1, vi v2, vi v3]))) : Mt K yiX12_off d [.ref a] h (Rz fun v h' => h = h' ∧ v3 = v) := by
  refine mt_ofQ (by decide) (Nat.le_of_ble_eq_true rfl) (fun Q hQ => ?_)
  show MW K yiX12_off d h 0 [some (.ref a)] [] Q
  refine mw_wf (fun hwf => ?_)
  have l_ha := hwf _ _ ha
  refine m_aload_n dX12_off_0 rfl ?_
  refine m_getfS kc_11 3 (by decide) dX12_off_1 q2396 ha rfl ?_
  subst hQ; exact j_iret dX12_off_4 rfl (⟨rfl, rfl⟩)
theorem c_X12_init {K : KT} {d : Nat} {h : MH} {a : Nat} (v0 v1 v2 v3 : Int) (hd : 2 ≤ d) (ha : h.2.2 a = some (true, .inr (11, [vi 0, vi 0, vi 0, vi 0]))) : Mt K yiX12_init d [.ref a, vi v0, vi v1, vi v2, vi v3] h (Rv fun h' => Hp h h' a (true, .inr (11, [vi v0, vi v1, vi v2, vi v3])) 0 0) := by
  refine mt_ofQ (by decide) (Nat.le_of_ble_eq_true rfl) (fun Q hQ => ?_)
  show MW K yiX12_init d h 0 [some (.ref a), some (vi v0), some (vi v1), some (vi v2), some (vi v3)] [] Q
  refine mw_wf (fun hwf => ?_)
  have l_ha := hwf _ _ ha
  refine m_aload_n dX12_init_0 rfl ?_
  refine m_invI [] dX12_init_1 q2392 q1157 q154 q1158 rfl rfl (c_J27_init K 1 h a (by omega)) pdJ27_init ⟨Nat.le_of_ble_eq_true rfl, by decide, by omega⟩ (kk_v fun h1 q1 => ?_) kx_v
  obtain rfl := q1
  refine m_aload_n dX12_init_4 rfl ?_
  refine j_iload_n dX12_init_5 rfl ?_
  refine m_putfF kc_11 0 (by decide) dX12_init_6 q2393 rfl rfl rfl ha rfl rfl (hp_put fun g1 g1H => ?_)
  have ha : g1.2.2 a = some (true, .inr (11, [(vi v0), (vi 0), (vi 0), (vi 0)])) := g1H.2.2.1
  have g11 := g1H.1
  have g12 := g1H.2.1
  refine m_aload_n dX12_init_9 rfl ?_
  refine j_iload_n dX12_init_10 rfl ?_
  refine m_putfF kc_11 1 (by decide) dX12_init_11 q2394 rfl rfl rfl ha rfl rfl (hp_put fun g2 g2H => ?_)
  have ha : g2.2.2 a = some (true, .inr (11, [(vi v0), (vi v1), (vi 0), (vi 0)])) := g2H.2.2.1
  have g21 := g2H.1
  have g22 := g2H.2.1
  refine m_aload_n dX12_init_14 rfl ?_
  refine j_iload_n dX12_init_15 rfl ?_
  refine m_putfF kc_11 2 (by decide) dX12_init_16 q2395 rfl rfl rfl ha rfl rfl (hp_put fun g3 g3H => ?_)
  have ha : g3.2.2 a = some (true, .inr (11, [(vi v0), (vi v1), (vi v2), (vi 0)])) := g3H.2.2.1
  have g31 := g3H.1
  have g32 := g3H.2.1
  refine m_aload_n dX12_init_19 rfl ?_
  refine j_iload dX12_init_20 rfl ?_
  refine m_putfF kc_11 3 (by decide) dX12_init_22 q2396 rfl rfl rfl ha rfl rfl (hp_put fun g4 g4H => ?_)
  have ha : g4.2.2 a = some (true, .inr (11, [(vi v0), (vi v1), (vi v2), (vi v3)])) := g4H.2.2.1
  have g41 := g4H.1
  have g42 := g4H.2.1
  subst hQ; exact j_vret dX12_init_25 rfl (⟨by omega, by omega, ha, fun b hb => (g4H.2.2.2 b hb).trans ((g3H.2.2.2 b hb).trans ((g2H.2.2.2 b hb).trans (g1H.2.2.2 b hb)))⟩)
theorem c_X13_leaves {K : KT} {d : Nat} {h : MH} {a : Nat} {w : Bool} {v0 v1 : Int} (ha : h.2.2 a = some (w, .inr (12, [vi v0, vi v1]))) : Mt K yiX13_leaves d [.ref a] h (Rz fun v h' => h = h' ∧ v0 = v) := by
  refine mt_ofQ (by decide) (Nat.le_of_ble_eq_true rfl) (fun Q hQ => ?_)
  show MW K yiX13_leaves d h 0 [some (.ref a)] [] Q
  refine mw_wf (fun hwf => ?_)
  have l_ha := hwf _ _ ha
  refine m_aload_n dX13_leaves_0 rfl ?_
  refine m_getfS kc_12 0 (by decide) dX13_leaves_1 q2639 ha rfl ?_
  subst hQ; exact j_iret dX13_leaves_4 rfl (⟨rfl, rfl⟩)
theorem c_X13_comes {K : KT} {d : Nat} {h : MH} {a : Nat} {w : Bool} {v0 v1 : Int} (ha : h.2.2 a = some (w, .inr (12, [vi v0, vi v1]))) : Mt K yiX13_comes d [.ref a] h (Rz fun v h' => h = h' ∧ v1 = v) := by
  refine mt_ofQ (by decide) (Nat.le_of_ble_eq_true rfl) (fun Q hQ => ?_)
  show MW K yiX13_comes d h 0 [some (.ref a)] [] Q
  refine mw_wf (fun hwf => ?_)
  have l_ha := hwf _ _ ha
  refine m_aload_n dX13_comes_0 rfl ?_
  refine m_getfS kc_12 1 (by decide) dX13_comes_1 q2640 ha rfl ?_
  subst hQ; exact j_iret dX13_comes_4 rfl (⟨rfl, rfl⟩)
theorem c_X13_init {K : KT} {d : Nat} {h : MH} {a : Nat} (v0 v1 : Int) (hd : 2 ≤ d) (ha : h.2.2 a = some (true, .inr (12, [vi 0, vi 0]))) : Mt K yiX13_init d [.ref a, vi v0, vi v1] h (Rv fun h' => Hp h h' a (true, .inr (12, [vi v0, vi v1])) 0 0) := by
  refine mt_ofQ (by decide) (Nat.le_of_ble_eq_true rfl) (fun Q hQ => ?_)
  show MW K yiX13_init d h 0 [some (.ref a), some (vi v0), some (vi v1)] [] Q
  refine mw_wf (fun hwf => ?_)
  have l_ha := hwf _ _ ha
  refine m_aload_n dX13_init_0 rfl ?_
  refine m_invI [] dX13_init_1 q2638 q1157 q154 q1158 rfl rfl (c_J27_init K 1 h a (by omega)) pdJ27_init ⟨Nat.le_of_ble_eq_true rfl, by decide, by omega⟩ (kk_v fun h1 q1 => ?_) kx_v
  obtain rfl := q1
  refine m_aload_n dX13_init_4 rfl ?_
  refine j_iload_n dX13_init_5 rfl ?_
  refine m_putfF kc_12 0 (by decide) dX13_init_6 q2639 rfl rfl rfl ha rfl rfl (hp_put fun g1 g1H => ?_)
  have ha : g1.2.2 a = some (true, .inr (12, [(vi v0), (vi 0)])) := g1H.2.2.1
  have g11 := g1H.1
  have g12 := g1H.2.1
  refine m_aload_n dX13_init_9 rfl ?_
  refine j_iload_n dX13_init_10 rfl ?_
  refine m_putfF kc_12 1 (by decide) dX13_init_11 q2640 rfl rfl rfl ha rfl rfl (hp_put fun g2 g2H => ?_)
  have ha : g2.2.2 a = some (true, .inr (12, [(vi v0), (vi v1)])) := g2H.2.2.1
  have g21 := g2H.1
  have g22 := g2H.2.1
  subst hQ; exact j_vret dX13_init_14 rfl (⟨by omega, by omega, ha, fun b hb => (g2H.2.2.2 b hb).trans (g1H.2.2.2 b hb)⟩)
theorem c_X14_trip {K : KT} {d : Nat} {h : MH} {a : Nat} {w : Bool} {v0 v1 v2 v3 v4 : Int} (ha : h.2.2 a = some (w, .inr (13, [vi v0, vi v1, vi v2, vi v3, vi v4]))) : Mt K yiX14_trip d [.ref a] h (Rz fun v h' => h = h' ∧ v0 = v) := by
  refine mt_ofQ (by decide) (Nat.le_of_ble_eq_true rfl) (fun Q hQ => ?_)
  show MW K yiX14_trip d h 0 [some (.ref a)] [] Q
  refine mw_wf (fun hwf => ?_)
  have l_ha := hwf _ _ ha
  refine m_aload_n dX14_trip_0 rfl ?_
  refine m_getfS kc_13 0 (by decide) dX14_trip_1 q2829 ha rfl ?_
  subst hQ; exact j_iret dX14_trip_4 rfl (⟨rfl, rfl⟩)
theorem c_X14_call {K : KT} {d : Nat} {h : MH} {a : Nat} {w : Bool} {v0 v1 v2 v3 v4 : Int} (ha : h.2.2 a = some (w, .inr (13, [vi v0, vi v1, vi v2, vi v3, vi v4]))) : Mt K yiX14_call d [.ref a] h (Rz fun v h' => h = h' ∧ v1 = v) := by
  refine mt_ofQ (by decide) (Nat.le_of_ble_eq_true rfl) (fun Q hQ => ?_)
  show MW K yiX14_call d h 0 [some (.ref a)] [] Q
  refine mw_wf (fun hwf => ?_)
  have l_ha := hwf _ _ ha
  refine m_aload_n dX14_call_0 rfl ?_
  refine m_getfS kc_13 1 (by decide) dX14_call_1 q2830 ha rfl ?_
  subst hQ; exact j_iret dX14_call_4 rfl (⟨rfl, rfl⟩)
theorem c_X14_other {K : KT} {d : Nat} {h : MH} {a : Nat} {w : Bool} {v0 v1 v2 v3 v4 : Int} (ha : h.2.2 a = some (w, .inr (13, [vi v0, vi v1, vi v2, vi v3, vi v4]))) : Mt K yiX14_other d [.ref a] h (Rz fun v h' => h = h' ∧ v2 = v) := by
  refine mt_ofQ (by decide) (Nat.le_of_ble_eq_true rfl) (fun Q hQ => ?_)
  show MW K yiX14_other d h 0 [some (.ref a)] [] Q
  refine mw_wf (fun hwf => ?_)
  have l_ha := hwf _ _ ha
  refine m_aload_n dX14_other_0 rfl ?_
  refine m_getfS kc_13 2 (by decide) dX14_other_1 q2831 ha rfl ?_
  subst hQ; exact j_iret dX14_other_4 rfl (⟨rfl, rfl⟩)
theorem c_X14_otherCall {K : KT} {d : Nat} {h : MH} {a : Nat} {w : Bool} {v0 v1 v2 v3 v4 : Int} (ha : h.2.2 a = some (w, .inr (13, [vi v0, vi v1, vi v2, vi v3, vi v4]))) : Mt K yiX14_otherCall d [.ref a] h (Rz fun v h' => h = h' ∧ v3 = v) := by
  refine mt_ofQ (by decide) (Nat.le_of_ble_eq_true rfl) (fun Q hQ => ?_)
  show MW K yiX14_otherCall d h 0 [some (.ref a)] [] Q
  refine mw_wf (fun hwf => ?_)
  have l_ha := hwf _ _ ha
  refine m_aload_n dX14_otherCall_0 rfl ?_
  refine m_getfS kc_13 3 (by decide) dX14_otherCall_1 q2832 ha rfl ?_
  subst hQ; exact j_iret dX14_otherCall_4 rfl (⟨rfl, rfl⟩)
theorem c_X14_travellers {K : KT} {d : Nat} {h : MH} {a : Nat} {w : Bool} {v0 v1 v2 v3 v4 : Int} (ha : h.2.2 a = some (w, .inr (13, [vi v0, vi v1, vi v2, vi v3, vi v4]))) : Mt K yiX14_travellers d [.ref a] h (Rz fun v h' => h = h' ∧ v4 = v) := by
  refine mt_ofQ (by decide) (Nat.le_of_ble_eq_true rfl) (fun Q hQ => ?_)
  show MW K yiX14_travellers d h 0 [some (.ref a)] [] Q
  refine mw_wf (fun hwf => ?_)
  have l_ha := hwf _ _ ha
  refine m_aload_n dX14_travellers_0 rfl ?_
  refine m_getfS kc_13 4 (by decide) dX14_travellers_1 q2833 ha rfl ?_
  subst hQ; exact j_iret dX14_travellers_4 rfl (⟨rfl, rfl⟩)
theorem c_X14_init {K : KT} {d : Nat} {h : MH} {a : Nat} (v0 v1 v2 v3 v4 : Int) (hd : 2 ≤ d) (ha : h.2.2 a = some (true, .inr (13, [vi 0, vi 0, vi 0, vi 0, vi 0]))) : Mt K yiX14_init d [.ref a, vi v0, vi v1, vi v2, vi v3, vi v4] h (Rv fun h' => Hp h h' a (true, .inr (13, [vi v0, vi v1, vi v2, vi v3, vi v4])) 0 0) := by
  refine mt_ofQ (by decide) (Nat.le_of_ble_eq_true rfl) (fun Q hQ => ?_)
  show MW K yiX14_init d h 0 [some (.ref a), some (vi v0), some (vi v1), some (vi v2), some (vi v3), some (vi v4)] [] Q
  refine mw_wf (fun hwf => ?_)
  have l_ha := hwf _ _ ha
  refine m_aload_n dX14_init_0 rfl ?_
  refine m_invI [] dX14_init_1 q2828 q1157 q154 q1158 rfl rfl (c_J27_init K 1 h a (by omega)) pdJ27_init ⟨Nat.le_of_ble_eq_true rfl, by decide, by omega⟩ (kk_v fun h1 q1 => ?_) kx_v
  obtain rfl := q1
  refine m_aload_n dX14_init_4 rfl ?_
  refine j_iload_n dX14_init_5 rfl ?_
  refine m_putfF kc_13 0 (by decide) dX14_init_6 q2829 rfl rfl rfl ha rfl rfl (hp_put fun g1 g1H => ?_)
  have ha : g1.2.2 a = some (true, .inr (13, [(vi v0), (vi 0), (vi 0), (vi 0), (vi 0)])) := g1H.2.2.1
  have g11 := g1H.1
  have g12 := g1H.2.1
  refine m_aload_n dX14_init_9 rfl ?_
  refine j_iload_n dX14_init_10 rfl ?_
  refine m_putfF kc_13 1 (by decide) dX14_init_11 q2830 rfl rfl rfl ha rfl rfl (hp_put fun g2 g2H => ?_)
  have ha : g2.2.2 a = some (true, .inr (13, [(vi v0), (vi v1), (vi 0), (vi 0), (vi 0)])) := g2H.2.2.1
  have g21 := g2H.1
  have g22 := g2H.2.1
  refine m_aload_n dX14_init_14 rfl ?_
  refine j_iload_n dX14_init_15 rfl ?_
  refine m_putfF kc_13 2 (by decide) dX14_init_16 q2831 rfl rfl rfl ha rfl rfl (hp_put fun g3 g3H => ?_)
  have ha : g3.2.2 a = some (true, .inr (13, [(vi v0), (vi v1), (vi v2), (vi 0), (vi 0)])) := g3H.2.2.1
  have g31 := g3H.1
  have g32 := g3H.2.1
  refine m_aload_n dX14_init_19 rfl ?_
  refine j_iload dX14_init_20 rfl ?_
  refine m_putfF kc_13 3 (by decide) dX14_init_22 q2832 rfl rfl rfl ha rfl rfl (hp_put fun g4 g4H => ?_)
  have ha : g4.2.2 a = some (true, .inr (13, [(vi v0), (vi v1), (vi v2), (vi v3), (vi 0)])) := g4H.2.2.1
  have g41 := g4H.1
  have g42 := g4H.2.1
  refine m_aload_n dX14_init_25 rfl ?_
  refine j_iload dX14_init_26 rfl ?_
  refine m_putfF kc_13 4 (by decide) dX14_init_28 q2833 rfl rfl rfl ha rfl rfl (hp_put fun g5 g5H => ?_)
  have ha : g5.2.2 a = some (true, .inr (13, [(vi v0), (vi v1), (vi v2), (vi v3), (vi v4)])) := g5H.2.2.1
  have g51 := g5H.1
  have g52 := g5H.2.1
  subst hQ; exact j_vret dX14_init_31 rfl (⟨by omega, by omega, ha, fun b hb => (g5H.2.2.2 b hb).trans ((g4H.2.2.2 b hb).trans ((g3H.2.2.2 b hb).trans ((g2H.2.2.2 b hb).trans (g1H.2.2.2 b hb))))⟩)
