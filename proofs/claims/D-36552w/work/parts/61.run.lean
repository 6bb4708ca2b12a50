/-! Lastbus.Run, Ride, Place -/
/-- a run's cells: its object q and three arrays of n places -/
def RunC (K : KT) (h : MH) (num tr sh : Int) (n : Nat) (fs fa fd : Int → Int) (q : Nat) : Prop := ∃ (sa aa da : Nat), h.2.2 q = some (true, .inr (7, [vi num, vi tr, vi sh, .ref sa, .ref aa, .ref da])) ∧ h.2.2 sa = some (true, ia K n fs) ∧ h.2.2 aa = some (true, ia K n fa) ∧ h.2.2 da = some (true, ia K n fd)
theorem RunC.up {K : KT} {h h' : MH} {num tr sh : Int} {n : Nat} {fs fa fd : Int → Int} {q : Nat} (L : RunC K h num tr sh n fs fa fd q) (e1 : ∀ b c, h.2.2 b = some c → h'.2.2 b = some c) : RunC K h' num tr sh n fs fa fd q := by
  obtain ⟨sa, aa, da, h1, h2, h3, h4⟩ := L
  exact ⟨sa, aa, da, e1 _ _ h1, e1 _ _ h2, e1 _ _ h3, e1 _ _ h4⟩
theorem c_X8_many (K : KT) (d : Nat) (h : MH) (q : Nat) (num tr sh : Int) (n : Nat) (fs fa fd : Int → Int) (hR : RunC K h num tr sh n fs fa fd q) : Mt K yiX8_many d [.ref q] h (Rz fun v h' => h = h' ∧ (n : Int) = v) := by
  obtain ⟨sa, aa, da, hq, hs, ha, hd⟩ := hR
  refine mt_ofQ (by decide) (Nat.le_of_ble_eq_true rfl) (fun Q hQ => ?_)
  show MW K yiX8_many d h 0 [some (.ref q)] [] Q
  refine mw_wf (fun hwf => ?_)
  have l_hq := hwf _ _ hq
  have l_hs := hwf _ _ hs
  refine m_aload_n (y := yiX8_many) dX8_many_0 rfl ?_
  refine m_getfS (y := yiX8_many) kc_7 3 (by decide) dX8_many_1 q1903 hq rfl ?_
  refine h_alen (y := yiX8_many) 0 (by decide) dX8_many_4 hs ?_
  subst hQ; exact j_iret (y := yiX8_many) dX8_many_5 rfl (⟨rfl, rfl⟩)
theorem c_X8_canGetOn (K : KT) (d : Nat) (h : MH) (q : Nat) (num tr sh : Int) (n : Nat) (fs fa fd : Int → Int) (c : Int) (h1 : 1 ≤ d) (hR : RunC K h num tr sh n fs fa fd q) (hc : 0 ≤ c ∧ c < n) (hn : n ≤ 8) (ht : -10000 ≤ fd c ∧ fd c ≤ 10000) : Mt K yiX8_canGetOn d [.ref q, vi c] h (Rz fun v h' => h = h' ∧ bz (c < (n : Int) - 1 ∧ 0 ≤ fd c) = v) := by
  have hR' := hR
  obtain ⟨sa, aa, da, hq, hs, ha, hd⟩ := hR
  refine mt_ofQ (by decide) (Nat.le_of_ble_eq_true rfl) (fun Q hQ => ?_)
  show MW K yiX8_canGetOn d h 0 [some (.ref q), some (vi c)] [] Q
  refine mw_wf (fun hwf => ?_)
  have l_hq := hwf _ _ hq
  have l_hs := hwf _ _ hs
  have l_hd := hwf _ _ hd
  refine j_iload_n (y := yiX8_canGetOn) dX8_canGetOn_0 rfl ?_
  refine m_aload_n (y := yiX8_canGetOn) dX8_canGetOn_1 rfl ?_
  refine m_invV (y := yiX8_canGetOn) (rB := (RX8, TX8, 6)) [] dX8_canGetOn_2 hq rfl q1947 q1940 q1941 q167 q1942 rfl (c_X8_many K 0 h q num tr sh n fs fa fd hR') pdX8_many ⟨Nat.le_of_ble_eq_true rfl, by decide, by omega⟩ (kk_z fun r2 h2 q2 => ?_) kx_z
  obtain ⟨rfl, rfl⟩ := q2
  refine mw_top (x' := (n : Int)) rfl ?_
  refine j_iconst (y := yiX8_canGetOn) dX8_canGetOn_5 ?_
  refine j_isub (y := yiX8_canGetOn) dX8_canGetOn_6 ?_
  refine j_icmp_ge (y := yiX8_canGetOn) 23 dX8_canGetOn_7 (by decide) ⟨⟨by omega, by omega⟩, ⟨by omega, by omega⟩⟩ (fun c7 => ?_) (fun c7 => ?_)
  · refine j_iconst (y := yiX8_canGetOn) dX8_canGetOn_23 ?_
    subst hQ; exact j_zret (y := yiX8_canGetOn) dX8_canGetOn_24 rfl (by omega) (⟨rfl, by first | exact (bz_t (by omega)).symm | exact (bz_f (by omega)).symm⟩)
  · refine m_aload_n (y := yiX8_canGetOn) dX8_canGetOn_10 rfl ?_
    refine m_getfS (y := yiX8_canGetOn) kc_7 5 (by decide) dX8_canGetOn_11 q1911 hq rfl ?_
    refine j_iload_n (y := yiX8_canGetOn) dX8_canGetOn_14 rfl ?_
    refine j_iald (y := yiX8_canGetOn) dX8_canGetOn_15 hd (by omega) ⟨by omega, by omega⟩ ?_
    refine j_if_lt (y := yiX8_canGetOn) 23 dX8_canGetOn_16 (by decide) ⟨by omega, by omega⟩ (fun c16 => ?_) (fun c16 => ?_)
    · refine j_iconst (y := yiX8_canGetOn) dX8_canGetOn_23 ?_
      subst hQ; exact j_zret (y := yiX8_canGetOn) dX8_canGetOn_24 rfl (by omega) (⟨rfl, by first | exact (bz_t (by omega)).symm | exact (bz_f (by omega)).symm⟩)
    · refine j_iconst (y := yiX8_canGetOn) dX8_canGetOn_19 ?_
      refine m_goto (y := yiX8_canGetOn) 24 dX8_canGetOn_20 (by decide) ?_
      subst hQ; exact j_zret (y := yiX8_canGetOn) dX8_canGetOn_24 rfl (by omega) (⟨rfl, by first | exact (bz_t (by omega)).symm | exact (bz_f (by omega)).symm⟩)
theorem c_X9_init (K : KT) (d : Nat) (h : MH) (q ru : Nat) (c k : Int) (hd : 1 ≤ d) (hq : h.2.2 q = some (true, .inr (8, [.null, vi 0, vi 0]))) : Mt K yiX9_init d [.ref q, .ref ru, vi c, vi k] h (Rv fun h' => Hp h h' q (true, .inr (8, [.ref ru, vi c, vi k])) 0 0) := by
  refine mt_ofQ (by decide) (Nat.le_of_ble_eq_true rfl) (fun Q hQ => ?_)
  show MW K yiX9_init d h 0 [some (.ref q), some (.ref ru), some (vi c), some (vi k)] [] Q
  refine mw_wf (fun hwf => ?_)
  have l_hq := hwf _ _ hq
  refine m_aload_n (y := yiX9_init) dX9_init_0 rfl ?_
  refine m_objInit (y := yiX9_init) dX9_init_1 q1953 q195 q196 ⟨Nat.le_of_ble_eq_true rfl, by omega⟩ ?_
  refine m_aload_n (y := yiX9_init) dX9_init_4 rfl ?_
  refine m_aload_n (y := yiX9_init) dX9_init_5 rfl ?_
  refine m_putfF (y := yiX9_init) kc_8 0 (by decide) dX9_init_6 q1954 rfl rfl rfl hq rfl rfl (hp_put fun g1 g1H => ?_)
  have hq : g1.2.2 q = some (true, .inr (8, [(.ref ru), (vi 0), (vi 0)])) := g1H.2.2.1
  have g11 := g1H.1
  have g12 := g1H.2.1
  refine m_aload_n (y := yiX9_init) dX9_init_9 rfl ?_
  refine j_iload_n (y := yiX9_init) dX9_init_10 rfl ?_
  refine m_putfF (y := yiX9_init) kc_8 1 (by decide) dX9_init_11 q1956 rfl rfl rfl hq rfl rfl (hp_put fun g2 g2H => ?_)
  have hq : g2.2.2 q = some (true, .inr (8, [(.ref ru), (vi c), (vi 0)])) := g2H.2.2.1
  have g21 := g2H.1
  have g22 := g2H.2.1
  refine m_aload_n (y := yiX9_init) dX9_init_14 rfl ?_
  refine j_iload_n (y := yiX9_init) dX9_init_15 rfl ?_
  refine m_putfF (y := yiX9_init) kc_8 2 (by decide) dX9_init_16 q1958 rfl rfl rfl hq rfl rfl (hp_put fun g3 g3H => ?_)
  have hq : g3.2.2 q = some (true, .inr (8, [(.ref ru), (vi c), (vi k)])) := g3H.2.2.1
  have g31 := g3H.1
  have g32 := g3H.2.1
  subst hQ; exact j_vret (y := yiX9_init) dX9_init_19 rfl (⟨by omega, by omega, hq, fun b hb => (g3H.2.2.2 b hb).trans ((g2H.2.2.2 b hb).trans (g1H.2.2.2 b hb))⟩)
theorem c_X9_from (K : KT) (d : Nat) (h : MH) (q ru : Nat) (num tr sh : Int) (n : Nat) (fs fa fd : Int → Int) (c k : Int) (hq : h.2.2 q = some (true, .inr (8, [.ref ru, vi c, vi k]))) (hR : RunC K h num tr sh n fs fa fd ru) (hc : 0 ≤ c ∧ c < n) (hn : n ≤ 8) : Mt K yiX9_from d [.ref q] h (Rz fun v h' => h = h' ∧ fs c = v) := by
  obtain ⟨sa, aa, da, hr, hs, ha, hd⟩ := hR
  refine mt_ofQ (by decide) (Nat.le_of_ble_eq_true rfl) (fun Q hQ => ?_)
  show MW K yiX9_from d h 0 [some (.ref q)] [] Q
  refine mw_wf (fun hwf => ?_)
  have l_hq := hwf _ _ hq
  have l_hr := hwf _ _ hr
  have l_hs := hwf _ _ hs
  refine m_aload_n (y := yiX9_from) dX9_from_0 rfl ?_
  refine m_getfS (y := yiX9_from) kc_8 0 (by decide) dX9_from_1 q1954 hq rfl ?_
  refine m_getfN (y := yiX9_from) kc_7 3 (by decide) dX9_from_4 q1904 hr rfl ?_
  refine m_aload_n (y := yiX9_from) dX9_from_7 rfl ?_
  refine m_getfS (y := yiX9_from) kc_8 1 (by decide) dX9_from_8 q1956 hq rfl ?_
  refine j_iald (y := yiX9_from) dX9_from_11 hs (by omega) ⟨by omega, by omega⟩ ?_
  subst hQ; exact j_iret (y := yiX9_from) dX9_from_12 rfl (⟨rfl, rfl⟩)
theorem c_X9_to (K : KT) (d : Nat) (h : MH) (q ru : Nat) (num tr sh : Int) (n : Nat) (fs fa fd : Int → Int) (c k : Int) (hq : h.2.2 q = some (true, .inr (8, [.ref ru, vi c, vi k]))) (hR : RunC K h num tr sh n fs fa fd ru) (hc : 0 ≤ c ∧ c + 1 < n) (hn : n ≤ 8) : Mt K yiX9_to d [.ref q] h (Rz fun v h' => h = h' ∧ fs (c + 1) = v) := by
  obtain ⟨sa, aa, da, hr, hs, ha, hd⟩ := hR
  refine mt_ofQ (by decide) (Nat.le_of_ble_eq_true rfl) (fun Q hQ => ?_)
  show MW K yiX9_to d h 0 [some (.ref q)] [] Q
  refine mw_wf (fun hwf => ?_)
  have l_hq := hwf _ _ hq
  have l_hr := hwf _ _ hr
  have l_hs := hwf _ _ hs
  refine m_aload_n (y := yiX9_to) dX9_to_0 rfl ?_
  refine m_getfS (y := yiX9_to) kc_8 0 (by decide) dX9_to_1 q1954 hq rfl ?_
  refine m_getfN (y := yiX9_to) kc_7 3 (by decide) dX9_to_4 q1904 hr rfl ?_
  refine m_aload_n (y := yiX9_to) dX9_to_7 rfl ?_
  refine m_getfS (y := yiX9_to) kc_8 1 (by decide) dX9_to_8 q1956 hq rfl ?_
  refine j_iconst (y := yiX9_to) dX9_to_11 ?_
  refine j_iadd (y := yiX9_to) dX9_to_12 ?_
  refine j_iald (y := yiX9_to) dX9_to_13 hs (by omega) ⟨by omega, by omega⟩ ?_
  subst hQ; exact j_iret (y := yiX9_to) dX9_to_14 rfl (⟨rfl, rfl⟩)
theorem c_X9_departure (K : KT) (d : Nat) (h : MH) (q ru : Nat) (num tr sh : Int) (n : Nat) (fs fa fd : Int → Int) (c k : Int) (hq : h.2.2 q = some (true, .inr (8, [.ref ru, vi c, vi k]))) (hR : RunC K h num tr sh n fs fa fd ru) (hc : 0 ≤ c ∧ c < n) (hn : n ≤ 8) : Mt K yiX9_departure d [.ref q] h (Rz fun v h' => h = h' ∧ fd c = v) := by
  obtain ⟨sa, aa, da, hr, hs, ha, hd⟩ := hR
  refine mt_ofQ (by decide) (Nat.le_of_ble_eq_true rfl) (fun Q hQ => ?_)
  show MW K yiX9_departure d h 0 [some (.ref q)] [] Q
  refine mw_wf (fun hwf => ?_)
  have l_hq := hwf _ _ hq
  have l_hr := hwf _ _ hr
  have l_hd := hwf _ _ hd
  refine m_aload_n (y := yiX9_departure) dX9_departure_0 rfl ?_
  refine m_getfS (y := yiX9_departure) kc_8 0 (by decide) dX9_departure_1 q1954 hq rfl ?_
  refine m_getfN (y := yiX9_departure) kc_7 5 (by decide) dX9_departure_4 q1912 hr rfl ?_
  refine m_aload_n (y := yiX9_departure) dX9_departure_7 rfl ?_
  refine m_getfS (y := yiX9_departure) kc_8 1 (by decide) dX9_departure_8 q1956 hq rfl ?_
  refine j_iald (y := yiX9_departure) dX9_departure_11 hd (by omega) ⟨by omega, by omega⟩ ?_
  subst hQ; exact j_iret (y := yiX9_departure) dX9_departure_12 rfl (⟨rfl, rfl⟩)
theorem c_X9_arrival (K : KT) (d : Nat) (h : MH) (q ru : Nat) (num tr sh : Int) (n : Nat) (fs fa fd : Int → Int) (c k : Int) (hq : h.2.2 q = some (true, .inr (8, [.ref ru, vi c, vi k]))) (hR : RunC K h num tr sh n fs fa fd ru) (hc : 0 ≤ c ∧ c + 1 < n) (hn : n ≤ 8) : Mt K yiX9_arrival d [.ref q] h (Rz fun v h' => h = h' ∧ fa (c + 1) = v) := by
  obtain ⟨sa, aa, da, hr, hs, ha, hd⟩ := hR
  refine mt_ofQ (by decide) (Nat.le_of_ble_eq_true rfl) (fun Q hQ => ?_)
  show MW K yiX9_arrival d h 0 [some (.ref q)] [] Q
  refine mw_wf (fun hwf => ?_)
  have l_hq := hwf _ _ hq
  have l_hr := hwf _ _ hr
  have l_ha := hwf _ _ ha
  refine m_aload_n (y := yiX9_arrival) dX9_arrival_0 rfl ?_
  refine m_getfS (y := yiX9_arrival) kc_8 0 (by decide) dX9_arrival_1 q1954 hq rfl ?_
  refine m_getfN (y := yiX9_arrival) kc_7 4 (by decide) dX9_arrival_4 q1908 hr rfl ?_
  refine m_aload_n (y := yiX9_arrival) dX9_arrival_7 rfl ?_
  refine m_getfS (y := yiX9_arrival) kc_8 1 (by decide) dX9_arrival_8 q1956 hq rfl ?_
  refine j_iconst (y := yiX9_arrival) dX9_arrival_11 ?_
  refine j_iadd (y := yiX9_arrival) dX9_arrival_12 ?_
  refine j_iald (y := yiX9_arrival) dX9_arrival_13 ha (by omega) ⟨by omega, by omega⟩ ?_
  subst hQ; exact j_iret (y := yiX9_arrival) dX9_arrival_14 rfl (⟨rfl, rfl⟩)
/-- a ride by its key, its run's number, its call -/
def RdC (h : MH) (k u c : Int) (q : Nat) : Prop := ∃ (ru : Nat) (tr sh : Int) (sa aa da : Nat), h.2.2 q = some (true, .inr (8, [.ref ru, vi c, vi k])) ∧ h.2.2 ru = some (true, .inr (7, [vi u, vi tr, vi sh, .ref sa, .ref aa, .ref da]))
def rk3 (k u c : Int) : Int := 100000 * k + 100 * u + c
/-- the sign of a difference -/
def sgn (x y v : Int) : Prop := (v < 0 ↔ x < y) ∧ (0 < v ↔ y < x) ∧ (-1 ≤ v ∧ v ≤ 1)
theorem c_X9_compareTo_2 (K : KT) (d : Nat) (h : MH) (q q' : Nat) (k u c k' u' c' : Int) (hq : RdC h k u c q) (hq' : RdC h k' u' c' q') (h1 : (-10000 ≤ k ∧ k ≤ 10000) ∧ (-10000 ≤ k' ∧ k' ≤ 10000)) (h2 : (0 ≤ u ∧ u < 100) ∧ (0 ≤ u' ∧ u' < 100)) (h3 : (0 ≤ c ∧ c < 10) ∧ (0 ≤ c' ∧ c' < 10)) : Mt K yiX9_compareTo_2 d [.ref q, .ref q'] h (Rz fun v h' => h = h' ∧ sgn (rk3 k u c) (rk3 k' u' c') v) := by
  obtain ⟨ru, tr, sh, sa, aa, da, hq, hr⟩ := hq
  obtain ⟨ru', tr', sh', sa', aa', da', hq', hr'⟩ := hq'
  refine mt_ofQ (by decide) (Nat.le_of_ble_eq_true rfl) (fun Q hQ => ?_)
  show MW K yiX9_compareTo_2 d h 0 [some (.ref q), some (.ref q')] [] Q
  refine mw_wf (fun hwf => ?_)
  have l_hq := hwf _ _ hq
  have l_hr := hwf _ _ hr
  have l_hq' := hwf _ _ hq'
  have l_hr' := hwf _ _ hr'
  refine m_aload_n (y := yiX9_compareTo_2) dX9_compareTo_2_0 rfl ?_
  refine m_getfS (y := yiX9_compareTo_2) kc_8 2 (by decide) dX9_compareTo_2_1 q1958 hq rfl ?_
  refine m_aload_n (y := yiX9_compareTo_2) dX9_compareTo_2_4 rfl ?_
  refine m_getfS (y := yiX9_compareTo_2) kc_8 2 (by decide) dX9_compareTo_2_5 q1958 hq' rfl ?_
  refine j_icmp_eq (y := yiX9_compareTo_2) 28 dX9_compareTo_2_8 (by decide) ⟨⟨by omega, by omega⟩, ⟨by omega, by omega⟩⟩ (fun c8 => ?_) (fun c8 => ?_)
  · refine m_aload_n (y := yiX9_compareTo_2) dX9_compareTo_2_28 rfl ?_
    refine m_getfS (y := yiX9_compareTo_2) kc_8 0 (by decide) dX9_compareTo_2_29 q1954 hq rfl ?_
    refine m_getfN (y := yiX9_compareTo_2) kc_7 0 (by decide) dX9_compareTo_2_32 q1897 hr rfl ?_
    refine m_aload_n (y := yiX9_compareTo_2) dX9_compareTo_2_35 rfl ?_
    refine m_getfS (y := yiX9_compareTo_2) kc_8 0 (by decide) dX9_compareTo_2_36 q1954 hq' rfl ?_
    refine m_getfN (y := yiX9_compareTo_2) kc_7 0 (by decide) dX9_compareTo_2_39 q1897 hr' rfl ?_
    refine j_icmp_eq (y := yiX9_compareTo_2) 68 dX9_compareTo_2_42 (by decide) ⟨⟨by omega, by omega⟩, ⟨by omega, by omega⟩⟩ (fun c42 => ?_) (fun c42 => ?_)
    · refine m_aload_n (y := yiX9_compareTo_2) dX9_compareTo_2_68 rfl ?_
      refine m_getfS (y := yiX9_compareTo_2) kc_8 1 (by decide) dX9_compareTo_2_69 q1956 hq rfl ?_
      refine m_aload_n (y := yiX9_compareTo_2) dX9_compareTo_2_72 rfl ?_
      refine m_getfS (y := yiX9_compareTo_2) kc_8 1 (by decide) dX9_compareTo_2_73 q1956 hq' rfl ?_
      refine j_icmp_ge (y := yiX9_compareTo_2) 83 dX9_compareTo_2_76 (by decide) ⟨⟨by omega, by omega⟩, ⟨by omega, by omega⟩⟩ (fun c76 => ?_) (fun c76 => ?_)
      · refine m_aload_n (y := yiX9_compareTo_2) dX9_compareTo_2_83 rfl ?_
        refine m_getfS (y := yiX9_compareTo_2) kc_8 1 (by decide) dX9_compareTo_2_84 q1956 hq rfl ?_
        refine m_aload_n (y := yiX9_compareTo_2) dX9_compareTo_2_87 rfl ?_
        refine m_getfS (y := yiX9_compareTo_2) kc_8 1 (by decide) dX9_compareTo_2_88 q1956 hq' rfl ?_
        refine j_icmp_le (y := yiX9_compareTo_2) 98 dX9_compareTo_2_91 (by decide) ⟨⟨by omega, by omega⟩, ⟨by omega, by omega⟩⟩ (fun c91 => ?_) (fun c91 => ?_)
        · refine j_iconst (y := yiX9_compareTo_2) dX9_compareTo_2_98 ?_
          subst hQ; exact j_iret (y := yiX9_compareTo_2) dX9_compareTo_2_99 rfl (⟨rfl, by { unfold sgn rk3; omega }⟩)
        · refine j_iconst (y := yiX9_compareTo_2) dX9_compareTo_2_94 ?_
          refine m_goto (y := yiX9_compareTo_2) 99 dX9_compareTo_2_95 (by decide) ?_
          subst hQ; exact j_iret (y := yiX9_compareTo_2) dX9_compareTo_2_99 rfl (⟨rfl, by { unfold sgn rk3; omega }⟩)
      · refine j_iconst (y := yiX9_compareTo_2) dX9_compareTo_2_79 ?_
        refine m_goto (y := yiX9_compareTo_2) 99 dX9_compareTo_2_80 (by decide) ?_
        subst hQ; exact j_iret (y := yiX9_compareTo_2) dX9_compareTo_2_99 rfl (⟨rfl, by { unfold sgn rk3; omega }⟩)
    · refine m_aload_n (y := yiX9_compareTo_2) dX9_compareTo_2_45 rfl ?_
      refine m_getfS (y := yiX9_compareTo_2) kc_8 0 (by decide) dX9_compareTo_2_46 q1954 hq rfl ?_
      refine m_getfN (y := yiX9_compareTo_2) kc_7 0 (by decide) dX9_compareTo_2_49 q1897 hr rfl ?_
      refine m_aload_n (y := yiX9_compareTo_2) dX9_compareTo_2_52 rfl ?_
      refine m_getfS (y := yiX9_compareTo_2) kc_8 0 (by decide) dX9_compareTo_2_53 q1954 hq' rfl ?_
      refine m_getfN (y := yiX9_compareTo_2) kc_7 0 (by decide) dX9_compareTo_2_56 q1897 hr' rfl ?_
      refine j_icmp_ge (y := yiX9_compareTo_2) 66 dX9_compareTo_2_59 (by decide) ⟨⟨by omega, by omega⟩, ⟨by omega, by omega⟩⟩ (fun c59 => ?_) (fun c59 => ?_)
      · refine j_iconst (y := yiX9_compareTo_2) dX9_compareTo_2_66 ?_
        subst hQ; exact j_iret (y := yiX9_compareTo_2) dX9_compareTo_2_67 rfl (⟨rfl, by { unfold sgn rk3; omega }⟩)
      · refine j_iconst (y := yiX9_compareTo_2) dX9_compareTo_2_62 ?_
        refine m_goto (y := yiX9_compareTo_2) 67 dX9_compareTo_2_63 (by decide) ?_
        subst hQ; exact j_iret (y := yiX9_compareTo_2) dX9_compareTo_2_67 rfl (⟨rfl, by { unfold sgn rk3; omega }⟩)
  · refine m_aload_n (y := yiX9_compareTo_2) dX9_compareTo_2_11 rfl ?_
    refine m_getfS (y := yiX9_compareTo_2) kc_8 2 (by decide) dX9_compareTo_2_12 q1958 hq rfl ?_
    refine m_aload_n (y := yiX9_compareTo_2) dX9_compareTo_2_15 rfl ?_
    refine m_getfS (y := yiX9_compareTo_2) kc_8 2 (by decide) dX9_compareTo_2_16 q1958 hq' rfl ?_
    refine j_icmp_ge (y := yiX9_compareTo_2) 26 dX9_compareTo_2_19 (by decide) ⟨⟨by omega, by omega⟩, ⟨by omega, by omega⟩⟩ (fun c19 => ?_) (fun c19 => ?_)
    · refine j_iconst (y := yiX9_compareTo_2) dX9_compareTo_2_26 ?_
      subst hQ; exact j_iret (y := yiX9_compareTo_2) dX9_compareTo_2_27 rfl (⟨rfl, by { unfold sgn rk3; omega }⟩)
    · refine j_iconst (y := yiX9_compareTo_2) dX9_compareTo_2_22 ?_
      refine m_goto (y := yiX9_compareTo_2) 27 dX9_compareTo_2_23 (by decide) ?_
      subst hQ; exact j_iret (y := yiX9_compareTo_2) dX9_compareTo_2_27 rfl (⟨rfl, by { unfold sgn rk3; omega }⟩)
theorem c_X9_compareTo (K : KT) (d : Nat) (h : MH) (q q' : Nat) (k u c k' u' c' : Int) (hd : 1 ≤ d) (hq : RdC h k u c q) (hq' : RdC h k' u' c' q') (h1 : (-10000 ≤ k ∧ k ≤ 10000) ∧ (-10000 ≤ k' ∧ k' ≤ 10000)) (h2 : (0 ≤ u ∧ u < 100) ∧ (0 ≤ u' ∧ u' < 100)) (h3 : (0 ≤ c ∧ c < 10) ∧ (0 ≤ c' ∧ c' < 10)) : Mt K yiX9_compareTo d [.ref q, .ref q'] h (Rz fun v h' => h = h' ∧ sgn (rk3 k u c) (rk3 k' u' c') v) := by
  have hq0 := hq
  have hq0' := hq'
  obtain ⟨ru, tr, sh, sa, aa, da, hq, hr⟩ := hq
  obtain ⟨ru', tr', sh', sa', aa', da', hq', hr'⟩ := hq'
  refine mt_ofQ (by decide) (Nat.le_of_ble_eq_true rfl) (fun Q hQ => ?_)
  show MW K yiX9_compareTo d h 0 [some (.ref q), some (.ref q')] [] Q
  refine mw_wf (fun hwf => ?_)
  have l_hq := hwf _ _ hq
  have l_hq' := hwf _ _ hq'
  refine m_aload_n (y := yiX9_compareTo) dX9_compareTo_0 rfl ?_
  refine m_aload_n (y := yiX9_compareTo) dX9_compareTo_1 rfl ?_
  refine m_cast (y := yiX9_compareTo) dX9_compareTo_2 hq' rfl q1540 (Or.inl rfl) ?_
  refine m_invV (y := yiX9_compareTo) (rB := (RX9, TX9, 3)) [(.ref q')] dX9_compareTo_5 hq rfl q1541 q1542 q1543 q168 q1544 rfl (c_X9_compareTo_2 K 0 h q q' k u c k' u' c' hq0 hq0' h1 h2 h3) pdX9_compareTo_2 ⟨Nat.le_of_ble_eq_true rfl, by decide, by omega⟩ (kk_z fun r5 h5 q5 => ?_) kx_z
  obtain ⟨rfl, e5⟩ := q5
  subst hQ; exact j_iret (y := yiX9_compareTo) dX9_compareTo_8 rfl (⟨rfl, e5⟩)
/-- a place: (minute, rank); its run, if it is in one -/
def PlC (h : MH) (mi rank : Int) (q : Nat) : Prop := ∃ (s c : Int), (h.2.2 q = some (true, .inr (10, [vi mi, vi s, .null, vi c])) ∧ rank = s) ∨ ∃ (ru : Nat) (u tr sh : Int) (sa aa da : Nat), h.2.2 q = some (true, .inr (10, [vi mi, vi s, .ref ru, vi c])) ∧ h.2.2 ru = some (true, .inr (7, [vi u, vi tr, vi sh, .ref sa, .ref aa, .ref da])) ∧ rank = 12 + 8 * u + c
theorem c_X11_rank (K : KT) (d : Nat) (h : MH) (mi rank : Int) (q : Nat) (hq : PlC h mi rank q) : Mt K yiX11_rank d [.ref q] h (Rz fun v h' => h = h' ∧ rank = v) := by
  obtain ⟨s, c, ⟨hq, rfl⟩ | ⟨ru, u, tr, sh, sa, aa, da, hq, hr, rfl⟩⟩ := hq
  · refine mt_ofQ (by decide) (Nat.le_of_ble_eq_true rfl) (fun Q hQ => ?_)
    show MW K yiX11_rank d h 0 [some (.ref q)] [] Q
    refine mw_wf (fun hwf => ?_)
    have l_hq := hwf _ _ hq
    refine m_aload_n (y := yiX11_rank) dX11_rank_0 rfl ?_
    refine m_getfS (y := yiX11_rank) kc_10 2 (by decide) dX11_rank_1 q2213 hq rfl ?_
    refine m_ifnonnull (y := yiX11_rank) (x := none) 14 dX11_rank_4 (by decide) (fun _ h9 => nomatch h9) (fun _ => ?_)
    refine m_aload_n (y := yiX11_rank) dX11_rank_7 rfl ?_
    refine m_getfS (y := yiX11_rank) kc_10 1 (by decide) dX11_rank_8 q2211 hq rfl ?_
    refine m_goto (y := yiX11_rank) 32 dX11_rank_11 (by decide) ?_
    subst hQ; exact j_iret (y := yiX11_rank) dX11_rank_32 rfl (⟨rfl, rfl⟩)
  · refine mt_ofQ (by decide) (Nat.le_of_ble_eq_true rfl) (fun Q hQ => ?_)
    show MW K yiX11_rank d h 0 [some (.ref q)] [] Q
    refine mw_wf (fun hwf => ?_)
    have l_hq := hwf _ _ hq
    have l_hr := hwf _ _ hr
    refine m_aload_n (y := yiX11_rank) dX11_rank_0 rfl ?_
    refine m_getfS (y := yiX11_rank) kc_10 2 (by decide) dX11_rank_1 q2213 hq rfl ?_
    refine m_ifnonnull (y := yiX11_rank) (x := (some ru)) 14 dX11_rank_4 (by decide) (fun _ _ => ?_) (fun h9 => nomatch h9)
    refine j_bipush (y := yiX11_rank) dX11_rank_14 (by decide) ?_
    refine j_bipush (y := yiX11_rank) dX11_rank_16 (by decide) ?_
    refine m_aload_n (y := yiX11_rank) dX11_rank_18 rfl ?_
    refine m_getfS (y := yiX11_rank) kc_10 2 (by decide) dX11_rank_19 q2213 hq rfl ?_
    refine m_getfN (y := yiX11_rank) kc_7 0 (by decide) dX11_rank_22 q1896 hr rfl ?_
    refine j_imul (y := yiX11_rank) dX11_rank_25 ?_
    refine j_iadd (y := yiX11_rank) dX11_rank_26 ?_
    refine m_aload_n (y := yiX11_rank) dX11_rank_27 rfl ?_
    refine m_getfS (y := yiX11_rank) kc_10 3 (by decide) dX11_rank_28 q2215 hq rfl ?_
    refine j_iadd (y := yiX11_rank) dX11_rank_31 ?_
    subst hQ; exact j_iret (y := yiX11_rank) dX11_rank_32 rfl (⟨rfl, rfl⟩)
def rk2 (mi rank : Int) : Int := 1000 * mi + rank
theorem PlC.cell {h : MH} {mi rank : Int} {q : Nat} (hq : PlC h mi rank q) : ∃ (s c : Int) (x : Value), h.2.2 q = some (true, .inr (10, [vi mi, vi s, x, vi c])) := by
  obtain ⟨s, c, ⟨hq, -⟩ | ⟨ru, u, tr, sh, sa, aa, da, hq, -, -⟩⟩ := hq
  · exact ⟨s, c, _, hq⟩
  · exact ⟨s, c, _, hq⟩
theorem c_X11_compareTo_2 (K : KT) (d : Nat) (h : MH) (q q' : Nat) (mi rank mi' rank' : Int) (hd : 1 ≤ d) (hq : PlC h mi rank q) (hq' : PlC h mi' rank' q') (h1 : (-100000 ≤ mi ∧ mi ≤ 100000) ∧ (-100000 ≤ mi' ∧ mi' ≤ 100000)) (h2 : (0 ≤ rank ∧ rank < 1000) ∧ (0 ≤ rank' ∧ rank' < 1000)) : Mt K yiX11_compareTo_2 d [.ref q, .ref q'] h (Rz fun v h' => h = h' ∧ sgn (rk2 mi rank) (rk2 mi' rank') v) := by
  obtain ⟨s, c, x, e1⟩ := hq.cell
  obtain ⟨s', c', x', e1'⟩ := hq'.cell
  refine mt_ofQ (by decide) (Nat.le_of_ble_eq_true rfl) (fun Q hQ => ?_)
  show MW K yiX11_compareTo_2 d h 0 [some (.ref q), some (.ref q')] [] Q
  refine mw_wf (fun hwf => ?_)
  have l_e1 := hwf _ _ e1
  have l_e1' := hwf _ _ e1'
  refine m_aload_n (y := yiX11_compareTo_2) dX11_compareTo_2_0 rfl ?_
  refine m_getfS (y := yiX11_compareTo_2) kc_10 0 (by decide) dX11_compareTo_2_1 q2209 e1 rfl ?_
  refine m_aload_n (y := yiX11_compareTo_2) dX11_compareTo_2_4 rfl ?_
  refine m_getfS (y := yiX11_compareTo_2) kc_10 0 (by decide) dX11_compareTo_2_5 q2209 e1' rfl ?_
  refine j_icmp_eq (y := yiX11_compareTo_2) 28 dX11_compareTo_2_8 (by decide) ⟨⟨by omega, by omega⟩, ⟨by omega, by omega⟩⟩ (fun c8 => ?_) (fun c8 => ?_)
  · refine m_aload_n (y := yiX11_compareTo_2) dX11_compareTo_2_28 rfl ?_
    refine m_invV (y := yiX11_compareTo_2) (rB := (RX11, TX11, 4)) [] dX11_compareTo_2_29 e1 rfl q1529 q1531 qs21 q178 q1533 rfl (c_X11_rank K 0 h mi rank q hq) pdX11_rank ⟨Nat.le_of_ble_eq_true rfl, by decide, by omega⟩ (kk_z fun r29 h29 q29 => ?_) kx_z
    obtain ⟨rfl, rfl⟩ := q29
    refine mw_top (x' := rank) rfl ?_
    refine m_aload_n (y := yiX11_compareTo_2) dX11_compareTo_2_32 rfl ?_
    refine m_invV (y := yiX11_compareTo_2) (rB := (RX11, TX11, 4)) [] dX11_compareTo_2_33 e1' rfl q1529 q1531 qs21 q178 q1533 rfl (c_X11_rank K 0 h mi' rank' q' hq') pdX11_rank ⟨Nat.le_of_ble_eq_true rfl, by decide, by omega⟩ (kk_z fun r33 h33 q33 => ?_) kx_z
    obtain ⟨rfl, rfl⟩ := q33
    refine mw_top (x' := rank') rfl ?_
    refine j_icmp_ge (y := yiX11_compareTo_2) 43 dX11_compareTo_2_36 (by decide) ⟨⟨by omega, by omega⟩, ⟨by omega, by omega⟩⟩ (fun c36 => ?_) (fun c36 => ?_)
    · refine m_aload_n (y := yiX11_compareTo_2) dX11_compareTo_2_43 rfl ?_
      refine m_invV (y := yiX11_compareTo_2) (rB := (RX11, TX11, 4)) [] dX11_compareTo_2_44 e1 rfl q1529 q1531 qs21 q178 q1533 rfl (c_X11_rank K 0 h mi rank q hq) pdX11_rank ⟨Nat.le_of_ble_eq_true rfl, by decide, by omega⟩ (kk_z fun r44 h44 q44 => ?_) kx_z
      obtain ⟨rfl, rfl⟩ := q44
      refine mw_top (x' := rank) rfl ?_
      refine m_aload_n (y := yiX11_compareTo_2) dX11_compareTo_2_47 rfl ?_
      refine m_invV (y := yiX11_compareTo_2) (rB := (RX11, TX11, 4)) [] dX11_compareTo_2_48 e1' rfl q1529 q1531 qs21 q178 q1533 rfl (c_X11_rank K 0 h mi' rank' q' hq') pdX11_rank ⟨Nat.le_of_ble_eq_true rfl, by decide, by omega⟩ (kk_z fun r48 h48 q48 => ?_) kx_z
      obtain ⟨rfl, rfl⟩ := q48
      refine mw_top (x' := rank') rfl ?_
      refine j_icmp_le (y := yiX11_compareTo_2) 58 dX11_compareTo_2_51 (by decide) ⟨⟨by omega, by omega⟩, ⟨by omega, by omega⟩⟩ (fun c51 => ?_) (fun c51 => ?_)
      · refine j_iconst (y := yiX11_compareTo_2) dX11_compareTo_2_58 ?_
        subst hQ; exact j_iret (y := yiX11_compareTo_2) dX11_compareTo_2_59 rfl (⟨rfl, by { unfold sgn rk2; omega }⟩)
      · refine j_iconst (y := yiX11_compareTo_2) dX11_compareTo_2_54 ?_
        refine m_goto (y := yiX11_compareTo_2) 59 dX11_compareTo_2_55 (by decide) ?_
        subst hQ; exact j_iret (y := yiX11_compareTo_2) dX11_compareTo_2_59 rfl (⟨rfl, by { unfold sgn rk2; omega }⟩)
    · refine j_iconst (y := yiX11_compareTo_2) dX11_compareTo_2_39 ?_
      refine m_goto (y := yiX11_compareTo_2) 59 dX11_compareTo_2_40 (by decide) ?_
      subst hQ; exact j_iret (y := yiX11_compareTo_2) dX11_compareTo_2_59 rfl (⟨rfl, by { unfold sgn rk2; omega }⟩)
  · refine m_aload_n (y := yiX11_compareTo_2) dX11_compareTo_2_11 rfl ?_
    refine m_getfS (y := yiX11_compareTo_2) kc_10 0 (by decide) dX11_compareTo_2_12 q2209 e1 rfl ?_
    refine m_aload_n (y := yiX11_compareTo_2) dX11_compareTo_2_15 rfl ?_
    refine m_getfS (y := yiX11_compareTo_2) kc_10 0 (by decide) dX11_compareTo_2_16 q2209 e1' rfl ?_
    refine j_icmp_ge (y := yiX11_compareTo_2) 26 dX11_compareTo_2_19 (by decide) ⟨⟨by omega, by omega⟩, ⟨by omega, by omega⟩⟩ (fun c19 => ?_) (fun c19 => ?_)
    · refine j_iconst (y := yiX11_compareTo_2) dX11_compareTo_2_26 ?_
      subst hQ; exact j_iret (y := yiX11_compareTo_2) dX11_compareTo_2_27 rfl (⟨rfl, by { unfold sgn rk2; omega }⟩)
    · refine j_iconst (y := yiX11_compareTo_2) dX11_compareTo_2_22 ?_
      refine m_goto (y := yiX11_compareTo_2) 27 dX11_compareTo_2_23 (by decide) ?_
      subst hQ; exact j_iret (y := yiX11_compareTo_2) dX11_compareTo_2_27 rfl (⟨rfl, by { unfold sgn rk2; omega }⟩)
theorem c_X11_compareTo (K : KT) (d : Nat) (h : MH) (q q' : Nat) (mi rank mi' rank' : Int) (hd : 2 ≤ d) (hq : PlC h mi rank q) (hq' : PlC h mi' rank' q') (h1 : (-100000 ≤ mi ∧ mi ≤ 100000) ∧ (-100000 ≤ mi' ∧ mi' ≤ 100000)) (h2 : (0 ≤ rank ∧ rank < 1000) ∧ (0 ≤ rank' ∧ rank' < 1000)) : Mt K yiX11_compareTo d [.ref q, .ref q'] h (Rz fun v h' => h = h' ∧ sgn (rk2 mi rank) (rk2 mi' rank') v) := by
  obtain ⟨s, c, x, e1⟩ := hq.cell
  obtain ⟨s', c', x', e1'⟩ := hq'.cell
  refine mt_ofQ (by decide) (Nat.le_of_ble_eq_true rfl) (fun Q hQ => ?_)
  show MW K yiX11_compareTo d h 0 [some (.ref q), some (.ref q')] [] Q
  refine mw_wf (fun hwf => ?_)
  have l_e1 := hwf _ _ e1
  have l_e1' := hwf _ _ e1'
  refine m_aload_n (y := yiX11_compareTo) dX11_compareTo_0 rfl ?_
  refine m_aload_n (y := yiX11_compareTo) dX11_compareTo_1 rfl ?_
  refine m_cast (y := yiX11_compareTo) dX11_compareTo_2 e1' rfl q1524 (Or.inl rfl) ?_
  refine m_invV (y := yiX11_compareTo) (rB := (RX11, TX11, 4)) [(.ref q')] dX11_compareTo_5 e1 rfl q1525 q1526 q1527 q178 q1528 rfl (c_X11_compareTo_2 K 1 h q q' mi rank mi' rank' (by omega) hq hq' h1 h2) pdX11_compareTo_2 ⟨Nat.le_of_ble_eq_true rfl, by decide, by omega⟩ (kk_z fun r5 h5 q5 => ?_) kx_z
  obtain ⟨rfl, e5⟩ := q5
  subst hQ; exact j_iret (y := yiX11_compareTo) dX11_compareTo_8 rfl (⟨rfl, e5⟩)
theorem c_X11_initN (K : KT) (d : Nat) (h : MH) (q : Nat) (mi s c : Int) (hd : 1 ≤ d) (hq : h.2.2 q = some (true, .inr (10, [vi 0, vi 0, .null, vi 0]))) : Mt K yiX11_init d [.ref q, vi mi, vi s, .null, vi c] h (Rv fun h' => Hp h h' q (true, .inr (10, [vi mi, vi s, .null, vi c])) 0 0) := by
  refine mt_ofQ (by decide) (Nat.le_of_ble_eq_true rfl) (fun Q hQ => ?_)
  show MW K yiX11_init d h 0 [some (.ref q), some (vi mi), some (vi s), some .null, some (vi c)] [] Q
  refine mw_wf (fun hwf => ?_)
  have l_hq := hwf _ _ hq
  refine m_aload_n (y := yiX11_init) dX11_init_0 rfl ?_
  refine m_objInit (y := yiX11_init) dX11_init_1 q2208 q195 q196 ⟨Nat.le_of_ble_eq_true rfl, by omega⟩ ?_
  refine m_aload_n (y := yiX11_init) dX11_init_4 rfl ?_
  refine j_iload_n (y := yiX11_init) dX11_init_5 rfl ?_
  refine m_putfF (y := yiX11_init) kc_10 0 (by decide) dX11_init_6 q2209 rfl rfl rfl hq rfl rfl (hp_put fun g1 g1H => ?_)
  have hq : g1.2.2 q = some (true, .inr (10, [(vi mi), (vi 0), .null, (vi 0)])) := g1H.2.2.1
  have g11 := g1H.1
  have g12 := g1H.2.1
  refine m_aload_n (y := yiX11_init) dX11_init_9 rfl ?_
  refine j_iload_n (y := yiX11_init) dX11_init_10 rfl ?_
  refine m_putfF (y := yiX11_init) kc_10 1 (by decide) dX11_init_11 q2211 rfl rfl rfl hq rfl rfl (hp_put fun g2 g2H => ?_)
  have hq : g2.2.2 q = some (true, .inr (10, [(vi mi), (vi s), .null, (vi 0)])) := g2H.2.2.1
  have g21 := g2H.1
  have g22 := g2H.2.1
  refine m_aload_n (y := yiX11_init) dX11_init_14 rfl ?_
  refine m_aload_nN (y := yiX11_init) dX11_init_15 rfl ?_
  refine m_putfF (y := yiX11_init) kc_10 2 (by decide) dX11_init_16 q2213 rfl rfl rfl hq rfl rfl (hp_put fun g3 g3H => ?_)
  have hq : g3.2.2 q = some (true, .inr (10, [(vi mi), (vi s), .null, (vi 0)])) := g3H.2.2.1
  have g31 := g3H.1
  have g32 := g3H.2.1
  refine m_aload_n (y := yiX11_init) dX11_init_19 rfl ?_
  refine j_iload (y := yiX11_init) dX11_init_20 rfl ?_
  refine m_putfF (y := yiX11_init) kc_10 3 (by decide) dX11_init_22 q2215 rfl rfl rfl hq rfl rfl (hp_put fun g4 g4H => ?_)
  have hq : g4.2.2 q = some (true, .inr (10, [(vi mi), (vi s), .null, (vi c)])) := g4H.2.2.1
  have g41 := g4H.1
  have g42 := g4H.2.1
  subst hQ; exact j_vret (y := yiX11_init) dX11_init_25 rfl (⟨by omega, by omega, hq, fun b hb => (g4H.2.2.2 b hb).trans ((g3H.2.2.2 b hb).trans ((g2H.2.2.2 b hb).trans (g1H.2.2.2 b hb)))⟩)
theorem c_X11_initR (K : KT) (d : Nat) (h : MH) (q ru : Nat) (mi s c : Int) (hd : 1 ≤ d) (hq : h.2.2 q = some (true, .inr (10, [vi 0, vi 0, .null, vi 0]))) : Mt K yiX11_init d [.ref q, vi mi, vi s, .ref ru, vi c] h (Rv fun h' => Hp h h' q (true, .inr (10, [vi mi, vi s, .ref ru, vi c])) 0 0) := by
  refine mt_ofQ (by decide) (Nat.le_of_ble_eq_true rfl) (fun Q hQ => ?_)
  show MW K yiX11_init d h 0 [some (.ref q), some (vi mi), some (vi s), some (.ref ru), some (vi c)] [] Q
  refine mw_wf (fun hwf => ?_)
  have l_hq := hwf _ _ hq
  refine m_aload_n (y := yiX11_init) dX11_init_0 rfl ?_
  refine m_objInit (y := yiX11_init) dX11_init_1 q2208 q195 q196 ⟨Nat.le_of_ble_eq_true rfl, by omega⟩ ?_
  refine m_aload_n (y := yiX11_init) dX11_init_4 rfl ?_
  refine j_iload_n (y := yiX11_init) dX11_init_5 rfl ?_
  refine m_putfF (y := yiX11_init) kc_10 0 (by decide) dX11_init_6 q2209 rfl rfl rfl hq rfl rfl (hp_put fun g1 g1H => ?_)
  have hq : g1.2.2 q = some (true, .inr (10, [(vi mi), (vi 0), .null, (vi 0)])) := g1H.2.2.1
  have g11 := g1H.1
  have g12 := g1H.2.1
  refine m_aload_n (y := yiX11_init) dX11_init_9 rfl ?_
  refine j_iload_n (y := yiX11_init) dX11_init_10 rfl ?_
  refine m_putfF (y := yiX11_init) kc_10 1 (by decide) dX11_init_11 q2211 rfl rfl rfl hq rfl rfl (hp_put fun g2 g2H => ?_)
  have hq : g2.2.2 q = some (true, .inr (10, [(vi mi), (vi s), .null, (vi 0)])) := g2H.2.2.1
  have g21 := g2H.1
  have g22 := g2H.2.1
  refine m_aload_n (y := yiX11_init) dX11_init_14 rfl ?_
  refine m_aload_n (y := yiX11_init) dX11_init_15 rfl ?_
  refine m_putfF (y := yiX11_init) kc_10 2 (by decide) dX11_init_16 q2213 rfl rfl rfl hq rfl rfl (hp_put fun g3 g3H => ?_)
  have hq : g3.2.2 q = some (true, .inr (10, [(vi mi), (vi s), (.ref ru), (vi 0)])) := g3H.2.2.1
  have g31 := g3H.1
  have g32 := g3H.2.1
  refine m_aload_n (y := yiX11_init) dX11_init_19 rfl ?_
  refine j_iload (y := yiX11_init) dX11_init_20 rfl ?_
  refine m_putfF (y := yiX11_init) kc_10 3 (by decide) dX11_init_22 q2215 rfl rfl rfl hq rfl rfl (hp_put fun g4 g4H => ?_)
  have hq : g4.2.2 q = some (true, .inr (10, [(vi mi), (vi s), (.ref ru), (vi c)])) := g4H.2.2.1
  have g41 := g4H.1
  have g42 := g4H.2.1
  subst hQ; exact j_vret (y := yiX11_init) dX11_init_25 rfl (⟨by omega, by omega, hq, fun b hb => (g4H.2.2.2 b hb).trans ((g3H.2.2.2 b hb).trans ((g2H.2.2.2 b hb).trans (g1H.2.2.2 b hb)))⟩)
