/-! the sort as a whole, of less than 64 rides -/
theorem c_minRun (K : KT) (d : Nat) (h : MH) (n : Int) (hB : kV K 12 = vi 1) (hn : 32 ≤ n ∧ n < 64) : Mt K yiJ35_minRunLength d [vi n] h (Rz fun v h' => h = h' ∧ n ≤ 2 * v ∧ v ≤ 32 ∧ 16 ≤ v) := by
  refine mt_ofQ (by decide) (Nat.le_of_ble_eq_true rfl) (fun Q hQ => ?_)
  show MW K yiJ35_minRunLength d h 0 [some (vi n), none] [] Q
  refine mw_wf (fun hwf => ?_)
  refine m_gets (y := yiJ35_minRunLength) (ref := "") 12 rfl dJ35_minRunLength_0 q1989 hB ?_
  refine j_if_ne (y := yiJ35_minRunLength) 18 dJ35_minRunLength_3 (by decide) ⟨by decide, by decide⟩ (fun _ => ?_) (fun c => absurd c (by decide))
  refine j_iconst (y := yiJ35_minRunLength) dJ35_minRunLength_18 ?_
  refine j_istore_n (y := yiJ35_minRunLength) [some (vi n), some (vi 0)] dJ35_minRunLength_19 (by decide) rfl rfl ?_
  have L20 : ∀ (N : Nat) (m r : Int), m.toNat = N → ((r = 0 ∨ r = 1) ∧ ((m = n ∧ r = 0) ∨ (m = n / 2 ∧ r = n % 2))) → (16 ≤ m) → MW K yiJ35_minRunLength d h 20 [some (vi m), some (vi r)] [] Q := by
    intro N
    induction N using Nat.strongRecOn with
    | _ N ih20 =>
    intro m r hN20 hm hm2
    refine j_iload_n (y := yiJ35_minRunLength) dJ35_minRunLength_20 rfl ?_
    refine j_bipush (y := yiJ35_minRunLength) dJ35_minRunLength_21 (by decide) ?_
    refine j_icmp_lt (y := yiJ35_minRunLength) 39 dJ35_minRunLength_23 (by decide) ⟨⟨by omega, by omega⟩, ⟨by omega, by omega⟩⟩ (fun c23 => ?_) (fun c23 => ?_)
    · refine j_iload_n (y := yiJ35_minRunLength) dJ35_minRunLength_39 rfl ?_
      refine j_iload_n (y := yiJ35_minRunLength) dJ35_minRunLength_40 rfl ?_
      refine j_iadd (y := yiJ35_minRunLength) dJ35_minRunLength_41 ?_
      subst hQ; exact j_iret (y := yiJ35_minRunLength) dJ35_minRunLength_42 rfl (⟨rfl, by omega, by omega, by omega⟩)
    · refine j_iload_n (y := yiJ35_minRunLength) dJ35_minRunLength_26 rfl ?_
      refine j_iload_n (y := yiJ35_minRunLength) dJ35_minRunLength_27 rfl ?_
      refine j_iconst (y := yiJ35_minRunLength) dJ35_minRunLength_28 ?_
      refine j_iand1 (y := yiJ35_minRunLength) dJ35_minRunLength_29 ?_
      refine j_iorb (y := yiJ35_minRunLength) dJ35_minRunLength_30 (by omega) ?_
      refine j_istore_n (y := yiJ35_minRunLength) [some (vi m), some (vi (if r = 0 then (m % 2) else 1))] dJ35_minRunLength_31 (by decide) rfl rfl ?_
      refine j_iload_n (y := yiJ35_minRunLength) dJ35_minRunLength_32 rfl ?_
      refine j_iconst (y := yiJ35_minRunLength) dJ35_minRunLength_33 ?_
      refine j_ishr (y := yiJ35_minRunLength) dJ35_minRunLength_34 ⟨by omega, by omega⟩ ⟨by omega, by omega⟩ ?_
      refine j_istore_n (y := yiJ35_minRunLength) [some (vi (m / 2 ^ (1 : Int).toNat)), some (vi (if r = 0 then (m % 2) else 1))] dJ35_minRunLength_35 (by decide) rfl rfl ?_
      have e34 : m / 2 ^ (1 : Int).toNat = m / 2 := rfl
      refine m_goto (y := yiJ35_minRunLength) 20 dJ35_minRunLength_36 (by decide) ?_
      exact ih20 _ (by omega) _ _ rfl (by split <;> omega) (by omega)
  exact L20 _ n 0 rfl (by omega) (by omega)
theorem c_J35_init2 (K : KT) (d : Nat) (h : MH) (o e cap : Nat) (w : Bool) (f : Int → Option Nat) (hd : 1 ≤ d) (ho : h.2.2 o = some (true, .inr (26, [.null, vi 0, .null, vi 0, vi 0, vi 0, .null, .null]))) (he : h.2.2 e = some (w, oaE K cap f)) (hc : cap ≤ 60000) (hz : h.1 + 3 ≤ kC K ∧ h.2.1 + 380 ≤ kS K) : Mt K yiJ35_init d [.ref o, .ref e, .null, vi 0, vi 0] h (Rv fun h' => ∃ (tl ns t rb rl : Nat), (5 ≤ ns ∧ ns ≤ 100) ∧ (h'.1 = h.1 + 3 ∧ h.2.1 ≤ h'.2.1 ∧ h'.2.1 ≤ h.2.1 + 380) ∧ (h.1 ≤ t ∧ t < rb ∧ rb < rl) ∧ ((tl : Int) ≤ 256 ∧ ((tl : Int) = (cap : Int) / 2 ∨ tl = 256)) ∧ h'.2.2 o = some (true, .inr (26, [.ref e, vi 7, .ref t, vi 0, vi (tl : Int), vi 0, .ref rb, .ref rl])) ∧ h'.2.2 t = some (true, oaE K tl (fun _ => none)) ∧ h'.2.2 rb = some (true, ia K ns (fun _ => 0)) ∧ h'.2.2 rl = some (true, ia K ns (fun _ => 0)) ∧ ∀ q, q < h.1 ∧ q ≠ o → h'.2.2 q = h.2.2 q) := by
  have n1 : o ≠ e := ne_oa ho he
  refine mt_ofQ (by decide) (Nat.le_of_ble_eq_true rfl) (fun Q hQ => ?_)
  show MW K yiJ35_init d h 0 [some (.ref o), some (.ref e), some .null, some (vi 0), some (vi 0), none, none, none] [] Q
  refine mw_wf (fun hwf => ?_)
  have l_ho := hwf _ _ ho
  have l_he := hwf _ _ he
  have fR : ∀ b, (b < h.1 ∧ b ≠ o) → h.2.2 b = h.2.2 b := fun _ _ => rfl
  refine m_aload_n (y := yiJ35_init) dJ35_init_0 rfl ?_
  refine m_objInit (y := yiJ35_init) dJ35_init_1 q2009 q195 q196 ⟨Nat.le_of_ble_eq_true rfl, by omega⟩ ?_
  refine m_aload_n (y := yiJ35_init) dJ35_init_4 rfl ?_
  refine j_bipush (y := yiJ35_init) dJ35_init_5 (by decide) ?_
  refine m_putfS (y := yiJ35_init) kc_26 1 (by decide) dJ35_init_7 q2013 rfl ho rfl rfl (hp_put fun g1 g1H => ?_)
  have he : g1.2.2 e = some (w, oaE K cap f) := (g1H.2.2.2 _ (by omega)).trans he
  have fR : ∀ b, (b < h.1 ∧ b ≠ o) → g1.2.2 b = h.2.2 b := fun b hb => (g1H.2.2.2 b (by omega)).trans (fR b hb)
  have ho : g1.2.2 o = some (true, .inr (26, [.null, (vi 7), .null, (vi 0), (vi 0), (vi 0), .null, .null])) := g1H.2.2.1
  have g11 := g1H.1
  have g12 := g1H.2.1
  refine m_aload_n (y := yiJ35_init) dJ35_init_10 rfl ?_
  refine j_iconst (y := yiJ35_init) dJ35_init_11 ?_
  refine m_putfS (y := yiJ35_init) kc_26 5 (by decide) dJ35_init_12 q2017 rfl ho rfl rfl (hp_put fun g2 g2H => ?_)
  have he : g2.2.2 e = some (w, oaE K cap f) := (g2H.2.2.2 _ (by omega)).trans he
  have fR : ∀ b, (b < h.1 ∧ b ≠ o) → g2.2.2 b = h.2.2 b := fun b hb => (g2H.2.2.2 b (by omega)).trans (fR b hb)
  have ho : g2.2.2 o = some (true, .inr (26, [.null, (vi 7), .null, (vi 0), (vi 0), (vi 0), .null, .null])) := g2H.2.2.1
  have g21 := g2H.1
  have g22 := g2H.2.1
  refine m_aload_n (y := yiJ35_init) dJ35_init_15 rfl ?_
  refine m_aload_n (y := yiJ35_init) dJ35_init_16 rfl ?_
  refine m_putfF (y := yiJ35_init) kc_26 0 (by decide) dJ35_init_17 q2012 rfl rfl rfl ho rfl rfl (hp_put fun g3 g3H => ?_)
  have he : g3.2.2 e = some (w, oaE K cap f) := (g3H.2.2.2 _ (by omega)).trans he
  have fR : ∀ b, (b < h.1 ∧ b ≠ o) → g3.2.2 b = h.2.2 b := fun b hb => (g3H.2.2.2 b (by omega)).trans (fR b hb)
  have ho : g3.2.2 o = some (true, .inr (26, [(.ref e), (vi 7), .null, (vi 0), (vi 0), (vi 0), .null, .null])) := g3H.2.2.1
  have g31 := g3H.1
  have g32 := g3H.2.1
  refine m_aload_n (y := yiJ35_init) dJ35_init_20 rfl ?_
  refine h_alen (y := yiJ35_init) 5 (by decide) dJ35_init_21 he ?_
  refine j_istore (y := yiJ35_init) [some (.ref o), some (.ref e), some .null, some (vi 0), some (vi 0), some (vi ((cap : Nat) : Int)), none, none] dJ35_init_22 (by decide) rfl rfl ?_
  have J42 : ∀ (tv : Int), ((0 ≤ tv ∧ tv ≤ 256) ∧ (tv = (cap : Int) / 2 ∨ tv = 256)) → MW K yiJ35_init d g3 42 [some (.ref o), some (.ref e), some .null, some (vi 0), some (vi 0), some (vi (cap : Int)), none, none] [(vi tv)] Q := by
    intro tv htv
    refine j_istore (y := yiJ35_init) [some (.ref o), some (.ref e), some .null, some (vi 0), some (vi 0), some (vi (cap : Int)), some (vi tv), none] dJ35_init_42 (by decide) rfl rfl ?_
    refine m_aload_nN (y := yiJ35_init) dJ35_init_44 rfl ?_
    refine m_ifnull (y := yiJ35_init) (x := none) 64 dJ35_init_45 (by decide) (fun _ => ?_) (fun _ h9 => nomatch h9)
    refine m_aload_n (y := yiJ35_init) dJ35_init_64 rfl ?_
    refine j_iload (y := yiJ35_init) dJ35_init_65 rfl ?_
    refine h_anewO (y := yiJ35_init) dJ35_init_67 q2010 ⟨by omega, by omega⟩ ⟨by omega, by omega⟩ (hp_new fun g4 g4H => ?_)
    have ho : g4.2.2 o = some (true, .inr (26, [(.ref e), (vi 7), .null, (vi 0), (vi 0), (vi 0), .null, .null])) := (g4H.2.2.2 _ (by omega)).trans ho
    have he : g4.2.2 e = some (w, oaE K cap f) := (g4H.2.2.2 _ (by omega)).trans he
    have fR : ∀ b, (b < h.1 ∧ b ≠ o) → g4.2.2 b = h.2.2 b := fun b hb => (g4H.2.2.2 b (by omega)).trans (fR b hb)
    have fg4 : g4.2.2 g3.1 = some (true, oaE K ((tv : Int).toNat) (fun _ => none)) := g4H.2.2.1
    have g41 := g4H.1
    have g42 := g4H.2.1
    refine m_putfS (y := yiJ35_init) kc_26 2 (by decide) dJ35_init_70 q2014 rfl ho rfl rfl (hp_put fun g5 g5H => ?_)
    have he : g5.2.2 e = some (w, oaE K cap f) := (g5H.2.2.2 _ (by omega)).trans he
    have fg4 : g5.2.2 g3.1 = some (true, oaE K ((tv : Int).toNat) (fun _ => none)) := (g5H.2.2.2 _ (by omega)).trans fg4
    have fR : ∀ b, (b < h.1 ∧ b ≠ o) → g5.2.2 b = h.2.2 b := fun b hb => (g5H.2.2.2 b (by omega)).trans (fR b hb)
    have ho : g5.2.2 o = some (true, .inr (26, [(.ref e), (vi 7), (.ref g3.1), (vi 0), (vi 0), (vi 0), .null, .null])) := g5H.2.2.1
    have g51 := g5H.1
    have g52 := g5H.2.1
    refine m_aload_n (y := yiJ35_init) dJ35_init_73 rfl ?_
    refine j_iconst (y := yiJ35_init) dJ35_init_74 ?_
    refine m_putfS (y := yiJ35_init) kc_26 3 (by decide) dJ35_init_75 q2015 rfl ho rfl rfl (hp_put fun g6 g6H => ?_)
    have he : g6.2.2 e = some (w, oaE K cap f) := (g6H.2.2.2 _ (by omega)).trans he
    have fg4 : g6.2.2 g3.1 = some (true, oaE K ((tv : Int).toNat) (fun _ => none)) := (g6H.2.2.2 _ (by omega)).trans fg4
    have fR : ∀ b, (b < h.1 ∧ b ≠ o) → g6.2.2 b = h.2.2 b := fun b hb => (g6H.2.2.2 b (by omega)).trans (fR b hb)
    have ho : g6.2.2 o = some (true, .inr (26, [(.ref e), (vi 7), (.ref g3.1), (vi 0), (vi 0), (vi 0), .null, .null])) := g6H.2.2.1
    have g61 := g6H.1
    have g62 := g6H.2.1
    refine m_aload_n (y := yiJ35_init) dJ35_init_78 rfl ?_
    refine j_iload (y := yiJ35_init) dJ35_init_79 rfl ?_
    refine m_putfS (y := yiJ35_init) kc_26 4 (by decide) dJ35_init_81 q2016 rfl ho rfl rfl (hp_put fun g7 g7H => ?_)
    have he : g7.2.2 e = some (w, oaE K cap f) := (g7H.2.2.2 _ (by omega)).trans he
    have fg4 : g7.2.2 g3.1 = some (true, oaE K ((tv : Int).toNat) (fun _ => none)) := (g7H.2.2.2 _ (by omega)).trans fg4
    have fR : ∀ b, (b < h.1 ∧ b ≠ o) → g7.2.2 b = h.2.2 b := fun b hb => (g7H.2.2.2 b (by omega)).trans (fR b hb)
    have ho : g7.2.2 o = some (true, .inr (26, [(.ref e), (vi 7), (.ref g3.1), (vi 0), (vi tv), (vi 0), .null, .null])) := g7H.2.2.1
    have g71 := g7H.1
    have g72 := g7H.2.1
    refine m_goto (y := yiJ35_init) 103 dJ35_init_84 (by decide) ?_
    have J141 : ∀ (nv : Int), (5 ≤ nv ∧ nv ≤ 49) → MW K yiJ35_init d g7 141 [some (.ref o), some (.ref e), some .null, some (vi 0), some (vi 0), some (vi (cap : Int)), some (vi tv), none] [(vi nv)] Q := by
      intro nv hnv
      refine j_istore (y := yiJ35_init) [some (.ref o), some (.ref e), some .null, some (vi 0), some (vi 0), some (vi (cap : Int)), some (vi tv), some (vi nv)] dJ35_init_141 (by decide) rfl rfl ?_
      refine m_aload_n (y := yiJ35_init) dJ35_init_143 rfl ?_
      refine j_iload (y := yiJ35_init) dJ35_init_144 rfl ?_
      refine h_newa0 (y := yiJ35_init) dJ35_init_146 q229 ⟨by omega, by omega⟩ ⟨by omega, by omega⟩ (hp_new fun g8 g8H => ?_)
      have ho : g8.2.2 o = some (true, .inr (26, [(.ref e), (vi 7), (.ref g3.1), (vi 0), (vi tv), (vi 0), .null, .null])) := (g8H.2.2.2 _ (by omega)).trans ho
      have he : g8.2.2 e = some (w, oaE K cap f) := (g8H.2.2.2 _ (by omega)).trans he
      have fg4 : g8.2.2 g3.1 = some (true, oaE K ((tv : Int).toNat) (fun _ => none)) := (g8H.2.2.2 _ (by omega)).trans fg4
      have fR : ∀ b, (b < h.1 ∧ b ≠ o) → g8.2.2 b = h.2.2 b := fun b hb => (g8H.2.2.2 b (by omega)).trans (fR b hb)
      have fg8 : g8.2.2 g7.1 = some (true, ia K ((nv : Int).toNat) (fun _ => 0)) := g8H.2.2.1
      have g81 := g8H.1
      have g82 := g8H.2.1
      refine m_putfF (y := yiJ35_init) kc_26 6 (by decide) dJ35_init_148 q2018 rfl rfl rfl ho rfl rfl (hp_put fun g9 g9H => ?_)
      have he : g9.2.2 e = some (w, oaE K cap f) := (g9H.2.2.2 _ (by omega)).trans he
      have fg4 : g9.2.2 g3.1 = some (true, oaE K ((tv : Int).toNat) (fun _ => none)) := (g9H.2.2.2 _ (by omega)).trans fg4
      have fg8 : g9.2.2 g7.1 = some (true, ia K ((nv : Int).toNat) (fun _ => 0)) := (g9H.2.2.2 _ (by omega)).trans fg8
      have fR : ∀ b, (b < h.1 ∧ b ≠ o) → g9.2.2 b = h.2.2 b := fun b hb => (g9H.2.2.2 b (by omega)).trans (fR b hb)
      have ho : g9.2.2 o = some (true, .inr (26, [(.ref e), (vi 7), (.ref g3.1), (vi 0), (vi tv), (vi 0), (.ref g7.1), .null])) := g9H.2.2.1
      have g91 := g9H.1
      have g92 := g9H.2.1
      refine m_aload_n (y := yiJ35_init) dJ35_init_151 rfl ?_
      refine j_iload (y := yiJ35_init) dJ35_init_152 rfl ?_
      refine h_newa0 (y := yiJ35_init) dJ35_init_154 q229 ⟨by omega, by omega⟩ ⟨by omega, by omega⟩ (hp_new fun g10 g10H => ?_)
      have ho : g10.2.2 o = some (true, .inr (26, [(.ref e), (vi 7), (.ref g3.1), (vi 0), (vi tv), (vi 0), (.ref g7.1), .null])) := (g10H.2.2.2 _ (by omega)).trans ho
      have he : g10.2.2 e = some (w, oaE K cap f) := (g10H.2.2.2 _ (by omega)).trans he
      have fg4 : g10.2.2 g3.1 = some (true, oaE K ((tv : Int).toNat) (fun _ => none)) := (g10H.2.2.2 _ (by omega)).trans fg4
      have fg8 : g10.2.2 g7.1 = some (true, ia K ((nv : Int).toNat) (fun _ => 0)) := (g10H.2.2.2 _ (by omega)).trans fg8
      have fR : ∀ b, (b < h.1 ∧ b ≠ o) → g10.2.2 b = h.2.2 b := fun b hb => (g10H.2.2.2 b (by omega)).trans (fR b hb)
      have fg10 : g10.2.2 g9.1 = some (true, ia K ((nv : Int).toNat) (fun _ => 0)) := g10H.2.2.1
      have g101 := g10H.1
      have g102 := g10H.2.1
      refine m_putfF (y := yiJ35_init) kc_26 7 (by decide) dJ35_init_156 q2019 rfl rfl rfl ho rfl rfl (hp_put fun g11 g11H => ?_)
      have he : g11.2.2 e = some (w, oaE K cap f) := (g11H.2.2.2 _ (by omega)).trans he
      have fg4 : g11.2.2 g3.1 = some (true, oaE K ((tv : Int).toNat) (fun _ => none)) := (g11H.2.2.2 _ (by omega)).trans fg4
      have fg8 : g11.2.2 g7.1 = some (true, ia K ((nv : Int).toNat) (fun _ => 0)) := (g11H.2.2.2 _ (by omega)).trans fg8
      have fg10 : g11.2.2 g9.1 = some (true, ia K ((nv : Int).toNat) (fun _ => 0)) := (g11H.2.2.2 _ (by omega)).trans fg10
      have fR : ∀ b, (b < h.1 ∧ b ≠ o) → g11.2.2 b = h.2.2 b := fun b hb => (g11H.2.2.2 b (by omega)).trans (fR b hb)
      have ho : g11.2.2 o = some (true, .inr (26, [(.ref e), (vi 7), (.ref g3.1), (vi 0), (vi tv), (vi 0), (.ref g7.1), (.ref g9.1)])) := g11H.2.2.1
      have g111 := g11H.1
      have g112 := g11H.2.1
      subst hQ; exact j_vret (y := yiJ35_init) dJ35_init_159 rfl (⟨tv.toNat, nv.toNat, g3.1, g7.1, g9.1, ⟨by omega, by omega⟩, ⟨by omega, by omega, by omega⟩, ⟨by omega, by omega, by omega⟩, ⟨by omega, by omega⟩, (by { rw [show ((tv.toNat : Nat) : Int) = tv by omega]; exact ho }), fg4, fg8, fg10, fR⟩)
    refine j_iload (y := yiJ35_init) dJ35_init_103 rfl ?_
    refine j_bipush (y := yiJ35_init) dJ35_init_105 (by decide) ?_
    refine j_icmp_ge (y := yiJ35_init) 114 dJ35_init_107 (by decide) ⟨⟨by omega, by omega⟩, ⟨by omega, by omega⟩⟩ (fun c107 => ?_) (fun c107 => ?_)
    · refine j_iload (y := yiJ35_init) dJ35_init_114 rfl ?_
      refine j_sipush (y := yiJ35_init) dJ35_init_116 (by decide) ?_
      refine j_icmp_ge (y := yiJ35_init) 127 dJ35_init_119 (by decide) ⟨⟨by omega, by omega⟩, ⟨by omega, by omega⟩⟩ (fun c119 => ?_) (fun c119 => ?_)
      · refine j_iload (y := yiJ35_init) dJ35_init_127 rfl ?_
        refine j_ldc (y := yiJ35_init) (119151) dJ35_init_129 q2011 (by decide) ?_
        refine j_icmp_ge (y := yiJ35_init) 139 dJ35_init_131 (by decide) ⟨⟨by omega, by omega⟩, ⟨by omega, by omega⟩⟩ (fun c131 => False.elim (by omega)) (fun c131 => ?_)
        refine j_bipush (y := yiJ35_init) dJ35_init_134 (by decide) ?_
        refine m_goto (y := yiJ35_init) 141 dJ35_init_136 (by decide) ?_
        exact J141 _ (by omega)
      · refine j_bipush (y := yiJ35_init) dJ35_init_122 (by decide) ?_
        refine m_goto (y := yiJ35_init) 141 dJ35_init_124 (by decide) ?_
        exact J141 _ (by omega)
    · refine j_iconst (y := yiJ35_init) dJ35_init_110 ?_
      refine m_goto (y := yiJ35_init) 141 dJ35_init_111 (by decide) ?_
      exact J141 _ (by omega)
  refine j_iload (y := yiJ35_init) dJ35_init_24 rfl ?_
  refine j_sipush (y := yiJ35_init) dJ35_init_26 (by decide) ?_
  refine j_icmp_ge (y := yiJ35_init) 39 dJ35_init_29 (by decide) ⟨⟨by omega, by omega⟩, ⟨by omega, by omega⟩⟩ (fun c29 => ?_) (fun c29 => ?_)
  · refine j_sipush (y := yiJ35_init) dJ35_init_39 (by decide) ?_
    exact J42 _ (by omega)
  · refine j_iload (y := yiJ35_init) dJ35_init_32 rfl ?_
    refine j_iconst (y := yiJ35_init) dJ35_init_34 ?_
    refine j_iushr1 (y := yiJ35_init) dJ35_init_35 ⟨by omega, by omega⟩ ?_
    refine m_goto (y := yiJ35_init) 42 dJ35_init_36 (by decide) ?_
    exact J42 _ (by omega)
theorem ArS.sub2 {h : MH} {rk : Nat → Int} {e : Nat} {a b lo hi : Int} {f f0 : Int → Option Nat} {p : Int → Nat} (A : ArS h rk e a b f f0 p) (h1 : a ≤ lo) (h2 : hi ≤ b) : ArS h rk e lo hi f f p := ⟨fun i a1 a2 => A.1 i (by omega) (by omega), fun _ _ => rfl⟩
theorem ArS.ext2 {h h' : MH} {rk : Nat → Int} {e : Nat} {a b lo hi : Int} {f f' f0 : Int → Option Nat} {p p' : Int → Nat} (A : ArS h rk e a b f f0 p) (A' : ArS h' rk e lo hi f' f p') (h1 : a ≤ lo) (h2 : hi ≤ b) (S : Sms p p' lo hi) (e1 : ∀ b w ci fs, ci ≠ 26 → h.2.2 b = some (w, .inr (ci, fs)) → h'.2.2 b = h.2.2 b) : ArS h' rk e a b f' f0 p' := by
  refine ⟨fun i a1 a2 => ?_, fun i a1 => ?_⟩
  · by_cases e9 : lo ≤ i ∧ i < hi
    · exact A'.1 i e9.1 e9.2
    · rw [S.2.2 i (by omega), A'.2 i (by omega)]; exact ⟨(A.1 i a1 a2).1, (A.1 i a1 a2).2.up e1⟩
  · by_cases e9 : lo ≤ i ∧ i < hi
    · omega
    · rw [A'.2 i (by omega)]; exact A.2 i a1
theorem Inj.sub {rk : Nat → Int} {p : Int → Nat} {a b a' b' : Int} (h : Inj rk p a b) (h1 : a ≤ a' ∧ b' ≤ b) : Inj rk p a' b' := fun i j a1 a2 a3 => h i j (by omega) a2 (by omega)
/-- the same elements: one to one stays one to one -/
theorem Inj.ofs {rk : Nat → Int} {p q : Int → Nat} {a b lo hi : Int} (h : Inj rk p a b) (hb : a ≤ lo ∧ hi ≤ b) (S : Sms p q lo hi) (hI : Inj rk q lo hi) : Inj rk q a b := by
  have key : ∀ i j, lo ≤ i → i < hi → (a ≤ j ∧ j < b) → (j < lo ∨ hi ≤ j) → rk (q i) ≠ rk (q j) := fun i j a1 a2 a3 a4 => by
    obtain ⟨k, u1, u2, u3⟩ := S.1 i a1 a2
    rw [u3, S.2.2 j a4]
    by_cases e : k < j
    · exact h k j (by omega) e a3.2
    · exact fun e9 => h j k a3.1 (by omega) (by omega) e9.symm
  intro i j a1 a2 a3
  by_cases e1 : lo ≤ i ∧ i < hi
  · by_cases e2 : lo ≤ j ∧ j < hi
    · exact hI i j e1.1 a2 e2.2
    · exact key i j e1.1 e1.2 ⟨by omega, a3⟩ (by omega)
  · by_cases e2 : lo ≤ j ∧ j < hi
    · exact fun e9 => key j i e2.1 e2.2 ⟨a1, by omega⟩ (by omega) e9.symm
    · rw [S.2.2 i (by omega), S.2.2 j (by omega)]; exact h i j a1 a2 a3
def SoQ (K : KT) (h h' : MH) (rk : Nat → Int) (e cap : Nat) (w : Bool) (B : Int) (f0 : Int → Option Nat) (p0 : Int → Nat) : Prop := ∃ (f : Int → Option Nat) (p : Int → Nat), (h.1 ≤ h'.1 ∧ h'.1 ≤ h.1 + 4) ∧ (h.2.1 ≤ h'.2.1 ∧ h'.2.1 ≤ h.2.1 + 400) ∧ h'.2.2 e = some (w, oaE K cap f) ∧ ArS h' rk e 0 B f f0 p ∧ Asc rk p 0 B ∧ Sms p0 p 0 B ∧ (∀ q, q < h.1 ∧ q ≠ e → h'.2.2 q = h.2.2 q) ∧ (B < 2 → ∀ q, q < h.1 → h'.2.2 q = h.2.2 q)
theorem c_J35_sort (K : KT) (d : Nat) (h : MH) (rk : Nat → Int) (e cap : Nat) (B : Int) (f0 : Int → Option Nat) (p0 : Int → Nat) (hd : 9 ≤ d) (hB : kV K 12 = vi 1) (he : h.2.2 e = some (true, oaE K cap f0)) (hA : ArS h rk e 0 B f0 f0 p0) (hb : 0 ≤ B ∧ B ≤ (cap : Int) ∧ cap ≤ 60000 ∧ B ≤ 63) (hI : Inj rk p0 0 B) (hz : h.1 + 4 ≤ kC K ∧ h.2.1 + 400 ≤ kS K) : Mt K yiJ35_sort d [.ref e, vi 0, vi B, .null, vi 0, vi 0] h (Rv fun h' => SoQ K h h' rk e cap true B f0 p0) := by
  have hA0 := hA
  have he0 := he
  refine mt_ofQ (by decide) (Nat.le_of_ble_eq_true rfl) (fun Q hQ => ?_)
  show MW K yiJ35_sort d h 0 [some (.ref e), some (vi 0), some (vi B), some .null, some (vi 0), some (vi 0), none, none, none, none, none] [] Q
  refine mw_wf (fun hwf => ?_)
  have l_he := hwf _ _ he
  have fR : ∀ b, (b < h.1 ∧ b ≠ e) → h.2.2 b = h.2.2 b := fun _ _ => rfl
  refine m_gets (y := yiJ35_sort) (ref := "") 12 rfl dJ35_sort_0 q1989 hB ?_
  refine j_if_ne (y := yiJ35_sort) 33 dJ35_sort_3 (by decide) ⟨by decide, by decide⟩ (fun _ => ?_) (fun c => absurd c (by decide))
  refine j_iload_n (y := yiJ35_sort) dJ35_sort_33 rfl ?_
  refine j_iload_n (y := yiJ35_sort) dJ35_sort_34 rfl ?_
  refine j_isub (y := yiJ35_sort) dJ35_sort_35 ?_
  refine j_istore (y := yiJ35_sort) [some (.ref e), some (vi 0), some (vi B), some .null, some (vi 0), some (vi 0), some (vi (B - 0)), none, none, none, none] dJ35_sort_36 (by decide) rfl rfl ?_
  refine j_iload (y := yiJ35_sort) dJ35_sort_38 rfl ?_
  refine j_iconst (y := yiJ35_sort) dJ35_sort_40 ?_
  refine j_icmp_ge (y := yiJ35_sort) 45 dJ35_sort_41 (by decide) ⟨⟨by omega, by omega⟩, ⟨by omega, by omega⟩⟩ (fun c41 => ?_) (fun c41 => ?_)
  · refine j_iload (y := yiJ35_sort) dJ35_sort_45 rfl ?_
    refine j_bipush (y := yiJ35_sort) dJ35_sort_47 (by decide) ?_
    refine j_icmp_ge (y := yiJ35_sort) 71 dJ35_sort_49 (by decide) ⟨⟨by omega, by omega⟩, ⟨by omega, by omega⟩⟩ (fun c49 => ?_) (fun c49 => ?_)
    · refine m_new (y := yiJ35_sort) kc_26 8 dJ35_sort_71 q2004 q2005 q171 _ rfl ⟨by omega, by omega⟩ (hp_new fun g1 g1H => ?_)
      have he : g1.2.2 e = some (true, oaE K cap f0) := (g1H.2.2.2 _ (by omega)).trans he
      have fR : ∀ b, (b < h.1 ∧ b ≠ e) → g1.2.2 b = h.2.2 b := fun b hb => (g1H.2.2.2 b (by omega)).trans (fR b hb)
      have fg1 : g1.2.2 h.1 = some (true, .inr (26, [.null, (vi 0), .null, (vi 0), (vi 0), (vi 0), .null, .null])) := g1H.2.2.1
      have g11 := g1H.1
      have g12 := g1H.2.1
      refine m_dup (y := yiJ35_sort) dJ35_sort_74 rfl ?_
      refine m_aload_n (y := yiJ35_sort) dJ35_sort_75 rfl ?_
      refine m_aload_nN (y := yiJ35_sort) dJ35_sort_76 rfl ?_
      refine j_iload (y := yiJ35_sort) dJ35_sort_77 rfl ?_
      refine j_iload (y := yiJ35_sort) dJ35_sort_79 rfl ?_
      refine m_invI (y := yiJ35_sort) [(.ref e), .null, (vi 0), (vi 0)] dJ35_sort_81 q2006 q2007 q171 q2008 rfl rfl (c_J35_init2 K 7 g1 h.1 e cap true f0 (by omega) fg1 he (by omega) ⟨by omega, by omega⟩) pdJ35_init ⟨Nat.le_of_ble_eq_true rfl, by decide, by omega⟩ (kk_v fun h81 q81 => ?_) kx_v
      obtain ⟨tl, ns, t, rb, rl, hns, z81, n81, t81, ho, htm, hrb, hrl, k81⟩ := q81
      have he : h81.2.2 e = some (true, oaE K cap f0) := (k81 _ (by omega)).trans he
      have fR : ∀ b, (b < h.1 ∧ b ≠ e) → h81.2.2 b = h.2.2 b := fun b hb => (k81 b (by omega)).trans (fR b hb)
      refine mw_wf (fun hwf81 => ?_)
      have l_ho81 := hwf81 _ _ ho
      have l_htm81 := hwf81 _ _ htm
      have l_hrb81 := hwf81 _ _ hrb
      have l_hrl81 := hwf81 _ _ hrl
      refine m_astore (y := yiJ35_sort) dJ35_sort_84 (by decide) rfl ?_
      show MW K yiJ35_sort d h81 86 [some (.ref e), some (vi 0), some (vi B), some .null, some (vi 0), some (vi 0), some (vi (B - 0)), some (.ref h.1), none, none, none] [] Q
      refine j_iload (y := yiJ35_sort) dJ35_sort_86 rfl ?_
      refine m_invS (y := yiJ35_sort) [(vi (B - 0))] dJ35_sort_88 q2037 q2038 q171 q2039 (c_minRun K 7 h81 _ hB ⟨by omega, by omega⟩) pdJ35_minRunLength ⟨Nat.le_of_ble_eq_true rfl, by decide, by omega⟩ (kk_z fun r88 h88 q88 => ?_) kx_z
      obtain ⟨rfl, v88⟩ := q88
      have hup : ∀ g' : MH, (∀ q, q < h.1 ∧ q ≠ e → g'.2.2 q = h.2.2 q) → ∀ b w ci fs, ci ≠ 26 → h.2.2 b = some (w, .inr (ci, fs)) → g'.2.2 b = h.2.2 b := fun g' q b w ci fs h26 hb9 => q b ⟨hwf _ _ hb9, ne_oa hb9 he0⟩
      have het : e ≠ t := by omega
      refine j_istore (y := yiJ35_sort) [some (.ref e), some (vi 0), some (vi B), some .null, some (vi 0), some (vi 0), some (vi (B - 0)), some (.ref h.1), some (vi r88), none, none] dJ35_sort_91 (by decide) rfl rfl ?_
      have L93 : ∀ (N : Nat) (lo rem ss mg : Int) (f ft : Int → Option Nat) (p : Int → Nat) (fb fl : Int → Int) (g : MH), rem.toNat = N → (g.2.2 h.1 = some (true, .inr (26, [(.ref e), (vi mg), (.ref t), (vi 0), (vi (tl : Int)), (vi ss), (.ref rb), (.ref rl)]))) → (g.2.2 e = some (true, oaE K cap f)) → (g.2.2 t = some (true, oaE K tl ft)) → (g.2.2 rb = some (true, ia K ns fb)) → (g.2.2 rl = some (true, ia K ns fl)) → (∀ b, (b < h.1 ∧ b ≠ e) → g.2.2 b = h.2.2 b) → (g.1 = h81.1 ∧ g.2.1 = h81.2.1) → (ArS g rk e 0 B f f0 p ∧ Inj rk p 0 B ∧ Sms p0 p 0 B) → ((ss = 0 ∧ lo = 0) ∨ (ss = 1 ∧ r88 ≤ lo ∧ fb 0 = 0 ∧ fl 0 = lo ∧ Asc rk p 0 lo)) → (lo + rem = B ∧ 0 < rem ∧ 0 ≤ lo) → (0 ≤ mg ∧ mg ≤ 7 + 400 * ss) → MW K yiJ35_sort d g 93 [some (.ref e), some (vi lo), some (vi B), some .null, some (vi 0), some (vi 0), some (vi rem), some (.ref h.1), some (vi r88), none, none] [] Q := by
        intro N
        induction N using Nat.strongRecOn with
        | _ N ih93 =>
        intro lo rem ss mg f ft p fb fl g hN93 ho he htm hrb hrl fR hg hA hst hlo hmg
        refine mw_wf (fun hwf93 => ?_)
        have l_ho93 := hwf93 _ _ ho
        have l_he93 := hwf93 _ _ he
        have l_htm93 := hwf93 _ _ htm
        have l_hrb93 := hwf93 _ _ hrb
        have l_hrl93 := hwf93 _ _ hrl
        have hst2 : ss = 0 ∨ ss = 1 := by rcases hst with q | q <;> omega
        have hoe : h.1 ≠ e := ne_oa ho he
        have hot : h.1 ≠ t := ne_oa ho htm
        have hob : h.1 ≠ rb := ne_oa ho hrb
        have hol : h.1 ≠ rl := ne_oa ho hrl
        have heb : e ≠ rb := ne_qi he hrb
        have hel : e ≠ rl := ne_qi he hrl
        have hlm : ss = 1 → r88 ≤ lo := fun e9 => by { rcases hst with q | q; { omega }; { exact q.2.1 } }
        refine m_aload_n (y := yiJ35_sort) dJ35_sort_93 rfl ?_
        have J141 : ∀ (n2 : Int) (f2 : Int → Option Nat) (p2 : Int → Nat) (gm : MH), (gm.2.2 h.1 = some (true, .inr (26, [(.ref e), (vi mg), (.ref t), (vi 0), (vi (tl : Int)), (vi ss), (.ref rb), (.ref rl)]))) → (gm.2.2 e = some (true, oaE K cap f2)) → (gm.2.2 t = some (true, oaE K tl ft)) → (gm.2.2 rb = some (true, ia K ns fb)) → (gm.2.2 rl = some (true, ia K ns fl)) → (∀ b, (b < h.1 ∧ b ≠ e) → gm.2.2 b = h.2.2 b) → (gm.1 = h81.1 ∧ gm.2.1 = h81.2.1) → (ArS gm rk e 0 B f2 f0 p2 ∧ Inj rk p2 0 B ∧ Sms p0 p2 0 B) → (Asc rk p2 lo (lo + n2)) → (ss = 1 → fb 0 = 0 ∧ fl 0 = lo ∧ Asc rk p2 0 lo) → (1 ≤ n2 ∧ n2 ≤ rem ∧ (r88 ≤ n2 ∨ n2 = rem)) → MW K yiJ35_sort d gm 141 [some (.ref e), some (vi lo), some (vi B), some .null, some (vi 0), some (vi 0), some (vi rem), some (.ref h.1), some (vi r88), some (vi n2), none] [] Q := by
          intro n2 f2 p2 gm ho he htm hrb hrl fR hg2 hA2 hs2 hst3 hn2
          refine mw_wf (fun hwf141 => ?_)
          have l_ho141 := hwf141 _ _ ho
          have l_he141 := hwf141 _ _ he
          have l_htm141 := hwf141 _ _ htm
          have l_hrb141 := hwf141 _ _ hrb
          have l_hrl141 := hwf141 _ _ hrl
          refine m_aload (y := yiJ35_sort) dJ35_sort_141 rfl ?_
          refine j_iload_n (y := yiJ35_sort) dJ35_sort_143 rfl ?_
          refine j_iload (y := yiJ35_sort) dJ35_sort_144 rfl ?_
          refine m_invV (y := yiJ35_sort) (rB := (RJ35, TJ35, 8)) [(vi lo), (vi n2)] dJ35_sort_146 ho rfl q2040 q2042 qs36 q171 q2043 rfl (c_J35_pushRun K 7 gm h.1 e t rb rl ns ns mg 0 (tl : Int) ss lo n2 fb fl ho hrb hrl (by omega) ⟨⟨by omega, by omega, by omega⟩, by omega, by omega⟩) pdJ35_pushRun ⟨Nat.le_of_ble_eq_true rfl, by decide, by omega⟩ (kk_v fun h146 q146 => ?_) kx_v
          obtain ⟨z146, ho3, hrb3, hrl3, k146⟩ := q146
          have he : h146.2.2 e = some (true, oaE K cap f2) := (k146 _ (by omega)).trans he
          have htm : h146.2.2 t = some (true, oaE K tl ft) := (k146 _ (by omega)).trans htm
          have fR : ∀ b, (b < h.1 ∧ b ≠ e) → h146.2.2 b = h.2.2 b := fun b hb => (k146 b (by omega)).trans (fR b hb)
          refine mw_wf (fun hwf146 => ?_)
          have l_ho3146 := hwf146 _ _ ho3
          have l_hrb3146 := hwf146 _ _ hrb3
          have l_hrl3146 := hwf146 _ _ hrl3
          have hS3 : SS K h146 rk h.1 e t rb rl cap tl ns mg (ss + 1) 0 (lo + n2) B f2 f0 p2 (upz fb ss lo) (upz fl ss n2) := ⟨ho3, he, ⟨ft, htm⟩, hrb3, hrl3, hA2.1.up (fun b w ci fs h26 hb9 => k146 b ⟨fun e9 => by { rw [e9, ho] at hb9; injection hb9 with hb9; injection hb9 with _ hb9; injection hb9 with hb9; injection hb9 with hb9; exact h26 hb9.symm }, ne_oa hb9 hrb, ne_oa hb9 hrl⟩), hA2.2.1, ⟨by { rcases hst with q | q; { rw [q.1, upz_at, q.2] }; { rw [q.1]; unfold upz; rw [if_neg (by omega)]; exact q.2.2.1 } }, by omega, by omega⟩, by { rcases hst with q | q; { refine Or.inl ⟨by omega, by rw [q.1, upz_at]; omega, ?_⟩; have u := hs2; rw [q.2] at u; rw [q.2]; exact u }; { have w := hst3 q.1; refine Or.inr ⟨by omega, by omega, lo, n2, by omega, by omega, ?_, ?_, ?_, by omega, ?_, ?_⟩; { rw [q.1]; unfold upz; rw [if_neg (by omega)]; exact w.2.1 }; { rw [q.1, upz_at]; omega }; { rw [q.1, upz_at] }; { rw [Int.zero_add]; exact w.2.2 }; { rw [Int.zero_add, show B = lo + n2 by omega]; exact hs2 } } }⟩
          refine m_aload (y := yiJ35_sort) dJ35_sort_149 rfl ?_
          refine m_invV (y := yiJ35_sort) (rB := (RJ35, TJ35, 8)) [] dJ35_sort_151 ho3 rfl q2044 q2046 qs37 q171 q2047 rfl (c_mergeCollapse K 8 h146 rk h.1 e t rb rl cap tl ns mg (ss + 1) 0 (lo + n2) B f2 f0 p2 (upz fb ss lo) (upz fl ss n2) (by omega) hB hns hS3 ⟨by omega, by omega, by omega⟩ ⟨by omega, by omega⟩ ⟨by omega, by omega⟩ ⟨het, by omega⟩) pdJ35_mergeCollapse ⟨Nat.le_of_ble_eq_true rfl, by decide, by omega⟩ (kk_v fun h151 q151 => ?_) kx_v
          obtain ⟨mg4, ss4, f4, p4, fl4, S4, m4, s4, g4, z4, k4⟩ := q151
          obtain ⟨ho4, he4, ⟨ft4, htm4⟩, hrb4, hrl4, a4, i4, b4, c4⟩ := id S4
          have fR : ∀ b, (b < h.1 ∧ b ≠ e) → h151.2.2 b = h.2.2 b := fun b hb => (k4 b (by omega)).trans (fR b hb)
          refine mw_wf (fun hwf151 => ?_)
          have l_ho4151 := hwf151 _ _ ho4
          have l_he4151 := hwf151 _ _ he4
          have l_htm4151 := hwf151 _ _ htm4
          have l_hrb4151 := hwf151 _ _ hrb4
          have l_hrl4151 := hwf151 _ _ hrl4
          refine j_iload_n (y := yiJ35_sort) dJ35_sort_154 rfl ?_
          refine j_iload (y := yiJ35_sort) dJ35_sort_155 rfl ?_
          refine j_iadd (y := yiJ35_sort) dJ35_sort_157 ?_
          refine j_istore_n (y := yiJ35_sort) [some (.ref e), some (vi (lo + n2)), some (vi B), some .null, some (vi 0), some (vi 0), some (vi rem), some (.ref h.1), some (vi r88), some (vi n2), none] dJ35_sort_158 (by decide) rfl rfl ?_
          refine j_iload (y := yiJ35_sort) dJ35_sort_159 rfl ?_
          refine j_iload (y := yiJ35_sort) dJ35_sort_161 rfl ?_
          refine j_isub (y := yiJ35_sort) dJ35_sort_163 ?_
          refine j_istore (y := yiJ35_sort) [some (.ref e), some (vi (lo + n2)), some (vi B), some .null, some (vi 0), some (vi 0), some (vi (rem - n2)), some (.ref h.1), some (vi r88), some (vi n2), none] dJ35_sort_164 (by decide) rfl rfl ?_
          refine j_iload (y := yiJ35_sort) dJ35_sort_166 rfl ?_
          refine j_if_ne (y := yiJ35_sort) 93 dJ35_sort_168 (by decide) ⟨by omega, by omega⟩ (fun c168 => ?_) (fun c168 => ?_)
          · refine mw_forget 9 ?_
            exact ih93 _ (by omega) _ _ _ _ _ _ _ _ _ _ rfl ho4 he4 htm4 hrb4 hrl4 fR (by omega) (⟨a4, i4, hA2.2.2.tr m4⟩) (by { rcases c4 with q | q; { exact Or.inr ⟨q.1, by omega, b4.1, by omega, q.2.2⟩ }; { omega } }) (by omega) (by omega)
          · refine m_gets (y := yiJ35_sort) (ref := "") 12 rfl dJ35_sort_171 q1989 hB ?_
            refine j_if_ne (y := yiJ35_sort) 190 dJ35_sort_174 (by decide) ⟨by decide, by decide⟩ (fun _ => ?_) (fun c => absurd c (by decide))
            refine m_aload (y := yiJ35_sort) dJ35_sort_190 rfl ?_
            refine m_invV (y := yiJ35_sort) (rB := (RJ35, TJ35, 8)) [] dJ35_sort_192 ho4 rfl q2075 q2077 qs42 q171 q2078 rfl (c_mergeForceCollapse K 8 h151 rk h.1 e t rb rl cap tl ns mg4 ss4 0 (lo + n2) B f4 f0 p4 (upz fb ss lo) fl4 (by omega) hB hns S4 ⟨by omega, by omega, by omega⟩ ⟨by omega, by omega⟩ ⟨by omega, by omega⟩ ⟨het, by omega⟩) pdJ35_mergeForceCollapse ⟨Nat.le_of_ble_eq_true rfl, by decide, by omega⟩ (kk_v fun h192 q192 => ?_) kx_v
            obtain q192 := q192
            obtain ⟨mg5, f5, p5, fl5, S5, m5, g5, z5, u4⟩ := SSq.one q192
            obtain ⟨ho5, he5, ⟨ft5, htm5⟩, hrb5, hrl5, a5, i5, b5, c5⟩ := S5
            have fR : ∀ b, (b < h.1 ∧ b ≠ e) → h192.2.2 b = h.2.2 b := fun b hb => (u4 b (by omega)).trans (fR b hb)
            refine mw_wf (fun hwf192 => ?_)
            have l_ho5192 := hwf192 _ _ ho5
            have l_he5192 := hwf192 _ _ he5
            have l_htm5192 := hwf192 _ _ htm5
            have l_hrb5192 := hwf192 _ _ hrb5
            have l_hrl5192 := hwf192 _ _ hrl5
            refine m_gets (y := yiJ35_sort) (ref := "") 12 rfl dJ35_sort_195 q1989 hB ?_
            refine j_if_ne (y := yiJ35_sort) 218 dJ35_sort_198 (by decide) ⟨by decide, by decide⟩ (fun _ => ?_) (fun c => absurd c (by decide))
            subst hQ; exact j_vret (y := yiJ35_sort) dJ35_sort_218 rfl (⟨f5, p5, by omega, by omega, he5, a5, (by { rcases c5 with q | q; { have u := q.2.2; rw [show lo + n2 = B by omega] at u; exact u }; { omega } }), (hA2.2.2.tr m4).tr m5, fR, fun h9 => by omega⟩)
        refine j_iload_n (y := yiJ35_sort) dJ35_sort_94 rfl ?_
        refine j_iload_n (y := yiJ35_sort) dJ35_sort_95 rfl ?_
        refine m_invS (y := yiJ35_sort) [(.ref e), (vi lo), (vi B)] dJ35_sort_96 q1991 q1992 q171 q1993 (c_J35_countRun K 7 g rk e cap lo B f p (by omega) hB he (hA.1.sub2 hlo.2.2 (Int.le_refl _)) ⟨⟨by omega, by omega⟩, by omega, by omega⟩ (hA.2.1.sub ⟨hlo.2.2, Int.le_refl _⟩)) pdJ35_countRunAndMakeAscending ⟨Nat.le_of_ble_eq_true rfl, by decide, by omega⟩ (kk_z fun r96 h96 q96 => ?_) kx_z
        obtain ⟨f1, p1, z96, he1, a96, v96, s96, m96, i96, k96⟩ := q96
        have ho : h96.2.2 h.1 = some (true, .inr (26, [(.ref e), (vi mg), (.ref t), (vi 0), (vi (tl : Int)), (vi ss), (.ref rb), (.ref rl)])) := (k96 _ (by omega)).trans ho
        have htm : h96.2.2 t = some (true, oaE K tl ft) := (k96 _ (by omega)).trans htm
        have hrb : h96.2.2 rb = some (true, ia K ns fb) := (k96 _ (by omega)).trans hrb
        have hrl : h96.2.2 rl = some (true, ia K ns fl) := (k96 _ (by omega)).trans hrl
        have fR : ∀ b, (b < h.1 ∧ b ≠ e) → h96.2.2 b = h.2.2 b := fun b hb => (k96 b (by omega)).trans (fR b hb)
        refine mw_wf (fun hwf96 => ?_)
        have l_he196 := hwf96 _ _ he1
        have A1 := hA.1.ext2 a96 hlo.2.2 (Int.le_refl _) m96 (fun b w ci fs h26 hb9 => k96 b (ne_oa hb9 he))
        have I1 := hA.2.1.ofs ⟨hlo.2.2, Int.le_refl _⟩ m96 i96
        have S1 := hA.2.2.tr (m96.wide ⟨hlo.2.2, Int.le_refl _⟩)
        have st1 : ss = 1 → fb 0 = 0 ∧ fl 0 = lo ∧ Asc rk p1 0 lo := fun e9 => by { rcases hst with q | q; { omega }; { exact ⟨q.2.2.1, q.2.2.2.1, q.2.2.2.2.cg (fun i i1 i2 => m96.2.2 i (Or.inl i2))⟩ } }
        refine j_istore (y := yiJ35_sort) [some (.ref e), some (vi lo), some (vi B), some .null, some (vi 0), some (vi 0), some (vi rem), some (.ref h.1), some (vi r88), some (vi r96), none] dJ35_sort_99 (by decide) rfl rfl ?_
        refine j_iload (y := yiJ35_sort) dJ35_sort_101 rfl ?_
        refine j_iload (y := yiJ35_sort) dJ35_sort_103 rfl ?_
        refine j_icmp_ge (y := yiJ35_sort) 141 dJ35_sort_105 (by decide) ⟨⟨by omega, by omega⟩, ⟨by omega, by omega⟩⟩ (fun c105 => ?_) (fun c105 => ?_)
        · exact J141 _ _ _ _ ho he1 htm hrb hrl fR (by omega) (by first | exact ⟨A1.ext2 a134 hlo.2.2 (by omega) m134 (fun b w ci fs h26 hb9 => k134 b (ne_oa hb9 he1)), I1.of_sms ⟨by omega, by omega⟩ m134 s134, S1.tr (m134.wide ⟨by omega, by omega⟩)⟩ | exact ⟨A1, I1, S1⟩) (by first | exact s134 | exact s96) (by first | exact fun e9 => ⟨(st1 e9).1, (st1 e9).2.1, (st1 e9).2.2.cg (fun i i1 i2 => m134.2.2 i (Or.inl i2))⟩ | exact st1) (by omega)
        · have J124 : ∀ (fo : Int), (r96 ≤ fo ∧ fo ≤ rem ∧ (fo = r88 ∨ fo = rem)) → MW K yiJ35_sort d h96 124 [some (.ref e), some (vi lo), some (vi B), some .null, some (vi 0), some (vi 0), some (vi rem), some (.ref h.1), some (vi r88), some (vi r96), some (vi fo)] [] Q := by
            intro fo hfo
            refine m_aload_n (y := yiJ35_sort) dJ35_sort_124 rfl ?_
            refine j_iload_n (y := yiJ35_sort) dJ35_sort_125 rfl ?_
            refine j_iload_n (y := yiJ35_sort) dJ35_sort_126 rfl ?_
            refine j_iload (y := yiJ35_sort) dJ35_sort_127 rfl ?_
            refine j_iadd (y := yiJ35_sort) dJ35_sort_129 ?_
            refine j_iload_n (y := yiJ35_sort) dJ35_sort_130 rfl ?_
            refine j_iload (y := yiJ35_sort) dJ35_sort_131 rfl ?_
            refine j_iadd (y := yiJ35_sort) dJ35_sort_133 ?_
            refine m_invS (y := yiJ35_sort) [(.ref e), (vi lo), (vi (lo + fo)), (vi (lo + r96))] dJ35_sort_134 q2000 q2001 q171 q2002 (c_J35_binarySort K 7 h96 rk e cap lo (lo + fo) (lo + r96) f1 p1 (by omega) hB he1 (A1.sub2 hlo.2.2 (by omega)) ⟨⟨by omega, by omega⟩, by omega, by omega, by omega⟩ s96 (I1.sub ⟨by omega, by omega⟩)) pdJ35_binarySort ⟨Nat.le_of_ble_eq_true rfl, by decide, by omega⟩ (kk_v fun h134 q134 => ?_) kx_v
            obtain ⟨f2, p2, z134, he2, a134, s134, m134, k134⟩ := q134
            have ho : h134.2.2 h.1 = some (true, .inr (26, [(.ref e), (vi mg), (.ref t), (vi 0), (vi (tl : Int)), (vi ss), (.ref rb), (.ref rl)])) := (k134 _ (by omega)).trans ho
            have htm : h134.2.2 t = some (true, oaE K tl ft) := (k134 _ (by omega)).trans htm
            have hrb : h134.2.2 rb = some (true, ia K ns fb) := (k134 _ (by omega)).trans hrb
            have hrl : h134.2.2 rl = some (true, ia K ns fl) := (k134 _ (by omega)).trans hrl
            have fR : ∀ b, (b < h.1 ∧ b ≠ e) → h134.2.2 b = h.2.2 b := fun b hb => (k134 b (by omega)).trans (fR b hb)
            refine mw_wf (fun hwf134 => ?_)
            have l_he2134 := hwf134 _ _ he2
            refine j_iload (y := yiJ35_sort) dJ35_sort_137 rfl ?_
            refine j_istore (y := yiJ35_sort) [some (.ref e), some (vi lo), some (vi B), some .null, some (vi 0), some (vi 0), some (vi rem), some (.ref h.1), some (vi r88), some (vi fo), some (vi fo)] dJ35_sort_139 (by decide) rfl rfl ?_
            refine mw_forget 10 ?_
            exact J141 _ _ _ _ ho he2 htm hrb hrl fR (by omega) (by first | exact ⟨A1.ext2 a134 hlo.2.2 (by omega) m134 (fun b w ci fs h26 hb9 => k134 b (ne_oa hb9 he1)), I1.of_sms ⟨by omega, by omega⟩ m134 s134, S1.tr (m134.wide ⟨by omega, by omega⟩)⟩ | exact ⟨A1, I1, S1⟩) (by first | exact s134 | exact s96) (by first | exact fun e9 => ⟨(st1 e9).1, (st1 e9).2.1, (st1 e9).2.2.cg (fun i i1 i2 => m134.2.2 i (Or.inl i2))⟩ | exact st1) (by omega)
          refine j_iload (y := yiJ35_sort) dJ35_sort_108 rfl ?_
          refine j_iload (y := yiJ35_sort) dJ35_sort_110 rfl ?_
          refine j_icmp_gt (y := yiJ35_sort) 120 dJ35_sort_112 (by decide) ⟨⟨by omega, by omega⟩, ⟨by omega, by omega⟩⟩ (fun c112 => ?_) (fun c112 => ?_)
          · refine j_iload (y := yiJ35_sort) dJ35_sort_120 rfl ?_
            refine j_istore (y := yiJ35_sort) [some (.ref e), some (vi lo), some (vi B), some .null, some (vi 0), some (vi 0), some (vi rem), some (.ref h.1), some (vi r88), some (vi r96), some (vi r88)] dJ35_sort_122 (by decide) rfl rfl ?_
            exact J124 _ (by omega)
          · refine j_iload (y := yiJ35_sort) dJ35_sort_115 rfl ?_
            refine m_goto (y := yiJ35_sort) 122 dJ35_sort_117 (by decide) ?_
            refine j_istore (y := yiJ35_sort) [some (.ref e), some (vi lo), some (vi B), some .null, some (vi 0), some (vi 0), some (vi rem), some (.ref h.1), some (vi r88), some (vi r96), some (vi rem)] dJ35_sort_122 (by decide) rfl rfl ?_
            exact J124 _ (by omega)
      exact L93 _ 0 _ 0 7 f0 (fun _ => none) p0 (fun _ => 0) (fun _ => 0) _ rfl ho he htm hrb hrl fR (⟨rfl, rfl⟩) (⟨hA0.up (hup _ fR), hI, Sms.rfl'⟩) (Or.inl ⟨rfl, rfl⟩) (⟨by omega, by omega, by omega⟩) (⟨by omega, by omega⟩)
    · refine m_aload_n (y := yiJ35_sort) dJ35_sort_52 rfl ?_
      refine j_iload_n (y := yiJ35_sort) dJ35_sort_53 rfl ?_
      refine j_iload_n (y := yiJ35_sort) dJ35_sort_54 rfl ?_
      refine m_invS (y := yiJ35_sort) [(.ref e), (vi 0), (vi B)] dJ35_sort_55 q1991 q1992 q171 q1993 (c_J35_countRun K 7 h rk e cap 0 B f0 p0 (by omega) hB he hA0 ⟨⟨by omega, by omega⟩, by omega, by omega⟩ hI) pdJ35_countRunAndMakeAscending ⟨Nat.le_of_ble_eq_true rfl, by decide, by omega⟩ (kk_z fun r55 h55 q55 => ?_) kx_z
      obtain ⟨f1, p1, z55, he1, a55, v55, s55, m55, i55, k55⟩ := q55
      have fR : ∀ b, (b < h.1 ∧ b ≠ e) → h55.2.2 b = h.2.2 b := fun b hb => (k55 b (by omega)).trans (fR b hb)
      refine mw_wf (fun hwf55 => ?_)
      have l_he155 := hwf55 _ _ he1
      refine j_istore (y := yiJ35_sort) [some (.ref e), some (vi 0), some (vi B), some .null, some (vi 0), some (vi 0), some (vi (B - 0)), some (vi r55), none, none, none] dJ35_sort_58 (by decide) rfl rfl ?_
      refine m_aload_n (y := yiJ35_sort) dJ35_sort_60 rfl ?_
      refine j_iload_n (y := yiJ35_sort) dJ35_sort_61 rfl ?_
      refine j_iload_n (y := yiJ35_sort) dJ35_sort_62 rfl ?_
      refine j_iload_n (y := yiJ35_sort) dJ35_sort_63 rfl ?_
      refine j_iload (y := yiJ35_sort) dJ35_sort_64 rfl ?_
      refine j_iadd (y := yiJ35_sort) dJ35_sort_66 ?_
      refine m_invS (y := yiJ35_sort) [(.ref e), (vi 0), (vi B), (vi (0 + r55))] dJ35_sort_67 q2000 q2001 q171 q2002 (c_J35_binarySort K 7 h55 rk e cap 0 B (0 + r55) f1 p1 (by omega) hB he1 (a55.sub2 (Int.le_refl _) (Int.le_refl _)) ⟨⟨by omega, by omega⟩, by omega, by omega, by omega⟩ s55 i55) pdJ35_binarySort ⟨Nat.le_of_ble_eq_true rfl, by decide, by omega⟩ (kk_v fun h67 q67 => ?_) kx_v
      obtain ⟨f2, p2, z67, he2, a67, s67, m67, k67⟩ := q67
      have fR : ∀ b, (b < h.1 ∧ b ≠ e) → h67.2.2 b = h.2.2 b := fun b hb => (k67 b (by omega)).trans (fR b hb)
      refine mw_wf (fun hwf67 => ?_)
      have l_he267 := hwf67 _ _ he2
      subst hQ; exact j_vret (y := yiJ35_sort) dJ35_sort_70 rfl (⟨f2, p2, by omega, by omega, he2, (hA0.ext2 a55 (Int.le_refl _) (Int.le_refl _) m55 (fun b w ci fs h26 hb9 => k55 b (ne_oa hb9 he))).ext2 a67 (Int.le_refl _) (Int.le_refl _) m67 (fun b w ci fs h26 hb9 => k67 b (ne_oa hb9 he1)), s67, m55.tr m67, fR, fun h9 => by omega⟩)
  · subst hQ; exact j_vret (y := yiJ35_sort) dJ35_sort_44 rfl (⟨f0, p0, by omega, by omega, he, hA0, fun i j i1 i2 i3 => by omega, Sms.rfl', fR, fun _ _ _ => rfl⟩)
theorem c_sort0 (K : KT) (d : Nat) (h : MH) (e cap : Nat) (w : Bool) (B : Int) (f0 : Int → Option Nat) (hB : kV K 12 = vi 1) (he : h.2.2 e = some (w, oaE K cap f0)) (hb : 0 ≤ B ∧ B < 2) : Mt K yiJ35_sort d [.ref e, vi 0, vi B, .null, vi 0, vi 0] h (Rv fun h' => h = h') := by
  refine mt_ofQ (by decide) (Nat.le_of_ble_eq_true rfl) (fun Q hQ => ?_)
  show MW K yiJ35_sort d h 0 [some (.ref e), some (vi 0), some (vi B), some .null, some (vi 0), some (vi 0), none, none, none, none, none] [] Q
  refine mw_wf (fun hwf => ?_)
  have l_he := hwf _ _ he
  refine m_gets (y := yiJ35_sort) (ref := "") 12 rfl dJ35_sort_0 q1989 hB ?_
  refine j_if_ne (y := yiJ35_sort) 33 dJ35_sort_3 (by decide) ⟨by decide, by decide⟩ (fun _ => ?_) (fun c => absurd c (by decide))
  refine j_iload_n (y := yiJ35_sort) dJ35_sort_33 rfl ?_
  refine j_iload_n (y := yiJ35_sort) dJ35_sort_34 rfl ?_
  refine j_isub (y := yiJ35_sort) dJ35_sort_35 ?_
  refine j_istore (y := yiJ35_sort) [some (.ref e), some (vi 0), some (vi B), some .null, some (vi 0), some (vi 0), some (vi (B - 0)), none, none, none, none] dJ35_sort_36 (by decide) rfl rfl ?_
  refine j_iload (y := yiJ35_sort) dJ35_sort_38 rfl ?_
  refine j_iconst (y := yiJ35_sort) dJ35_sort_40 ?_
  refine j_icmp_ge (y := yiJ35_sort) 45 dJ35_sort_41 (by decide) ⟨⟨by omega, by omega⟩, ⟨by omega, by omega⟩⟩ (fun c41 => False.elim (by omega)) (fun c41 => ?_)
  subst hQ; exact j_vret (y := yiJ35_sort) dJ35_sort_44 rfl rfl
theorem c_sortW (K : KT) (d : Nat) (h : MH) (rk : Nat → Int) (e cap : Nat) (w : Bool) (B : Int) (f0 : Int → Option Nat) (p0 : Int → Nat) (hd : 9 ≤ d) (hB : kV K 12 = vi 1) (he : h.2.2 e = some (w, oaE K cap f0)) (hw : w = true ∨ B < 2) (hA : ArS h rk e 0 B f0 f0 p0) (hb : 0 ≤ B ∧ B ≤ (cap : Int) ∧ cap ≤ 60000 ∧ B ≤ 63) (hI : Inj rk p0 0 B) (hz : h.1 + 4 ≤ kC K ∧ h.2.1 + 400 ≤ kS K) : Mt K yiJ35_sort d [.ref e, vi 0, vi B, .null, vi 0, vi 0] h (Rv fun h' => SoQ K h h' rk e cap w B f0 p0) := by
  by_cases h2 : B < 2
  · exact mt_mono (c_sort0 K d h e cap w B f0 hB he ⟨hb.1, h2⟩) (fun o h' q => ⟨q.1, by rw [← q.2]; exact ⟨f0, p0, by omega, by omega, he, hA, fun i j i1 i2 i3 => by omega, Sms.rfl', fun _ _ => rfl, fun _ _ _ => rfl⟩⟩)
  · rcases hw with rfl | hw
    · exact c_J35_sort K d h rk e cap B f0 p0 hd hB he hA hb hI hz
    · omega
/-! Arrays.sort, ArrayList.sort, Collections.sort -/
theorem oa_cap {K : KT} {h : MH} {e n m : Nat} {w w' : Bool} {f g : Int → Option Nat} (h1 : h.2.2 e = some (w, oaE K n f)) (h2 : h.2.2 e = some (w', oaE K m g)) : n = m := by
  rw [h1] at h2
  injection h2 with h2
  injection h2 with _ h2
  injection h2 with h2
  injection h2 with _ h2
  injection h2 with h2 _
theorem RdS.up2 {h h' : MH} {rk : Nat → Int} {q : Nat} (L : RdS h rk q) (e1 : ∀ b w ci fs, ci = 8 ∨ ci = 7 → h.2.2 b = some (w, .inr (ci, fs)) → h'.2.2 b = h.2.2 b) : RdS h' rk q := by
  obtain ⟨k, u, c, ⟨ru, tr, sh, sa, aa, da, h1, h2⟩, h3⟩ := L
  exact ⟨k, u, c, ⟨ru, tr, sh, sa, aa, da, (e1 _ _ _ _ (Or.inl rfl) h1).trans h1, (e1 _ _ _ _ (Or.inr rfl) h2).trans h2⟩, h3⟩
theorem c_J20_rangeCheck (K : KT) (d : Nat) (h : MH) (n a b : Int) (hb : 0 ≤ a ∧ a ≤ b ∧ b ≤ n) (hn : In n) : Mt K yiJ20_rangeCheck d [vi n, vi a, vi b] h (Rv fun h' => h = h') := by
  have := hn.2
  refine mt_ofQ (by decide) (Nat.le_of_ble_eq_true rfl) (fun Q hQ => ?_)
  show MW K yiJ20_rangeCheck d h 0 [some (vi n), some (vi a), some (vi b)] [] Q
  refine mw_wf (fun hwf => ?_)
  refine j_iload_n (y := yiJ20_rangeCheck) dJ20_rangeCheck_0 rfl ?_
  refine j_iload_n (y := yiJ20_rangeCheck) dJ20_rangeCheck_1 rfl ?_
  refine j_icmp_le (y := yiJ20_rangeCheck) 46 dJ20_rangeCheck_2 (by decide) ⟨⟨by omega, by omega⟩, ⟨by omega, by omega⟩⟩ (fun c2 => ?_) (fun c2 => False.elim (by omega))
  refine j_iload_n (y := yiJ20_rangeCheck) dJ20_rangeCheck_46 rfl ?_
  refine j_if_ge (y := yiJ20_rangeCheck) 59 dJ20_rangeCheck_47 (by decide) ⟨by omega, by omega⟩ (fun c47 => ?_) (fun c47 => False.elim (by omega))
  refine j_iload_n (y := yiJ20_rangeCheck) dJ20_rangeCheck_59 rfl ?_
  refine j_iload_n (y := yiJ20_rangeCheck) dJ20_rangeCheck_60 rfl ?_
  refine j_icmp_le (y := yiJ20_rangeCheck) 73 dJ20_rangeCheck_61 (by decide) ⟨⟨by omega, by omega⟩, ⟨by omega, by omega⟩⟩ (fun c61 => ?_) (fun c61 => False.elim (by omega))
  subst hQ; exact j_vret (y := yiJ20_rangeCheck) dJ20_rangeCheck_73 rfl rfl
theorem c_J20_sort_2 (K : KT) (d : Nat) (h : MH) (rk : Nat → Int) (e cap : Nat) (w : Bool) (B : Int) (f0 : Int → Option Nat) (p0 : Int → Nat) (hd : 10 ≤ d) (hU : kV K 11 = vi 0) (hB : kV K 12 = vi 1) (he : h.2.2 e = some (w, oaE K cap f0)) (hw : w = true ∨ B < 2) (hA : ArS h rk e 0 B f0 f0 p0) (hb : 0 ≤ B ∧ B ≤ (cap : Int) ∧ cap ≤ 60000 ∧ B ≤ 63) (hI : Inj rk p0 0 B) (hz : h.1 + 4 ≤ kC K ∧ h.2.1 + 400 ≤ kS K) : Mt K yiJ20_sort_2 d [.ref e, vi 0, vi B] h (Rv fun h' => SoQ K h h' rk e cap w B f0 p0) := by
  have hA0 := hA
  refine mt_ofQ (by decide) (Nat.le_of_ble_eq_true rfl) (fun Q hQ => ?_)
  show MW K yiJ20_sort_2 d h 0 [some (.ref e), some (vi 0), some (vi B)] [] Q
  refine mw_wf (fun hwf => ?_)
  have l_he := hwf _ _ he
  refine m_aload_n (y := yiJ20_sort_2) dJ20_sort_2_0 rfl ?_
  refine h_alen (y := yiJ20_sort_2) 5 (by decide) dJ20_sort_2_1 he ?_
  refine j_iload_n (y := yiJ20_sort_2) dJ20_sort_2_2 rfl ?_
  refine j_iload_n (y := yiJ20_sort_2) dJ20_sort_2_3 rfl ?_
  refine m_invS (y := yiJ20_sort_2) [(vi ((cap : Nat) : Int)), (vi 0), (vi B)] dJ20_sort_2_4 q657 q658 q145 q659 (c_J20_rangeCheck K 0 h _ _ _ ⟨by omega, by omega, by omega⟩ ⟨by omega, by omega⟩) pdJ20_rangeCheck ⟨Nat.le_of_ble_eq_true rfl, by decide, by omega⟩ (kk_v fun h4 q4 => ?_) kx_v
  obtain rfl := q4
  refine m_getsN (y := yiJ20_sort_2) 11 rfl dJ20_sort_2_7 q1984 hU ?_
  refine j_if_eq (y := yiJ20_sort_2) 22 dJ20_sort_2_10 (by decide) ⟨by decide, by decide⟩ (fun _ => ?_) (fun c => absurd c (by decide))
  refine m_aload_n (y := yiJ20_sort_2) dJ20_sort_2_22 rfl ?_
  refine j_iload_n (y := yiJ20_sort_2) dJ20_sort_2_23 rfl ?_
  refine j_iload_n (y := yiJ20_sort_2) dJ20_sort_2_24 rfl ?_
  refine m_null (y := yiJ20_sort_2) dJ20_sort_2_25 ?_
  refine j_iconst (y := yiJ20_sort_2) dJ20_sort_2_26 ?_
  refine j_iconst (y := yiJ20_sort_2) dJ20_sort_2_27 ?_
  refine m_invS (y := yiJ20_sort_2) [(.ref e), (vi 0), (vi B), .null, (vi 0), (vi 0)] dJ20_sort_2_28 q1986 q1987 q171 q1988 (c_sortW K 9 h rk e cap w B f0 p0 (by omega) hB he hw hA0 hb hI hz) pdJ35_sort ⟨Nat.le_of_ble_eq_true rfl, by decide, by omega⟩ (kk_v fun h28 q28 => ?_) kx_v
  obtain q28 := q28
  refine mw_wf (fun hwf28 => ?_)
  subst hQ; exact j_vret (y := yiJ20_sort_2) dJ20_sort_2_31 rfl q28
theorem c_J20_sort (K : KT) (d : Nat) (h : MH) (rk : Nat → Int) (e cap : Nat) (w : Bool) (B : Int) (f0 : Int → Option Nat) (p0 : Int → Nat) (hd : 11 ≤ d) (hU : kV K 11 = vi 0) (hB : kV K 12 = vi 1) (he : h.2.2 e = some (w, oaE K cap f0)) (hw : w = true ∨ B < 2) (hA : ArS h rk e 0 B f0 f0 p0) (hb : 0 ≤ B ∧ B ≤ (cap : Int) ∧ cap ≤ 60000 ∧ B ≤ 63) (hI : Inj rk p0 0 B) (hz : h.1 + 4 ≤ kC K ∧ h.2.1 + 400 ≤ kS K) : Mt K yiJ20_sort d [.ref e, vi 0, vi B, .null] h (Rv fun h' => SoQ K h h' rk e cap w B f0 p0) := by
  have hA0 := hA
  refine mt_ofQ (by decide) (Nat.le_of_ble_eq_true rfl) (fun Q hQ => ?_)
  show MW K yiJ20_sort d h 0 [some (.ref e), some (vi 0), some (vi B), some .null] [] Q
  refine mw_wf (fun hwf => ?_)
  have l_he := hwf _ _ he
  refine m_aload_nN (y := yiJ20_sort) dJ20_sort_0 rfl ?_
  refine m_ifnonnull (y := yiJ20_sort) (x := none) 13 dJ20_sort_1 (by decide) (fun _ h9 => nomatch h9) (fun _ => ?_)
  refine m_aload_n (y := yiJ20_sort) dJ20_sort_4 rfl ?_
  refine j_iload_n (y := yiJ20_sort) dJ20_sort_5 rfl ?_
  refine j_iload_n (y := yiJ20_sort) dJ20_sort_6 rfl ?_
  refine m_invS (y := yiJ20_sort) [(.ref e), (vi 0), (vi B)] dJ20_sort_7 q1981 q1982 q145 q1983 (c_J20_sort_2 K 10 h rk e cap w B f0 p0 (by omega) hU hB he hw hA0 hb hI hz) pdJ20_sort_2 ⟨Nat.le_of_ble_eq_true rfl, by decide, by omega⟩ (kk_v fun h7 q7 => ?_) kx_v
  obtain q7 := q7
  refine mw_wf (fun hwf7 => ?_)
  refine m_goto (y := yiJ20_sort) 46 dJ20_sort_10 (by decide) ?_
  subst hQ; exact j_vret (y := yiJ20_sort) dJ20_sort_46 rfl q7
def SrtQ (K : KT) (h h' : MH) (rk : Nat → Int) (e0 a e : Nat) (n : Int) (p : Int → Nat) : Prop := ∃ p' : Int → Nat, LsB K h' e0 a e n p' ∧ (∀ i, 0 ≤ i → i < n → RdS h' rk (p' i)) ∧ Asc rk p' 0 n ∧ Sms p p' 0 n ∧ (h.1 ≤ h'.1 ∧ h'.1 ≤ h.1 + 4) ∧ (h.2.1 ≤ h'.2.1 ∧ h'.2.1 ≤ h.2.1 + 400) ∧ ∀ q, q < h.1 ∧ (q ≠ e ∨ q = e0) ∧ q ≠ a → h'.2.2 q = h.2.2 q
theorem SrtQ.fr {K : KT} {h h' : MH} {rk : Nat → Int} {e0 a e : Nat} {n : Int} {p : Int → Nat} (Q : SrtQ K h h' rk e0 a e n p) : ∀ q, q < h.1 ∧ (q ≠ e ∨ q = e0) ∧ q ≠ a → h'.2.2 q = h.2.2 q := by
  obtain ⟨p', -, -, -, -, -, -, s⟩ := Q; exact s
theorem SrtQ.sz {K : KT} {h h' : MH} {rk : Nat → Int} {e0 a e : Nat} {n : Int} {p : Int → Nat} (Q : SrtQ K h h' rk e0 a e n p) : (h.1 ≤ h'.1 ∧ h'.1 ≤ h.1 + 4) ∧ (h.2.1 ≤ h'.2.1 ∧ h'.2.1 ≤ h.2.1 + 400) := by
  obtain ⟨p', -, -, -, -, s1, s2, -⟩ := Q; exact ⟨s1, s2⟩
theorem c_J2_sort (K : KT) (d : Nat) (h : MH) (rk : Nat → Int) (e0 a e : Nat) (n : Int) (p : Int → Nat) (hd : 12 ≤ d) (hU : kV K 11 = vi 0) (hB : kV K 12 = vi 1) (hE : E0A K h e0) (hL : LsB K h e0 a e n p) (hR : ∀ i, 0 ≤ i → i < n → RdS h rk (p i)) (hn : n ≤ 63) (hI : Inj rk p 0 n) (hz : h.1 + 4 ≤ kC K ∧ h.2.1 + 400 ≤ kS K) : Mt K yiJ2_sort d [.ref a, .null] h (Rv fun h' => SrtQ K h h' rk e0 a e n p) := by
  obtain ⟨w, cap, mc, f, ho, he, hae, h0, hw, hc, hf, hno⟩ := hL
  have he' := he
  refine mt_ofQ (by decide) (Nat.le_of_ble_eq_true rfl) (fun Q hQ => ?_)
  show MW K yiJ2_sort d h 0 [some (.ref a), some .null, none] [] Q
  refine mw_wf (fun hwf => ?_)
  have l_ho := hwf _ _ ho
  have l_he := hwf _ _ he
  refine m_aload_n (y := yiJ2_sort) dJ2_sort_0 rfl ?_
  refine m_getf (y := yiJ2_sort) kc_14 0 (by decide) dJ2_sort_1 q221 (Or.inr q220) ho rfl ?_
  refine j_istore_n (y := yiJ2_sort) [some (.ref a), some .null, some (vi mc)] dJ2_sort_4 (by decide) rfl rfl ?_
  refine m_aload_n (y := yiJ2_sort) dJ2_sort_5 rfl ?_
  refine m_getfS (y := yiJ2_sort) kc_14 1 (by decide) dJ2_sort_6 q213 ho rfl ?_
  refine j_iconst (y := yiJ2_sort) dJ2_sort_9 ?_
  refine m_aload_n (y := yiJ2_sort) dJ2_sort_10 rfl ?_
  refine m_getfS (y := yiJ2_sort) kc_14 2 (by decide) dJ2_sort_11 q217 ho rfl ?_
  refine m_aload_nN (y := yiJ2_sort) dJ2_sort_14 rfl ?_
  refine m_invS (y := yiJ2_sort) [(.ref e), (vi 0), (vi n), .null] dJ2_sort_15 q1978 q1979 q145 q1980 (c_J20_sort K 11 h rk e cap w n f p (by omega) hU hB he (by { by_cases e9 : cap = 0; { exact Or.inr (by omega) }; { exact Or.inl (hw e9) } }) ⟨fun i i1 i2 => ⟨hf i i1 i2, hR i i1 i2⟩, fun _ _ => rfl⟩ ⟨by omega, by omega, by omega, by omega⟩ hI hz) pdJ20_sort ⟨Nat.le_of_ble_eq_true rfl, by decide, by omega⟩ (kk_v fun h15 q15 => ?_) kx_v
  obtain ⟨f2, p2, z1, z2, he2, a2, s2, m2, k2, k3⟩ := q15
  have ho : h15.2.2 a = some (true, .inr (14, [(vi mc), (.ref e), (vi n)])) := (k2 _ (by omega)).trans ho
  refine mw_wf (fun hwf15 => ?_)
  have l_he215 := hwf15 _ _ he2
  refine m_aload_n (y := yiJ2_sort) dJ2_sort_18 rfl ?_
  refine m_getf (y := yiJ2_sort) kc_14 0 (by decide) dJ2_sort_19 q221 (Or.inr q220) ho rfl ?_
  refine j_iload_n (y := yiJ2_sort) dJ2_sort_22 rfl ?_
  refine m_icmp_eq (y := yiJ2_sort) 34 dJ2_sort_23 (by decide) (fun _ => ?_) (fun c => absurd rfl c)
  refine m_aload_n (y := yiJ2_sort) dJ2_sort_34 rfl ?_
  have ho5 := ho
  refine m_dup (y := yiJ2_sort) dJ2_sort_35 rfl ?_
  refine m_getf (y := yiJ2_sort) kc_14 0 (by decide) dJ2_sort_36 q221 (Or.inr q220) ho rfl ?_
  refine j_iconst (y := yiJ2_sort) dJ2_sort_39 ?_
  refine j_iadd (y := yiJ2_sort) dJ2_sort_40 ?_
  refine m_putf (y := yiJ2_sort) kc_14 0 (by decide) dJ2_sort_41 q221 (Or.inr q220) rfl ho rfl rfl (hp_put fun g1 g1H => ?_)
  have he2 : g1.2.2 e = some (w, oaE K cap f2) := (g1H.2.2.2 _ (by omega)).trans he2
  have ho : g1.2.2 a = some (true, .inr (14, [(vi (mc + 1)), (.ref e), (vi n)])) := g1H.2.2.1
  have g11 := g1H.1
  have g12 := g1H.2.1
  subst hQ; exact j_vret (y := yiJ2_sort) dJ2_sort_44 rfl (⟨p2, ⟨w, cap, _, f2, ho, he2, hae, h0, hw, hc, fun i i1 i2 => (a2.1 i i1 i2).1, fun i i1 => by { rw [a2.2 i (Or.inr i1)]; exact hno i i1 }⟩, fun i i1 i2 => (a2.1 i i1 i2).2.up2 (fun b w9 ci fs h78 hb9 => g1H.2.2.2 b (ne_oo hb9 ho5 (by omega))), s2, m2, by omega, by omega, fun q hq => (g1H.2.2.2 q (by omega)).trans (by { by_cases e9 : q = e; { have e8 : q = e0 := (by omega); exact k3 (by { have e7 := oa_cap he' (by rw [← e9, e8]; exact hE.2); omega }) q hq.1 }; { exact k2 q ⟨hq.1, e9⟩ } })⟩)
theorem c_J34_sort (K : KT) (d : Nat) (h : MH) (rk : Nat → Int) (e0 a e : Nat) (n : Int) (p : Int → Nat) (hd : 13 ≤ d) (hU : kV K 11 = vi 0) (hB : kV K 12 = vi 1) (hE : E0A K h e0) (hL : LsB K h e0 a e n p) (hR : ∀ i, 0 ≤ i → i < n → RdS h rk (p i)) (hn : n ≤ 63) (hI : Inj rk p 0 n) (hz : h.1 + 4 ≤ kC K ∧ h.2.1 + 400 ≤ kS K) : Mt K yiJ34_sort d [.ref a] h (Rv fun h' => SrtQ K h h' rk e0 a e n p) := by
  have hL0 := hL
  obtain ⟨w, cap, mc, f, ho, he, hae, h0, hw, hc, hf, hno⟩ := hL
  refine mt_ofQ (by decide) (Nat.le_of_ble_eq_true rfl) (fun Q hQ => ?_)
  show MW K yiJ34_sort d h 0 [some (.ref a)] [] Q
  refine mw_wf (fun hwf => ?_)
  have l_ho := hwf _ _ ho
  refine m_aload_n (y := yiJ34_sort) dJ34_sort_0 rfl ?_
  refine m_null (y := yiJ34_sort) dJ34_sort_1 ?_
  refine m_invF (y := yiJ34_sort) (rB := (RJ2, TJ2, 3)) [.null] dJ34_sort_2 ho rfl q1970 q1972 q1971 rfl q1973 q1975 q1976 q1974 q1935 q126 q1977 ⟨by decide, by decide⟩ (by show _ = some 1; decide +kernel) (c_J2_sort K 12 h rk e0 a e n p (by omega) hU hB hE hL0 hR hn hI hz) pdJ2_sort ⟨Nat.le_of_ble_eq_true rfl, by decide, by omega⟩ (kk_v fun h2 q2 => ?_) kx_v
  obtain q2 := q2
  refine mw_wf (fun hwf2 => ?_)
  subst hQ; exact j_vret (y := yiJ34_sort) dJ34_sort_7 rfl q2
