/-! java.lang.Integer; Arrays.fill, copyOf of ints; sort of few ints -/
def jaE (K : KT) (n : Nat) (f : Int → Option Nat) : va_E := .inl (kA K 7, n, .inr (.inr (.inr (.inr (qfn f)))))
theorem h_aald7 {K : KT} {y : YT} {d : Nat} {h : MH} {pc : Nat} {ls : List (Option Value)} {st : List Value} {Q : OT → MH → Prop} {a n : Nat} {w : Bool} {f : Int → Option Nat} {i : Int} (hdg : decode y.2.1 pc = .ok (.aaload, 1)) (ha : h.2.2 a = some (w, jaE K n f)) (hi : 0 ≤ i ∧ i < n) (hn : n ≤ 2147483647) (kk : MW K y d h (pc + 1) ls (va_rf (f i) :: st) Q) : MW K y d h pc ls (vi i :: .ref a :: st) Q := m_aald 7 (by decide) rfl hdg ha (vin hi hn) (by rw [qfn_at hi hn]; exact kk)
/-- an Integer -/
def IgA (h : MH) (q : Nat) (i : Int) : Prop := ∃ w, h.2.2 q = some (w, .inr (22, [vi i]))
/-- the cache of small Integers -/
def ICa (K : KT) (h : MH) (cc : Nat) : Prop := ∃ (n : Nat) (f : Int → Option Nat), h.2.2 cc = some (false, jaE K n f) ∧ (256 ≤ n ∧ n ≤ 100000) ∧ ∀ i, -128 ≤ i → i ≤ 127 → ∃ q, f (i + 128) = some q ∧ ∃ w, h.2.2 q = some (w, .inr (22, [vi i]))
theorem c_J24_init (K : KT) (d : Nat) (h : MH) (a : Nat) (hd : 1 ≤ d) : Mt K yiJ24_init d [.ref a] h (Rv fun h' => h = h') := by
  refine mt_ofQ (by decide) (Nat.le_of_ble_eq_true rfl) (fun Q hQ => ?_)
  show MW K yiJ24_init d h 0 [some (.ref a)] [] Q
  refine mw_wf (fun hwf => ?_)
  refine m_aload_n (y := yiJ24_init) dJ24_init_0 rfl ?_
  refine m_objInit (y := yiJ24_init) dJ24_init_1 q1393 q195 q196 ⟨Nat.le_of_ble_eq_true rfl, by omega⟩ ?_
  subst hQ; exact j_vret (y := yiJ24_init) dJ24_init_4 rfl rfl
theorem c_J25_init (K : KT) (d : Nat) (h : MH) (a : Nat) (i : Int) (hd : 2 ≤ d) (ha : h.2.2 a = some (true, .inr (22, [vi 0]))) : Mt K yiJ25_init d [.ref a, vi i] h (Rv fun h' => Hp h h' a (true, .inr (22, [vi i])) 0 0) := by
  refine mt_ofQ (by decide) (Nat.le_of_ble_eq_true rfl) (fun Q hQ => ?_)
  show MW K yiJ25_init d h 0 [some (.ref a), some (vi i)] [] Q
  refine mw_wf (fun hwf => ?_)
  have l_ha := hwf _ _ ha
  refine m_aload_n (y := yiJ25_init) dJ25_init_0 rfl ?_
  refine m_invI (y := yiJ25_init) [] dJ25_init_1 q1390 q1391 q150 q1392 rfl rfl (c_J24_init K 1 h a (by omega)) pdJ24_init ⟨Nat.le_of_ble_eq_true rfl, by decide, by omega⟩ (kk_v fun h1 q1 => ?_) kx_v
  obtain rfl := q1
  refine m_aload_n (y := yiJ25_init) dJ25_init_4 rfl ?_
  refine j_iload_n (y := yiJ25_init) dJ25_init_5 rfl ?_
  refine m_putfF (y := yiJ25_init) kc_22 0 (by decide) dJ25_init_6 q1394 rfl rfl rfl ha rfl rfl (hp_put fun g1 g1H => ?_)
  have ha : g1.2.2 a = some (true, .inr (22, [(vi i)])) := g1H.2.2.1
  have g11 := g1H.1
  have g12 := g1H.2.1
  subst hQ; exact j_vret (y := yiJ25_init) dJ25_init_9 rfl (⟨by omega, by omega, ha, g1H.2.2.2⟩)
theorem c_J25_valueOf (K : KT) (d : Nat) (h : MH) (cc : Nat) (i : Int) (hd : 3 ≤ d) (h9 : kV K 9 = vi 127) (h10 : kV K 10 = .ref cc) (hC : ICa K h cc) (hi : In i) (hz : h.1 + 1 ≤ kC K ∧ h.2.1 + 1 ≤ kS K) : Mt K yiJ25_valueOf d [vi i] h (Rr fun r h' => IgA h' r i ∧ (h.1 ≤ h'.1 ∧ h'.1 ≤ h.1 + 1) ∧ (h.2.1 ≤ h'.2.1 ∧ h'.2.1 ≤ h.2.1 + 1) ∧ r < h'.1 ∧ (∀ b, b < h.1 → h'.2.2 b = h.2.2 b) ∧ (r < h.1 → h = h')) := by
  obtain ⟨n, f, hc, hn, hf⟩ := hC
  have i1 := hi.1
  have i2 := hi.2
  by_cases hs : -128 ≤ i ∧ i ≤ 127
  · obtain ⟨q, e1, wq, e2⟩ := hf i hs.1 hs.2
    refine mt_ofQ (by decide) (Nat.le_of_ble_eq_true rfl) (fun Q hQ => ?_)
    show MW K yiJ25_valueOf d h 0 [some (vi i)] [] Q
    refine mw_wf (fun hwf => ?_)
    have l_hc := hwf _ _ hc
    refine j_iload_n (y := yiJ25_valueOf) dJ25_valueOf_0 rfl ?_
    refine j_bipush (y := yiJ25_valueOf) dJ25_valueOf_1 (by decide) ?_
    refine j_icmp_lt (y := yiJ25_valueOf) 23 dJ25_valueOf_3 (by decide) ⟨⟨by omega, by omega⟩, ⟨by omega, by omega⟩⟩ (fun c3 => False.elim (by omega)) (fun c3 => ?_)
    refine j_iload_n (y := yiJ25_valueOf) dJ25_valueOf_6 rfl ?_
    refine m_gets (y := yiJ25_valueOf) (ref := "") 9 rfl dJ25_valueOf_7 q1381 h9 ?_
    refine j_icmp_gt (y := yiJ25_valueOf) 23 dJ25_valueOf_10 (by decide) ⟨⟨by omega, by omega⟩, ⟨by omega, by omega⟩⟩ (fun c10 => False.elim (by omega)) (fun c10 => ?_)
    refine m_gets (y := yiJ25_valueOf) (ref := "") 10 rfl dJ25_valueOf_13 q1383 h10 ?_
    refine j_iload_n (y := yiJ25_valueOf) dJ25_valueOf_16 rfl ?_
    refine j_sipush (y := yiJ25_valueOf) dJ25_valueOf_17 (by decide) ?_
    refine j_iadd (y := yiJ25_valueOf) dJ25_valueOf_20 ?_
    refine h_aald7 (y := yiJ25_valueOf) dJ25_valueOf_21 hc ⟨by omega, by omega⟩ (by omega) ?_
    rw [e1]
    show MW K yiJ25_valueOf d h 22 [some (vi i)] [(.ref q)] Q
    subst hQ; exact m_aret (y := yiJ25_valueOf) (x := (some q)) dJ25_valueOf_22 rfl (Or.inl ⟨_, rfl⟩) ⟨q, rfl, ⟨⟨wq, e2⟩, by omega, by omega, hwf _ _ e2, fun _ _ => rfl, fun _ => rfl⟩⟩
  · refine mt_ofQ (by decide) (Nat.le_of_ble_eq_true rfl) (fun Q hQ => ?_)
    show MW K yiJ25_valueOf d h 0 [some (vi i)] [] Q
    refine mw_wf (fun hwf => ?_)
    have fR : ∀ b, (b < h.1) → h.2.2 b = h.2.2 b := fun _ _ => rfl
    refine j_iload_n (y := yiJ25_valueOf) dJ25_valueOf_0 rfl ?_
    refine j_bipush (y := yiJ25_valueOf) dJ25_valueOf_1 (by decide) ?_
    refine j_icmp_lt (y := yiJ25_valueOf) 23 dJ25_valueOf_3 (by decide) ⟨⟨by omega, by omega⟩, ⟨by omega, by omega⟩⟩ (fun c3 => ?_) (fun c3 => ?_)
    · refine m_new (y := yiJ25_valueOf) kc_22 1 dJ25_valueOf_23 q1385 q1386 q151 _ rfl ⟨by omega, by omega⟩ (hp_new fun g1 g1H => ?_)
      have fR : ∀ b, (b < h.1) → g1.2.2 b = h.2.2 b := fun b hb => (g1H.2.2.2 b (by omega)).trans (fR b hb)
      have fg1 : g1.2.2 h.1 = some (true, .inr (22, [(vi 0)])) := g1H.2.2.1
      have g11 := g1H.1
      have g12 := g1H.2.1
      refine m_dup (y := yiJ25_valueOf) dJ25_valueOf_26 rfl ?_
      refine j_iload_n (y := yiJ25_valueOf) dJ25_valueOf_27 rfl ?_
      refine m_invI (y := yiJ25_valueOf) [(vi i)] dJ25_valueOf_28 q1387 q1388 q151 q1389 rfl rfl (c_J25_init K 2 g1 h.1 i (by omega) fg1) pdJ25_init ⟨Nat.le_of_ble_eq_true rfl, by decide, by omega⟩ (kk_v fun h28 q28 => ?_) kx_v
      obtain q28 := q28
      have y28 := q28.1
      have z28 := q28.2.1
      have fn := q28.2.2.1
      have fR : ∀ b, (b < h.1) → h28.2.2 b = h.2.2 b := fun b hb => (q28.2.2.2 b (by omega)).trans (fR b hb)
      refine mw_wf (fun hwf28 => ?_)
      have l_fn28 := hwf28 _ _ fn
      subst hQ; exact m_aret (y := yiJ25_valueOf) (x := (some h.1)) dJ25_valueOf_31 rfl (Or.inl ⟨_, rfl⟩) ⟨h.1, rfl, ⟨⟨true, fn⟩, by omega, by omega, by omega, fR, fun h8 => absurd h8 (by omega)⟩⟩
    · refine j_iload_n (y := yiJ25_valueOf) dJ25_valueOf_6 rfl ?_
      refine m_gets (y := yiJ25_valueOf) (ref := "") 9 rfl dJ25_valueOf_7 q1381 h9 ?_
      refine j_icmp_gt (y := yiJ25_valueOf) 23 dJ25_valueOf_10 (by decide) ⟨⟨by omega, by omega⟩, ⟨by omega, by omega⟩⟩ (fun c10 => ?_) (fun c10 => ?_)
      · refine m_new (y := yiJ25_valueOf) kc_22 1 dJ25_valueOf_23 q1385 q1386 q151 _ rfl ⟨by omega, by omega⟩ (hp_new fun g2 g2H => ?_)
        have fR : ∀ b, (b < h.1) → g2.2.2 b = h.2.2 b := fun b hb => (g2H.2.2.2 b (by omega)).trans (fR b hb)
        have fg2 : g2.2.2 h.1 = some (true, .inr (22, [(vi 0)])) := g2H.2.2.1
        have g21 := g2H.1
        have g22 := g2H.2.1
        refine m_dup (y := yiJ25_valueOf) dJ25_valueOf_26 rfl ?_
        refine j_iload_n (y := yiJ25_valueOf) dJ25_valueOf_27 rfl ?_
        refine m_invI (y := yiJ25_valueOf) [(vi i)] dJ25_valueOf_28 q1387 q1388 q151 q1389 rfl rfl (c_J25_init K 2 g2 h.1 i (by omega) fg2) pdJ25_init ⟨Nat.le_of_ble_eq_true rfl, by decide, by omega⟩ (kk_v fun h28 q28 => ?_) kx_v
        obtain q28 := q28
        have y28 := q28.1
        have z28 := q28.2.1
        have fn := q28.2.2.1
        have fR : ∀ b, (b < h.1) → h28.2.2 b = h.2.2 b := fun b hb => (q28.2.2.2 b (by omega)).trans (fR b hb)
        refine mw_wf (fun hwf28 => ?_)
        have l_fn28 := hwf28 _ _ fn
        subst hQ; exact m_aret (y := yiJ25_valueOf) (x := (some h.1)) dJ25_valueOf_31 rfl (Or.inl ⟨_, rfl⟩) ⟨h.1, rfl, ⟨⟨true, fn⟩, by omega, by omega, by omega, fR, fun h8 => absurd h8 (by omega)⟩⟩
      · exact absurd ⟨by omega, by omega⟩ hs
theorem c_J25_intValue {K : KT} {d : Nat} {h : MH} {a : Nat} {i : Int} {w : Bool} (ha : h.2.2 a = some (w, .inr (22, [vi i]))) : Mt K yiJ25_intValue d [.ref a] h (Rz fun v h' => h = h' ∧ i = v) := by
  refine mt_ofQ (by decide) (Nat.le_of_ble_eq_true rfl) (fun Q hQ => ?_)
  show MW K yiJ25_intValue d h 0 [some (.ref a)] [] Q
  refine mw_wf (fun hwf => ?_)
  have l_ha := hwf _ _ ha
  refine m_aload_n (y := yiJ25_intValue) dJ25_intValue_0 rfl ?_
  refine m_getfS (y := yiJ25_intValue) kc_22 0 (by decide) dJ25_intValue_1 q1394 ha rfl ?_
  subst hQ; exact j_iret (y := yiJ25_intValue) dJ25_intValue_4 rfl (⟨rfl, rfl⟩)
/-- how two whole numbers compare -/
def cmI3 (x y : Int) : Int := if x < y then -1 else if x = y then 0 else 1
theorem c_J25_compare (K : KT) (d : Nat) (h : MH) (x y : Int) (hx : In x) (hy : In y) : Mt K yiJ25_compare d [vi x, vi y] h (Rz fun v h' => h = h' ∧ cmI3 x y = v) := by
  have := hx.1; have := hx.2; have := hy.1; have := hy.2
  refine mt_ofQ (by decide) (Nat.le_of_ble_eq_true rfl) (fun Q hQ => ?_)
  show MW K yiJ25_compare d h 0 [some (vi x), some (vi y)] [] Q
  refine mw_wf (fun hwf => ?_)
  refine j_iload_n (y := yiJ25_compare) dJ25_compare_0 rfl ?_
  refine j_iload_n (y := yiJ25_compare) dJ25_compare_1 rfl ?_
  refine j_icmp_ge (y := yiJ25_compare) 9 dJ25_compare_2 (by decide) ⟨⟨by omega, by omega⟩, ⟨by omega, by omega⟩⟩ (fun c2 => ?_) (fun c2 => ?_)
  · refine j_iload_n (y := yiJ25_compare) dJ25_compare_9 rfl ?_
    refine j_iload_n (y := yiJ25_compare) dJ25_compare_10 rfl ?_
    refine j_icmp_ne (y := yiJ25_compare) 18 dJ25_compare_11 (by decide) ⟨⟨by omega, by omega⟩, ⟨by omega, by omega⟩⟩ (fun c11 => ?_) (fun c11 => ?_)
    · refine j_iconst (y := yiJ25_compare) dJ25_compare_18 ?_
      subst hQ; exact j_iret (y := yiJ25_compare) dJ25_compare_19 rfl (⟨rfl, by { unfold cmI3; first | rw [if_pos (by omega)] | (rw [if_neg (by omega)]; first | rw [if_pos (by omega)] | rw [if_neg (by omega)]) }⟩)
    · refine j_iconst (y := yiJ25_compare) dJ25_compare_14 ?_
      refine m_goto (y := yiJ25_compare) 19 dJ25_compare_15 (by decide) ?_
      subst hQ; exact j_iret (y := yiJ25_compare) dJ25_compare_19 rfl (⟨rfl, by { unfold cmI3; first | rw [if_pos (by omega)] | (rw [if_neg (by omega)]; first | rw [if_pos (by omega)] | rw [if_neg (by omega)]) }⟩)
  · refine j_iconst (y := yiJ25_compare) dJ25_compare_5 ?_
    refine m_goto (y := yiJ25_compare) 19 dJ25_compare_6 (by decide) ?_
    subst hQ; exact j_iret (y := yiJ25_compare) dJ25_compare_19 rfl (⟨rfl, by { unfold cmI3; first | rw [if_pos (by omega)] | (rw [if_neg (by omega)]; first | rw [if_pos (by omega)] | rw [if_neg (by omega)]) }⟩)
theorem c_J25_compareTo_2 (K : KT) (d : Nat) (h : MH) (a b : Nat) (wa wb : Bool) (x y : Int) (hd : 1 ≤ d) (ha : h.2.2 a = some (wa, .inr (22, [vi x]))) (hb : h.2.2 b = some (wb, .inr (22, [vi y]))) (hx : In x) (hy : In y) : Mt K yiJ25_compareTo_2 d [.ref a, .ref b] h (Rz fun v h' => h = h' ∧ cmI3 x y = v) := by
  refine mt_ofQ (by decide) (Nat.le_of_ble_eq_true rfl) (fun Q hQ => ?_)
  show MW K yiJ25_compareTo_2 d h 0 [some (.ref a), some (.ref b)] [] Q
  refine mw_wf (fun hwf => ?_)
  have l_ha := hwf _ _ ha
  have l_hb := hwf _ _ hb
  refine m_aload_n (y := yiJ25_compareTo_2) dJ25_compareTo_2_0 rfl ?_
  refine m_getfS (y := yiJ25_compareTo_2) kc_22 0 (by decide) dJ25_compareTo_2_1 q1394 ha rfl ?_
  refine m_aload_n (y := yiJ25_compareTo_2) dJ25_compareTo_2_4 rfl ?_
  refine m_getfS (y := yiJ25_compareTo_2) kc_22 0 (by decide) dJ25_compareTo_2_5 q1394 hb rfl ?_
  refine m_invS (y := yiJ25_compareTo_2) [(vi x), (vi y)] dJ25_compareTo_2_8 q1555 q1556 q151 q1557 (c_J25_compare K 0 h x y hx hy) pdJ25_compare ⟨Nat.le_of_ble_eq_true rfl, by decide, by omega⟩ (kk_z fun r8 h8 q8 => ?_) kx_z
  obtain ⟨rfl, rfl⟩ := q8
  refine mw_top (x' := cmI3 x y) rfl ?_
  subst hQ; exact j_iret (y := yiJ25_compareTo_2) dJ25_compareTo_2_11 rfl (⟨rfl, rfl⟩)
theorem c_J25_compareTo (K : KT) (d : Nat) (h : MH) (a b : Nat) (wa wb : Bool) (x y : Int) (hd : 2 ≤ d) (ha : h.2.2 a = some (wa, .inr (22, [vi x]))) (hb : h.2.2 b = some (wb, .inr (22, [vi y]))) (hx : In x) (hy : In y) : Mt K yiJ25_compareTo d [.ref a, .ref b] h (Rz fun v h' => h = h' ∧ cmI3 x y = v) := by
  refine mt_ofQ (by decide) (Nat.le_of_ble_eq_true rfl) (fun Q hQ => ?_)
  show MW K yiJ25_compareTo d h 0 [some (.ref a), some (.ref b)] [] Q
  refine mw_wf (fun hwf => ?_)
  have l_ha := hwf _ _ ha
  have l_hb := hwf _ _ hb
  refine m_aload_n (y := yiJ25_compareTo) dJ25_compareTo_0 rfl ?_
  refine m_aload_n (y := yiJ25_compareTo) dJ25_compareTo_1 rfl ?_
  refine m_cast (y := yiJ25_compareTo) dJ25_compareTo_2 hb rfl q1385 (Or.inl rfl) ?_
  refine m_invV (y := yiJ25_compareTo) (rB := (RJ25, TJ25, 1)) [(.ref b)] dJ25_compareTo_5 ha rfl q1551 q1552 q1553 q151 q1554 rfl (c_J25_compareTo_2 K 1 h a b wa wb x y (by omega) ha hb hx hy) pdJ25_compareTo_2 ⟨Nat.le_of_ble_eq_true rfl, by decide, by omega⟩ (kk_z fun r5 h5 q5 => ?_) kx_z
  obtain ⟨rfl, rfl⟩ := q5
  refine mw_top (x' := cmI3 x y) rfl ?_
  subst hQ; exact j_iret (y := yiJ25_compareTo) dJ25_compareTo_8 rfl (⟨rfl, rfl⟩)
theorem c_J20_fill_2 (K : KT) (d : Nat) (h : MH) (a n : Nat) (f : Int → Int) (v : Int) (ha : h.2.2 a = some (true, ia K n f)) (hn : n ≤ 100000) : Mt K yiJ20_fill_2 d [.ref a, vi v] h (Rv fun h' => ∃ f', Hp h h' a (true, ia K n f') 0 0 ∧ ∀ i, 0 ≤ i → i < (n : Int) → f' i = v) := by
  refine mt_ofQ (by decide) (Nat.le_of_ble_eq_true rfl) (fun Q hQ => ?_)
  show MW K yiJ20_fill_2 d h 0 [some (.ref a), some (vi v), none, none] [] Q
  refine mw_wf (fun hwf => ?_)
  have l_ha := hwf _ _ ha
  have fR : ∀ b, (b ≠ a) → h.2.2 b = h.2.2 b := fun _ _ => rfl
  refine j_iconst (y := yiJ20_fill_2) dJ20_fill_2_0 ?_
  refine j_istore_n (y := yiJ20_fill_2) [some (.ref a), some (vi v), some (vi 0), none] dJ20_fill_2_1 (by decide) rfl rfl ?_
  refine m_aload_n (y := yiJ20_fill_2) dJ20_fill_2_2 rfl ?_
  refine h_alen (y := yiJ20_fill_2) 0 (by decide) dJ20_fill_2_3 ha ?_
  refine j_istore_n (y := yiJ20_fill_2) [some (.ref a), some (vi v), some (vi 0), some (vi ((n : Nat) : Int))] dJ20_fill_2_4 (by decide) rfl rfl ?_
  have L5 : ∀ (N : Nat) (i : Int) (f' : Int → Int) (g : MH), ((n : Int) - i).toNat = N → (g.2.2 a = some (true, ia K n f')) → (∀ b, (b ≠ a) → g.2.2 b = h.2.2 b) → (0 ≤ i ∧ i ≤ (n : Int)) → (∀ j, 0 ≤ j → j < i → f' j = v) → (g.1 = h.1 ∧ g.2.1 = h.2.1) → MW K yiJ20_fill_2 d g 5 [some (.ref a), some (vi v), some (vi i), some (vi (n : Int))] [] Q := by
    intro N
    induction N using Nat.strongRecOn with
    | _ N ih5 =>
    intro i f' g hN5 ha fR hi h1 h3
    refine mw_wf (fun hwf5 => ?_)
    have l_ha5 := hwf5 _ _ ha
    refine j_iload_n (y := yiJ20_fill_2) dJ20_fill_2_5 rfl ?_
    refine j_iload_n (y := yiJ20_fill_2) dJ20_fill_2_6 rfl ?_
    refine j_icmp_ge (y := yiJ20_fill_2) 20 dJ20_fill_2_7 (by decide) ⟨⟨by omega, by omega⟩, ⟨by omega, by omega⟩⟩ (fun c7 => ?_) (fun c7 => ?_)
    · subst hQ; exact j_vret (y := yiJ20_fill_2) dJ20_fill_2_20 rfl (⟨f', ⟨by omega, by omega, ha, fR⟩, fun j a b => h1 j a (by omega)⟩)
    · refine m_aload_n (y := yiJ20_fill_2) dJ20_fill_2_10 rfl ?_
      refine j_iload_n (y := yiJ20_fill_2) dJ20_fill_2_11 rfl ?_
      refine j_iload_n (y := yiJ20_fill_2) dJ20_fill_2_12 rfl ?_
      refine j_iast (y := yiJ20_fill_2) dJ20_fill_2_13 ha (by omega) ⟨by omega, by omega⟩ (hp_put fun g1 g1H => ?_)
      have fR : ∀ b, (b ≠ a) → g1.2.2 b = h.2.2 b := fun b hb => (g1H.2.2.2 b (by omega)).trans (fR b hb)
      have ha : g1.2.2 a = some (true, ia K n (upz f' i v)) := g1H.2.2.1
      have g11 := g1H.1
      have g12 := g1H.2.1
      refine j_iinc (y := yiJ20_fill_2) [some (.ref a), some (vi v), some (vi (i + 1)), some (vi (n : Int))] dJ20_fill_2_14 rfl (by decide) rfl rfl ?_
      refine m_goto (y := yiJ20_fill_2) 5 dJ20_fill_2_17 (by decide) ?_
      exact ih5 _ (by omega) _ _ _ rfl ha fR (by omega) (fun j a b => by { unfold upz; by_cases e9 : j = i; { rw [if_pos e9] }; { rw [if_neg e9]; exact h1 j a (by omega) } }) (⟨by omega, by omega⟩)
  exact L5 _ _ _ _ rfl ha fR (by omega) (fun j a b => by omega) (⟨by omega, by omega⟩)
theorem c_J20_copyOf_5 (K : KT) (d : Nat) (h : MH) (e cap : Nat) (w : Bool) (f : Int → Int) (m : Int) (hd : 1 ≤ d) (he : h.2.2 e = some (w, ia K cap f)) (hm : (cap : Int) < m ∧ m ≤ 100000) (hz : h.1 + 1 ≤ kC K ∧ h.2.1 + m.toNat ≤ kS K) : Mt K yiJ20_copyOf_5 d [.ref e, vi m] h (Rr fun v h' => h.1 = v ∧ Hp h h' h.1 (true, ia K m.toNat (cpq f (fun _ => 0) 0 0 (cap : Int))) 1 m.toNat) := by
  refine mt_ofQ (by decide) (Nat.le_of_ble_eq_true rfl) (fun Q hQ => ?_)
  show MW K yiJ20_copyOf_5 d h 0 [some (.ref e), some (vi m), none] [] Q
  refine mw_wf (fun hwf => ?_)
  have l_he := hwf _ _ he
  refine j_iload_n (y := yiJ20_copyOf_5) dJ20_copyOf_5_0 rfl ?_
  refine m_aload_n (y := yiJ20_copyOf_5) dJ20_copyOf_5_1 rfl ?_
  refine h_alen (y := yiJ20_copyOf_5) 0 (by decide) dJ20_copyOf_5_2 he ?_
  refine j_icmp_ne (y := yiJ20_copyOf_5) 14 dJ20_copyOf_5_3 (by decide) ⟨⟨by omega, by omega⟩, ⟨by omega, by omega⟩⟩ (fun c3 => ?_) (fun c3 => False.elim (by omega))
  refine j_iload_n (y := yiJ20_copyOf_5) dJ20_copyOf_5_14 rfl ?_
  refine h_newa0 (y := yiJ20_copyOf_5) dJ20_copyOf_5_15 q229 ⟨by omega, by omega⟩ ⟨by omega, by omega⟩ (hp_new fun g1 g1H => ?_)
  have he : g1.2.2 e = some (w, ia K cap f) := (g1H.2.2.2 _ (by omega)).trans he
  have fg1 : g1.2.2 h.1 = some (true, ia K ((m : Int).toNat) (fun _ => 0)) := g1H.2.2.1
  have g11 := g1H.1
  have g12 := g1H.2.1
  refine m_astore_n (y := yiJ20_copyOf_5) dJ20_copyOf_5_17 (by decide) rfl ?_
  show MW K yiJ20_copyOf_5 d g1 18 [some (.ref e), some (vi m), some (.ref h.1)] [] Q
  refine m_aload_n (y := yiJ20_copyOf_5) dJ20_copyOf_5_18 rfl ?_
  refine j_iconst (y := yiJ20_copyOf_5) dJ20_copyOf_5_19 ?_
  refine m_aload_n (y := yiJ20_copyOf_5) dJ20_copyOf_5_20 rfl ?_
  refine j_iconst (y := yiJ20_copyOf_5) dJ20_copyOf_5_21 ?_
  refine m_aload_n (y := yiJ20_copyOf_5) dJ20_copyOf_5_22 rfl ?_
  refine h_alen (y := yiJ20_copyOf_5) 0 (by decide) dJ20_copyOf_5_23 he ?_
  refine j_iload_n (y := yiJ20_copyOf_5) dJ20_copyOf_5_24 rfl ?_
  refine m_mmin (y := yiJ20_copyOf_5) dJ20_copyOf_5_25 q403 q404 q141 q405 ⟨⟨by omega, by omega⟩, ⟨by omega, by omega⟩⟩ ⟨Nat.le_of_ble_eq_true rfl, by omega⟩ ?_
  have hmin : (if m < (cap : Int) then m else (cap : Int)) = (cap : Int) := if_neg (by omega)
  refine h_copyi (y := yiJ20_copyOf_5) dJ20_copyOf_5_28 q406 he fg1 ⟨by omega, by omega⟩ ⟨by omega, by omega, by omega⟩ (by omega) (by omega) ⟨Nat.le_of_ble_eq_true rfl, by omega⟩ (hp_put fun g2 g2H => ?_)
  have he : g2.2.2 e = some (w, ia K cap f) := (g2H.2.2.2 _ (by omega)).trans he
  have fg1 : g2.2.2 h.1 = some (true, ia K ((m : Int).toNat) (cpq f (fun _ => 0) 0 0 (if m < ((cap : Nat) : Int) then m else ((cap : Nat) : Int)))) := g2H.2.2.1
  have g21 := g2H.1
  have g22 := g2H.2.1
  refine m_aload_n (y := yiJ20_copyOf_5) dJ20_copyOf_5_31 rfl ?_
  subst hQ; exact m_aret (y := yiJ20_copyOf_5) (x := (some h.1)) dJ20_copyOf_5_32 rfl (Or.inr ⟨_, rfl⟩) ⟨h.1, rfl, ⟨rfl, by { rw [hmin] at fg1; exact ⟨by omega, by omega, fg1, fun b hb => (g2H.2.2.2 b (by omega)).trans (g1H.2.2.2 b (by omega))⟩ }⟩⟩
