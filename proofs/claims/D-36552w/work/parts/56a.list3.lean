/-! ArrayList: new, isEmpty, clear, set, add at the head -/
theorem c_J0_init (K : KT) (d : Nat) (h : MH) (a : Nat) (hd : 1 ≤ d) : Mt K yiJ0_init d [.ref a] h (Rv fun h' => h = h') := by
  refine mt_ofQ (by decide) (Nat.le_of_ble_eq_true rfl) (fun Q hQ => ?_)
  show MW K yiJ0_init d h 0 [some (.ref a)] [] Q
  refine mw_wf (fun hwf => ?_)
  refine m_aload_n (y := yiJ0_init) dJ0_init_0 rfl ?_
  refine m_objInit (y := yiJ0_init) dJ0_init_1 q210 q195 q196 ⟨Nat.le_of_ble_eq_true rfl, by omega⟩ ?_
  subst hQ; exact j_vret (y := yiJ0_init) dJ0_init_4 rfl rfl
theorem c_J1_init (K : KT) (d : Nat) (h : MH) (a : Nat) (v0 v1 v2 : Value) (hd : 2 ≤ d) (ha : h.2.2 a = some (true, .inr (14, [v0, v1, v2]))) : Mt K yiJ1_init d [.ref a] h (Rv fun h' => Hp h h' a (true, .inr (14, [vi 0, v1, v2])) 0 0) := by
  refine mt_ofQ (by decide) (Nat.le_of_ble_eq_true rfl) (fun Q hQ => ?_)
  show MW K yiJ1_init d h 0 [some (.ref a)] [] Q
  refine mw_wf (fun hwf => ?_)
  have l_ha := hwf _ _ ha
  refine m_aload_n (y := yiJ1_init) dJ1_init_0 rfl ?_
  refine m_invI (y := yiJ1_init) [] dJ1_init_1 q207 q208 q124 q209 rfl rfl (c_J0_init K 1 h a (by omega)) pdJ0_init ⟨Nat.le_of_ble_eq_true rfl, by decide, by omega⟩ (kk_v fun h1 q1 => ?_) kx_v
  obtain rfl := q1
  refine m_aload_n (y := yiJ1_init) dJ1_init_4 rfl ?_
  refine j_iconst (y := yiJ1_init) dJ1_init_5 ?_
  refine m_putfS (y := yiJ1_init) kc_14 0 (by decide) dJ1_init_6 q218 rfl ha rfl rfl (hp_put fun g1 g1H => ?_)
  have ha : g1.2.2 a = some (true, .inr (14, [(vi 0), v1, v2])) := g1H.2.2.1
  have g11 := g1H.1
  have g12 := g1H.2.1
  subst hQ; exact j_vret (y := yiJ1_init) dJ1_init_9 rfl (⟨by omega, by omega, ha, g1H.2.2.2⟩)
theorem c_J2_init (K : KT) (d : Nat) (h : MH) (a e0 : Nat) (hd : 3 ≤ d) (hE : kV K 0 = .ref e0) (ha : h.2.2 a = some (true, .inr (14, [vi 0, .null, vi 0]))) : Mt K yiJ2_init d [.ref a] h (Rv fun h' => Hp h h' a (true, .inr (14, [vi 0, .ref e0, vi 0])) 0 0) := by
  refine mt_ofQ (by decide) (Nat.le_of_ble_eq_true rfl) (fun Q hQ => ?_)
  show MW K yiJ2_init d h 0 [some (.ref a)] [] Q
  refine mw_wf (fun hwf => ?_)
  have l_ha := hwf _ _ ha
  refine m_aload_n (y := yiJ2_init) dJ2_init_0 rfl ?_
  refine m_invI (y := yiJ2_init) [] dJ2_init_1 q204 q205 q125 q206 rfl rfl (c_J1_init K 2 h a (vi 0) .null (vi 0) (by omega) ha) pdJ1_init ⟨Nat.le_of_ble_eq_true rfl, by decide, by omega⟩ (kk_v fun h1 q1 => ?_) kx_v
  obtain q1 := q1
  have y1 := q1.1
  have z1 := q1.2.1
  have ha := q1.2.2.1
  refine mw_wf (fun hwf1 => ?_)
  have l_ha1 := hwf1 _ _ ha
  refine m_aload_n (y := yiJ2_init) dJ2_init_4 rfl ?_
  refine m_gets (y := yiJ2_init) (ref := "") 0 rfl dJ2_init_5 q211 hE ?_
  refine m_putfS (y := yiJ2_init) kc_14 1 (by decide) dJ2_init_8 q213 rfl ha rfl rfl (hp_put fun g1 g1H => ?_)
  have ha : g1.2.2 a = some (true, .inr (14, [(vi 0), (.ref e0), (vi 0)])) := g1H.2.2.1
  have g11 := g1H.1
  have g12 := g1H.2.1
  subst hQ; exact j_vret (y := yiJ2_init) dJ2_init_11 rfl (⟨by omega, by omega, ha, fun b hb => (g1H.2.2.2 b hb).trans (q1.2.2.2 b hb)⟩)
theorem c_J2_isEmpty (K : KT) (d : Nat) (h : MH) (a e : Nat) (mc n : Int) (ho : h.2.2 a = some (true, .inr (14, [vi mc, .ref e, vi n]))) (hn : 0 ≤ n ∧ n ≤ 100000) : Mt K yiJ2_isEmpty d [.ref a] h (Rz fun v h' => h = h' ∧ bz (n = 0) = v) := by
  refine mt_ofQ (by decide) (Nat.le_of_ble_eq_true rfl) (fun Q hQ => ?_)
  show MW K yiJ2_isEmpty d h 0 [some (.ref a)] [] Q
  refine mw_wf (fun hwf => ?_)
  have l_ho := hwf _ _ ho
  refine m_aload_n (y := yiJ2_isEmpty) dJ2_isEmpty_0 rfl ?_
  refine m_getfS (y := yiJ2_isEmpty) kc_14 2 (by decide) dJ2_isEmpty_1 q217 ho rfl ?_
  refine j_if_ne (y := yiJ2_isEmpty) 11 dJ2_isEmpty_4 (by decide) ⟨by omega, by omega⟩ (fun c4 => ?_) (fun c4 => ?_)
  · refine j_iconst (y := yiJ2_isEmpty) dJ2_isEmpty_11 ?_
    subst hQ; exact j_zret (y := yiJ2_isEmpty) dJ2_isEmpty_12 rfl (by omega) (⟨rfl, by first | exact (bz_t (by omega)).symm | exact (bz_f (by omega)).symm⟩)
  · refine j_iconst (y := yiJ2_isEmpty) dJ2_isEmpty_7 ?_
    refine m_goto (y := yiJ2_isEmpty) 12 dJ2_isEmpty_8 (by decide) ?_
    subst hQ; exact j_zret (y := yiJ2_isEmpty) dJ2_isEmpty_12 rfl (by omega) (⟨rfl, by first | exact (bz_t (by omega)).symm | exact (bz_f (by omega)).symm⟩)
theorem c_J2_clear (K : KT) (d : Nat) (h : MH) (a e cap : Nat) (mc n : Int) (f : Int → Option Nat) (ho : h.2.2 a = some (true, .inr (14, [vi mc, .ref e, vi n]))) (he : h.2.2 e = some (true, oaE K cap f)) (hae : a ≠ e) (hn : 0 ≤ n ∧ n ≤ (cap : Int) ∧ cap ≤ 60000) : Mt K yiJ2_clear d [.ref a] h (Rv fun h' => ∃ f', h'.2.2 a = some (true, .inr (14, [vi (mc + 1), .ref e, vi 0])) ∧ h'.2.2 e = some (true, oaE K cap f') ∧ (∀ i, 0 ≤ i → i < n → f' i = none) ∧ (∀ i, n ≤ i → f' i = f i) ∧ h'.1 = h.1 ∧ h'.2.1 = h.2.1 ∧ ∀ b, (b ≠ a ∧ b ≠ e) → h'.2.2 b = h.2.2 b) := by
  refine mt_ofQ (by decide) (Nat.le_of_ble_eq_true rfl) (fun Q hQ => ?_)
  show MW K yiJ2_clear d h 0 [some (.ref a), none, none, none] [] Q
  refine mw_wf (fun hwf => ?_)
  have l_ho := hwf _ _ ho
  have l_he := hwf _ _ he
  have fR : ∀ b, (b ≠ a ∧ b ≠ e) → h.2.2 b = h.2.2 b := fun _ _ => rfl
  refine m_aload_n (y := yiJ2_clear) dJ2_clear_0 rfl ?_
  refine m_dup (y := yiJ2_clear) dJ2_clear_1 rfl ?_
  refine m_getf (y := yiJ2_clear) kc_14 0 (by decide) dJ2_clear_2 q221 (Or.inr q220) ho rfl ?_
  refine j_iconst (y := yiJ2_clear) dJ2_clear_5 ?_
  refine j_iadd (y := yiJ2_clear) dJ2_clear_6 ?_
  refine m_putf (y := yiJ2_clear) kc_14 0 (by decide) dJ2_clear_7 q221 (Or.inr q220) rfl ho rfl rfl (hp_put fun g1 g1H => ?_)
  have he : g1.2.2 e = some (true, oaE K cap f) := (g1H.2.2.2 _ (by omega)).trans he
  have fR : ∀ b, (b ≠ a ∧ b ≠ e) → g1.2.2 b = h.2.2 b := fun b hb => (g1H.2.2.2 b (by omega)).trans (fR b hb)
  have ho : g1.2.2 a = some (true, .inr (14, [(vi (mc + 1)), (.ref e), (vi n)])) := g1H.2.2.1
  have g11 := g1H.1
  have g12 := g1H.2.1
  refine m_aload_n (y := yiJ2_clear) dJ2_clear_10 rfl ?_
  refine m_getfS (y := yiJ2_clear) kc_14 1 (by decide) dJ2_clear_11 q213 ho rfl ?_
  refine m_astore_n (y := yiJ2_clear) dJ2_clear_14 (by decide) rfl ?_
  show MW K yiJ2_clear d g1 15 [some (.ref a), some (.ref e), none, none] [] Q
  refine m_aload_n (y := yiJ2_clear) dJ2_clear_15 rfl ?_
  refine m_getfS (y := yiJ2_clear) kc_14 2 (by decide) dJ2_clear_16 q217 ho rfl ?_
  refine j_istore_n (y := yiJ2_clear) [some (.ref a), some (.ref e), some (vi n), none] dJ2_clear_19 (by decide) rfl rfl ?_
  refine m_aload_n (y := yiJ2_clear) dJ2_clear_20 rfl ?_
  refine j_iconst (y := yiJ2_clear) dJ2_clear_21 ?_
  refine m_dup_x1 (y := yiJ2_clear) dJ2_clear_22 rfl rfl ?_
  refine m_putfS (y := yiJ2_clear) kc_14 2 (by decide) dJ2_clear_23 q217 rfl ho rfl rfl (hp_put fun g2 g2H => ?_)
  have he : g2.2.2 e = some (true, oaE K cap f) := (g2H.2.2.2 _ (by omega)).trans he
  have fR : ∀ b, (b ≠ a ∧ b ≠ e) → g2.2.2 b = h.2.2 b := fun b hb => (g2H.2.2.2 b (by omega)).trans (fR b hb)
  have ho : g2.2.2 a = some (true, .inr (14, [(vi (mc + 1)), (.ref e), (vi 0)])) := g2H.2.2.1
  have g21 := g2H.1
  have g22 := g2H.2.1
  refine j_istore_n (y := yiJ2_clear) [some (.ref a), some (.ref e), some (vi n), some (vi 0)] dJ2_clear_26 (by decide) rfl rfl ?_
  have L27 : ∀ (N : Nat) (i : Int) (f' : Int → Option Nat) (g : MH), (n - i).toNat = N → (g.2.2 a = some (true, .inr (14, [(vi (mc + 1)), (.ref e), (vi 0)]))) → (g.2.2 e = some (true, oaE K cap f')) → (∀ b, (b ≠ a ∧ b ≠ e) → g.2.2 b = h.2.2 b) → (0 ≤ i ∧ i ≤ n) → (∀ j, 0 ≤ j → j < i → f' j = none) → (∀ j, i ≤ j → f' j = f j) → (g.1 = h.1 ∧ g.2.1 = h.2.1) → MW K yiJ2_clear d g 27 [some (.ref a), some (.ref e), some (vi n), some (vi i)] [] Q := by
    intro N
    induction N using Nat.strongRecOn with
    | _ N ih27 =>
    intro i f' g hN27 ho he fR hi h1 h2 h3
    refine mw_wf (fun hwf27 => ?_)
    have l_ho27 := hwf27 _ _ ho
    have l_he27 := hwf27 _ _ he
    refine j_iload_n (y := yiJ2_clear) dJ2_clear_27 rfl ?_
    refine j_iload_n (y := yiJ2_clear) dJ2_clear_28 rfl ?_
    refine j_icmp_ge (y := yiJ2_clear) 42 dJ2_clear_29 (by decide) ⟨⟨by omega, by omega⟩, ⟨by omega, by omega⟩⟩ (fun c29 => ?_) (fun c29 => ?_)
    · subst hQ; exact j_vret (y := yiJ2_clear) dJ2_clear_42 rfl (⟨f', ho, he, fun j a b => h1 j a (by omega), fun j a => h2 j (by omega), h3.1, h3.2, fR⟩)
    · refine m_aload_n (y := yiJ2_clear) dJ2_clear_32 rfl ?_
      refine j_iload_n (y := yiJ2_clear) dJ2_clear_33 rfl ?_
      refine m_null (y := yiJ2_clear) dJ2_clear_34 ?_
      refine h_aastN (y := yiJ2_clear) dJ2_clear_35 he ⟨by omega, by omega⟩ (by omega) (hp_put fun g3 g3H => ?_)
      have ho : g3.2.2 a = some (true, .inr (14, [(vi (mc + 1)), (.ref e), (vi 0)])) := (g3H.2.2.2 _ (by omega)).trans ho
      have fR : ∀ b, (b ≠ a ∧ b ≠ e) → g3.2.2 b = h.2.2 b := fun b hb => (g3H.2.2.2 b (by omega)).trans (fR b hb)
      have he : g3.2.2 e = some (true, oaE K cap (upq f' i none)) := g3H.2.2.1
      have g31 := g3H.1
      have g32 := g3H.2.1
      refine j_iinc (y := yiJ2_clear) [some (.ref a), some (.ref e), some (vi n), some (vi (i + 1))] dJ2_clear_36 rfl (by decide) rfl rfl ?_
      refine m_goto (y := yiJ2_clear) 27 dJ2_clear_39 (by decide) ?_
      exact ih27 _ (by omega) _ _ _ rfl ho he fR (by omega) (fun j a b => by { unfold upq; by_cases e9 : j = i; { rw [if_pos e9] }; { rw [if_neg e9]; exact h1 j a (by omega) } }) (fun j a => by { unfold upq; rw [if_neg (by omega)]; exact h2 j (by omega) }) (⟨by omega, by omega⟩)
  exact L27 _ _ _ _ rfl ho he fR (by omega) (fun j a b => by omega) (fun j a => rfl) (⟨by omega, by omega⟩)
theorem c_J2_clear0 (K : KT) (d : Nat) (h : MH) (a e : Nat) (mc : Int) (ho : h.2.2 a = some (true, .inr (14, [vi mc, .ref e, vi 0]))) : Mt K yiJ2_clear d [.ref a] h (Rv fun h' => Hp h h' a (true, .inr (14, [vi (mc + 1), .ref e, vi 0])) 0 0) := by
  refine mt_ofQ (by decide) (Nat.le_of_ble_eq_true rfl) (fun Q hQ => ?_)
  show MW K yiJ2_clear d h 0 [some (.ref a), none, none, none] [] Q
  refine mw_wf (fun hwf => ?_)
  have l_ho := hwf _ _ ho
  refine m_aload_n (y := yiJ2_clear) dJ2_clear_0 rfl ?_
  refine m_dup (y := yiJ2_clear) dJ2_clear_1 rfl ?_
  refine m_getf (y := yiJ2_clear) kc_14 0 (by decide) dJ2_clear_2 q221 (Or.inr q220) ho rfl ?_
  refine j_iconst (y := yiJ2_clear) dJ2_clear_5 ?_
  refine j_iadd (y := yiJ2_clear) dJ2_clear_6 ?_
  refine m_putf (y := yiJ2_clear) kc_14 0 (by decide) dJ2_clear_7 q221 (Or.inr q220) rfl ho rfl rfl (hp_put fun g1 g1H => ?_)
  have ho : g1.2.2 a = some (true, .inr (14, [(vi (mc + 1)), (.ref e), (vi 0)])) := g1H.2.2.1
  have g11 := g1H.1
  have g12 := g1H.2.1
  refine m_aload_n (y := yiJ2_clear) dJ2_clear_10 rfl ?_
  refine m_getfS (y := yiJ2_clear) kc_14 1 (by decide) dJ2_clear_11 q213 ho rfl ?_
  refine m_astore_n (y := yiJ2_clear) dJ2_clear_14 (by decide) rfl ?_
  show MW K yiJ2_clear d g1 15 [some (.ref a), some (.ref e), none, none] [] Q
  refine m_aload_n (y := yiJ2_clear) dJ2_clear_15 rfl ?_
  refine m_getfS (y := yiJ2_clear) kc_14 2 (by decide) dJ2_clear_16 q217 ho rfl ?_
  refine j_istore_n (y := yiJ2_clear) [some (.ref a), some (.ref e), some (vi 0), none] dJ2_clear_19 (by decide) rfl rfl ?_
  refine m_aload_n (y := yiJ2_clear) dJ2_clear_20 rfl ?_
  refine j_iconst (y := yiJ2_clear) dJ2_clear_21 ?_
  refine m_dup_x1 (y := yiJ2_clear) dJ2_clear_22 rfl rfl ?_
  refine m_putfS (y := yiJ2_clear) kc_14 2 (by decide) dJ2_clear_23 q217 rfl ho rfl rfl (hp_put fun g2 g2H => ?_)
  have ho : g2.2.2 a = some (true, .inr (14, [(vi (mc + 1)), (.ref e), (vi 0)])) := g2H.2.2.1
  have g21 := g2H.1
  have g22 := g2H.2.1
  refine j_istore_n (y := yiJ2_clear) [some (.ref a), some (.ref e), some (vi 0), some (vi 0)] dJ2_clear_26 (by decide) rfl rfl ?_
  refine j_iload_n (y := yiJ2_clear) dJ2_clear_27 rfl ?_
  refine j_iload_n (y := yiJ2_clear) dJ2_clear_28 rfl ?_
  refine j_icmp_ge (y := yiJ2_clear) 42 dJ2_clear_29 (by decide) ⟨⟨by omega, by omega⟩, ⟨by omega, by omega⟩⟩ (fun c29 => ?_) (fun c29 => False.elim (by omega))
  subst hQ; exact j_vret (y := yiJ2_clear) dJ2_clear_42 rfl (⟨by omega, by omega, ho, fun b hb => (g2H.2.2.2 b hb).trans (g1H.2.2.2 b hb)⟩)
theorem c_J2_set (K : KT) (d : Nat) (h : MH) (a e cap v x : Nat) (mc n i : Int) (f : Int → Option Nat) (hd : 2 ≤ d) (ho : h.2.2 a = some (true, .inr (14, [vi mc, .ref e, vi n]))) (he : h.2.2 e = some (true, oaE K cap f)) (hi : 0 ≤ i ∧ i < n) (hc : n ≤ cap ∧ cap ≤ 100000) (hx : f i = some x) (hv : IsO h v) : Mt K yiJ2_set d [.ref a, vi i, .ref v] h (Rr fun r h' => x = r ∧ Hp h h' e (true, oaE K cap (upq f i (some v))) 0 0) := by
  refine mt_ofQ (by decide) (Nat.le_of_ble_eq_true rfl) (fun Q hQ => ?_)
  show MW K yiJ2_set d h 0 [some (.ref a), some (vi i), some (.ref v), none] [] Q
  refine mw_wf (fun hwf => ?_)
  have l_ho := hwf _ _ ho
  have l_he := hwf _ _ he
  have : a ≠ e := ne_oa ho he
  refine j_iload_n (y := yiJ2_set) dJ2_set_0 rfl ?_
  refine m_aload_n (y := yiJ2_set) dJ2_set_1 rfl ?_
  refine m_getfS (y := yiJ2_set) kc_14 2 (by decide) dJ2_set_2 q217 ho rfl ?_
  refine m_invS (y := yiJ2_set) [(vi i), (vi n)] dJ2_set_5 q1039 q1040 q147 q1041 (c_J21_checkIndex K 1 h i n (by omega) hi ⟨by omega, by omega⟩) pdJ21_checkIndex ⟨Nat.le_of_ble_eq_true rfl, by decide, by omega⟩ (kk_z fun r5 h5 q5 => ?_) kx_z
  obtain ⟨rfl, rfl⟩ := q5
  refine mw_top (x' := i) rfl ?_
  refine m_pop (y := yiJ2_set) dJ2_set_8 rfl ?_
  refine m_aload_n (y := yiJ2_set) dJ2_set_9 rfl ?_
  refine j_iload_n (y := yiJ2_set) dJ2_set_10 rfl ?_
  refine m_invV (y := yiJ2_set) (rB := (RJ2, TJ2, 3)) [(vi i)] dJ2_set_11 ho rfl q1045 q1046 q1047 q126 q1048 rfl (c_J2_elementData K 1 h a e cap true mc n i f x ho he ⟨by omega, by omega⟩ (by omega) hx) pdJ2_elementData ⟨Nat.le_of_ble_eq_true rfl, by decide, by omega⟩ (kk_r fun r11 h11 q11 => ?_) kx_r
  obtain ⟨rfl, rfl⟩ := q11
  refine m_astore_n (y := yiJ2_set) dJ2_set_14 (by decide) rfl ?_
  show MW K yiJ2_set d h 15 [some (.ref a), some (vi i), some (.ref v), some (.ref x)] [] Q
  refine m_aload_n (y := yiJ2_set) dJ2_set_15 rfl ?_
  refine m_getfS (y := yiJ2_set) kc_14 1 (by decide) dJ2_set_16 q213 ho rfl ?_
  refine j_iload_n (y := yiJ2_set) dJ2_set_19 rfl ?_
  refine m_aload_n (y := yiJ2_set) dJ2_set_20 rfl ?_
  refine h_aast (y := yiJ2_set) dJ2_set_21 he hv ⟨by omega, by omega⟩ (by omega) (hp_put fun g1 g1H => ?_)
  have ho : g1.2.2 a = some (true, .inr (14, [(vi mc), (.ref e), (vi n)])) := (g1H.2.2.2 _ (by omega)).trans ho
  have he : g1.2.2 e = some (true, oaE K cap (upq f i (some v))) := g1H.2.2.1
  have g11 := g1H.1
  have g12 := g1H.2.1
  refine m_aload_n (y := yiJ2_set) dJ2_set_22 rfl ?_
  subst hQ; exact m_aret (y := yiJ2_set) (x := (some x)) dJ2_set_23 rfl (Or.inl ⟨_, rfl⟩) ⟨x, rfl, ⟨rfl, by omega, by omega, he, g1H.2.2.2⟩⟩
theorem c_J2_rangeCheckForAdd (K : KT) (d : Nat) (h : MH) (a e : Nat) (mc n i : Int) (ho : h.2.2 a = some (true, .inr (14, [vi mc, .ref e, vi n]))) (hi : 0 ≤ i ∧ i ≤ n ∧ n ≤ 100000) : Mt K yiJ2_rangeCheckForAdd d [.ref a, vi i] h (Rv fun h' => h = h') := by
  refine mt_ofQ (by decide) (Nat.le_of_ble_eq_true rfl) (fun Q hQ => ?_)
  show MW K yiJ2_rangeCheckForAdd d h 0 [some (.ref a), some (vi i)] [] Q
  refine mw_wf (fun hwf => ?_)
  have l_ho := hwf _ _ ho
  refine j_iload_n (y := yiJ2_rangeCheckForAdd) dJ2_rangeCheckForAdd_0 rfl ?_
  refine m_aload_n (y := yiJ2_rangeCheckForAdd) dJ2_rangeCheckForAdd_1 rfl ?_
  refine m_getfS (y := yiJ2_rangeCheckForAdd) kc_14 2 (by decide) dJ2_rangeCheckForAdd_2 q217 ho rfl ?_
  refine j_icmp_gt (y := yiJ2_rangeCheckForAdd) 12 dJ2_rangeCheckForAdd_5 (by decide) ⟨⟨by omega, by omega⟩, ⟨by omega, by omega⟩⟩ (fun c5 => False.elim (by omega)) (fun c5 => ?_)
  refine j_iload_n (y := yiJ2_rangeCheckForAdd) dJ2_rangeCheckForAdd_8 rfl ?_
  refine j_if_ge (y := yiJ2_rangeCheckForAdd) 25 dJ2_rangeCheckForAdd_9 (by decide) ⟨by omega, by omega⟩ (fun c9 => ?_) (fun c9 => False.elim (by omega))
  subst hQ; exact j_vret (y := yiJ2_rangeCheckForAdd) dJ2_rangeCheckForAdd_25 rfl rfl
def shq (p : Int → Nat) (v : Nat) : Int → Nat := fun i => if i = 0 then v else p (i - 1)
theorem c_J2_add_3 (K : KT) (d : Nat) (h : MH) (e0 a e v : Nat) (n : Int) (p : Int → Nat) (hd : 6 ≤ d) (hE : kV K 0 = .ref e0) (hL : LsA K h e0 a e n p) (hn : n ≤ 30000) (hv : IsO h v) (hva : v ≠ a ∧ v ≠ e) (hpa : ∀ i, 0 ≤ i → i < n → p i ≠ a ∧ p i ≠ e) (hz : h.1 + 1 ≤ kC K ∧ h.2.1 + (grC n).toNat ≤ kS K) : Mt K yiJ2_add_3 d [.ref a, vi 0, .ref v] h (Rv fun h' => ∃ e', (e' = e ∨ h.1 ≤ e') ∧ (h.1 ≤ h'.1 ∧ h'.1 ≤ h.1 + 1) ∧ (h.2.1 ≤ h'.2.1 ∧ h'.2.1 ≤ h.2.1 + (grC n).toNat) ∧ LsA K h' e0 a e' (n + 1) (shq p v) ∧ (∀ b, (b < h.1 ∧ b ≠ a ∧ b ≠ e) → h'.2.2 b = h.2.2 b) ∧ ∀ c, h.2.2 e = some (false, c) → h'.2.2 e = h.2.2 e) := by
  obtain ⟨w, cap, mc, f, ho, he, hae, h0, hw, hcap, hf, hno⟩ := hL
  by_cases hc : n = (cap : Int)
  · subst hc
    have hg : (cap : Int) < grC cap ∧ grC cap ≤ 60000 := by unfold grC; (repeat' split) <;> omega
    refine mt_ofQ (by decide) (Nat.le_of_ble_eq_true rfl) (fun Q hQ => ?_)
    show MW K yiJ2_add_3 d h 0 [some (.ref a), some (vi 0), some (.ref v), none, none] [] Q
    refine mw_wf (fun hwf => ?_)
    have l_ho := hwf _ _ ho
    have l_he := hwf _ _ he
    have he0 := he
    have lv := hv.lt hwf
    have lp : ∀ i, 0 ≤ i → i < (cap : Int) → p i < h.1 := fun i a b => (hf i a b).2.lt hwf
    refine m_aload_n (y := yiJ2_add_3) dJ2_add_3_0 rfl ?_
    refine j_iload_n (y := yiJ2_add_3) dJ2_add_3_1 rfl ?_
    refine m_invV (y := yiJ2_add_3) (rB := (RJ2, TJ2, 3)) [(vi 0)] dJ2_add_3_2 ho rfl q2410 q2412 qs55 q126 q2413 rfl (c_J2_rangeCheckForAdd K 5 h a e mc (cap : Int) 0 ho ⟨by omega, by omega, by omega⟩) pdJ2_rangeCheckForAdd ⟨Nat.le_of_ble_eq_true rfl, by decide, by omega⟩ (kk_v fun h2 q2 => ?_) kx_v
    obtain rfl := q2
    refine m_aload_n (y := yiJ2_add_3) dJ2_add_3_5 rfl ?_
    refine m_dup (y := yiJ2_add_3) dJ2_add_3_6 rfl ?_
    refine m_getf (y := yiJ2_add_3) kc_14 0 (by decide) dJ2_add_3_7 q221 (Or.inr q220) ho rfl ?_
    refine j_iconst (y := yiJ2_add_3) dJ2_add_3_10 ?_
    refine j_iadd (y := yiJ2_add_3) dJ2_add_3_11 ?_
    refine m_putf (y := yiJ2_add_3) kc_14 0 (by decide) dJ2_add_3_12 q221 (Or.inr q220) rfl ho rfl rfl (hp_put fun g1 g1H => ?_)
    have he : g1.2.2 e = some (w, oaE K cap f) := (g1H.2.2.2 _ (by omega)).trans he
    have ho : g1.2.2 a = some (true, .inr (14, [(vi (mc + 1)), (.ref e), (vi (cap : Int))])) := g1H.2.2.1
    have g11 := g1H.1
    have g12 := g1H.2.1
    refine m_aload_n (y := yiJ2_add_3) dJ2_add_3_15 rfl ?_
    refine m_getfS (y := yiJ2_add_3) kc_14 2 (by decide) dJ2_add_3_16 q217 ho rfl ?_
    refine m_dup (y := yiJ2_add_3) dJ2_add_3_19 rfl ?_
    refine j_istore_n (y := yiJ2_add_3) [some (.ref a), some (vi 0), some (.ref v), some (vi (cap : Int)), none] dJ2_add_3_20 (by decide) rfl rfl ?_
    refine m_aload_n (y := yiJ2_add_3) dJ2_add_3_21 rfl ?_
    refine m_getfS (y := yiJ2_add_3) kc_14 1 (by decide) dJ2_add_3_22 q213 ho rfl ?_
    refine m_dup (y := yiJ2_add_3) dJ2_add_3_25 rfl ?_
    refine m_astore (y := yiJ2_add_3) dJ2_add_3_26 (by decide) rfl ?_
    show MW K yiJ2_add_3 d g1 28 [some (.ref a), some (vi 0), some (.ref v), some (vi (cap : Int)), some (.ref e)] [(.ref e), (vi (cap : Int))] Q
    refine h_alen (y := yiJ2_add_3) 5 (by decide) dJ2_add_3_28 he ?_
    refine j_icmp_ne (y := yiJ2_add_3) 38 dJ2_add_3_29 (by decide) ⟨⟨by omega, by omega⟩, ⟨by omega, by omega⟩⟩ (fun c29 => False.elim (by omega)) (fun c29 => ?_)
    refine m_aload_n (y := yiJ2_add_3) dJ2_add_3_32 rfl ?_
    refine m_invV (y := yiJ2_add_3) (rB := (RJ2, TJ2, 3)) [] dJ2_add_3_33 ho rfl q961 q963 qs6 q126 q964 rfl (c_J2_grow K 5 g1 e0 a e cap w _ _ f (by omega) hE ho he hae h0 ⟨rfl, hcap.2.2⟩ (fun i a b x hx => by { have q := hf i a b; rw [q.1] at hx; cases hx; exact q.2.mono' (g1H.2.2.2 _ (hpa i a b).1) }) ⟨by omega, by omega⟩) pdJ2_grow ⟨Nat.le_of_ble_eq_true rfl, by decide, by omega⟩ (kk_r fun r33 h33 q33 => ?_) kx_r
    obtain ⟨rfl, q1, q2, q3, q4, q5⟩ := q33
    refine mw_wf (fun hwf33 => ?_)
    have l_q333 := hwf33 _ _ q3
    have l_q433 := hwf33 _ _ q4
    have hgf : ∀ i, 0 ≤ i → i < (cap : Int) → grF f (cap : Int) i = some (p i) ∧ IsO h33 (p i) := fun i a b => ⟨by { unfold grF; rw [if_pos ⟨a, b⟩]; exact (hf i a b).1 }, (hf i a b).2.mono' ((q5 _ ⟨(hpa i a b).1, by have := lp i a b; omega⟩).trans (g1H.2.2.2 _ (hpa i a b).1))⟩
    have hv33 : IsO h33 v := hv.mono' ((q5 v (by omega)).trans (g1H.2.2.2 v (by omega)))
    refine m_astore (y := yiJ2_add_3) dJ2_add_3_36 (by decide) rfl ?_
    show MW K yiJ2_add_3 d h33 38 [some (.ref a), some (vi 0), some (.ref v), some (vi (cap : Int)), some (.ref g1.1)] [] Q
    refine m_aload (y := yiJ2_add_3) dJ2_add_3_38 rfl ?_
    refine j_iload_n (y := yiJ2_add_3) dJ2_add_3_40 rfl ?_
    refine m_aload (y := yiJ2_add_3) dJ2_add_3_41 rfl ?_
    refine j_iload_n (y := yiJ2_add_3) dJ2_add_3_43 rfl ?_
    refine j_iconst (y := yiJ2_add_3) dJ2_add_3_44 ?_
    refine j_iadd (y := yiJ2_add_3) dJ2_add_3_45 ?_
    refine j_iload_n (y := yiJ2_add_3) dJ2_add_3_46 rfl ?_
    refine j_iload_n (y := yiJ2_add_3) dJ2_add_3_47 rfl ?_
    refine j_isub (y := yiJ2_add_3) dJ2_add_3_48 ?_
    refine h_copyq (y := yiJ2_add_3) dJ2_add_3_49 q2427 q3 q3 ⟨by omega, by omega⟩ ⟨by omega, by omega, by omega⟩ (by omega) (by omega) (fun i a b x hx => by { have q := hgf i (by omega) (by omega); rw [q.1] at hx; cases hx; exact q.2 }) ⟨Nat.le_of_ble_eq_true rfl, by omega⟩ (hp_put fun g2 g2H => ?_)
    have q4 : g2.2.2 a = some (true, .inr (14, [(vi (mc + 1)), (.ref g1.1), (vi (cap : Int))])) := (g2H.2.2.2 _ (by omega)).trans q4
    have q3 : g2.2.2 g1.1 = some (true, oaE K ((grC (cap : Int)).toNat) (cpq (grF f cap) (grF f cap) 0 (0 + 1) ((cap : Int) - 0))) := g2H.2.2.1
    have g21 := g2H.1
    have g22 := g2H.2.1
    refine m_aload (y := yiJ2_add_3) dJ2_add_3_52 rfl ?_
    refine j_iload_n (y := yiJ2_add_3) dJ2_add_3_54 rfl ?_
    refine m_aload_n (y := yiJ2_add_3) dJ2_add_3_55 rfl ?_
    refine h_aast (y := yiJ2_add_3) dJ2_add_3_56 q3 (hv33.mono' (g2H.2.2.2 v (by omega))) ⟨by omega, by omega⟩ (by omega) (hp_put fun g3 g3H => ?_)
    have q4 : g3.2.2 a = some (true, .inr (14, [(vi (mc + 1)), (.ref g1.1), (vi (cap : Int))])) := (g3H.2.2.2 _ (by omega)).trans q4
    have q3 : g3.2.2 g1.1 = some (true, oaE K ((grC (cap : Int)).toNat) (upq (cpq (grF f cap) (grF f cap) 0 (0 + 1) ((cap : Int) - 0)) 0 (some v))) := g3H.2.2.1
    have g31 := g3H.1
    have g32 := g3H.2.1
    refine m_aload_n (y := yiJ2_add_3) dJ2_add_3_57 rfl ?_
    refine j_iload_n (y := yiJ2_add_3) dJ2_add_3_58 rfl ?_
    refine j_iconst (y := yiJ2_add_3) dJ2_add_3_59 ?_
    refine j_iadd (y := yiJ2_add_3) dJ2_add_3_60 ?_
    refine m_putfS (y := yiJ2_add_3) kc_14 2 (by decide) dJ2_add_3_61 q217 rfl q4 rfl rfl (hp_put fun g4 g4H => ?_)
    have q3 : g4.2.2 g1.1 = some (true, oaE K ((grC (cap : Int)).toNat) (upq (cpq (grF f cap) (grF f cap) 0 (0 + 1) ((cap : Int) - 0)) 0 (some v))) := (g4H.2.2.2 _ (by omega)).trans q3
    have q4 : g4.2.2 a = some (true, .inr (14, [(vi (mc + 1)), (.ref g1.1), (vi ((cap : Int) + 1))])) := g4H.2.2.1
    have g41 := g4H.1
    have g42 := g4H.2.1
    subst hQ; exact j_vret (y := yiJ2_add_3) dJ2_add_3_64 rfl (⟨g1.1, by omega, by omega, by omega, ⟨true, _, _, _, q4, q3, by omega, by omega, fun _ => rfl, by omega, fun i b c => by { unfold upq cpq shq; by_cases e9 : i = 0; { rw [if_pos e9, if_pos e9]; exact ⟨rfl, hv33.mono' ((g4H.2.2.2 v (by omega)).trans ((g3H.2.2.2 v (by omega)).trans (g2H.2.2.2 v (by omega))))⟩ }; { rw [if_neg e9, if_neg e9, if_pos (by omega)]; have q := hgf (i - 1) (by omega) (by omega); have l9 := lp (i - 1) (by omega) (by omega); have n9 := hpa (i - 1) (by omega) (by omega); rw [show (0 : Int) + (i - (0 + 1)) = i - 1 by omega]; exact ⟨q.1, q.2.mono' ((g4H.2.2.2 _ (by omega)).trans ((g3H.2.2.2 _ (by omega)).trans (g2H.2.2.2 _ (by omega))))⟩ } }, fun i b => by { unfold upq cpq grF; rw [if_neg (by omega), if_neg (by omega), if_neg (by omega)] }⟩, fun b hb => (g4H.2.2.2 b (by omega)).trans ((g3H.2.2.2 b (by omega)).trans ((g2H.2.2.2 b (by omega)).trans ((q5 b (by omega)).trans (g1H.2.2.2 b (by omega))))), fun c _ => (g4H.2.2.2 e (by omega)).trans ((g3H.2.2.2 e (by omega)).trans ((g2H.2.2.2 e (by omega)).trans ((q5 e (by omega)).trans (g1H.2.2.2 e (by omega)))))⟩)
  · have hw1 := hw (by omega)
    subst hw1
    refine mt_ofQ (by decide) (Nat.le_of_ble_eq_true rfl) (fun Q hQ => ?_)
    show MW K yiJ2_add_3 d h 0 [some (.ref a), some (vi 0), some (.ref v), none, none] [] Q
    refine mw_wf (fun hwf => ?_)
    have l_ho := hwf _ _ ho
    have l_he := hwf _ _ he
    have he0 := he
    have lv := hv.lt hwf
    have lp : ∀ i, 0 ≤ i → i < n → p i < h.1 := fun i a b => (hf i a b).2.lt hwf
    refine m_aload_n (y := yiJ2_add_3) dJ2_add_3_0 rfl ?_
    refine j_iload_n (y := yiJ2_add_3) dJ2_add_3_1 rfl ?_
    refine m_invV (y := yiJ2_add_3) (rB := (RJ2, TJ2, 3)) [(vi 0)] dJ2_add_3_2 ho rfl q2410 q2412 qs55 q126 q2413 rfl (c_J2_rangeCheckForAdd K 5 h a e mc n 0 ho ⟨by omega, by omega, by omega⟩) pdJ2_rangeCheckForAdd ⟨Nat.le_of_ble_eq_true rfl, by decide, by omega⟩ (kk_v fun h2 q2 => ?_) kx_v
    obtain rfl := q2
    refine m_aload_n (y := yiJ2_add_3) dJ2_add_3_5 rfl ?_
    refine m_dup (y := yiJ2_add_3) dJ2_add_3_6 rfl ?_
    refine m_getf (y := yiJ2_add_3) kc_14 0 (by decide) dJ2_add_3_7 q221 (Or.inr q220) ho rfl ?_
    refine j_iconst (y := yiJ2_add_3) dJ2_add_3_10 ?_
    refine j_iadd (y := yiJ2_add_3) dJ2_add_3_11 ?_
    refine m_putf (y := yiJ2_add_3) kc_14 0 (by decide) dJ2_add_3_12 q221 (Or.inr q220) rfl ho rfl rfl (hp_put fun g1 g1H => ?_)
    have he : g1.2.2 e = some (true, oaE K cap f) := (g1H.2.2.2 _ (by omega)).trans he
    have ho : g1.2.2 a = some (true, .inr (14, [(vi (mc + 1)), (.ref e), (vi n)])) := g1H.2.2.1
    have g11 := g1H.1
    have g12 := g1H.2.1
    refine m_aload_n (y := yiJ2_add_3) dJ2_add_3_15 rfl ?_
    refine m_getfS (y := yiJ2_add_3) kc_14 2 (by decide) dJ2_add_3_16 q217 ho rfl ?_
    refine m_dup (y := yiJ2_add_3) dJ2_add_3_19 rfl ?_
    refine j_istore_n (y := yiJ2_add_3) [some (.ref a), some (vi 0), some (.ref v), some (vi n), none] dJ2_add_3_20 (by decide) rfl rfl ?_
    refine m_aload_n (y := yiJ2_add_3) dJ2_add_3_21 rfl ?_
    refine m_getfS (y := yiJ2_add_3) kc_14 1 (by decide) dJ2_add_3_22 q213 ho rfl ?_
    refine m_dup (y := yiJ2_add_3) dJ2_add_3_25 rfl ?_
    refine m_astore (y := yiJ2_add_3) dJ2_add_3_26 (by decide) rfl ?_
    show MW K yiJ2_add_3 d g1 28 [some (.ref a), some (vi 0), some (.ref v), some (vi n), some (.ref e)] [(.ref e), (vi n)] Q
    refine h_alen (y := yiJ2_add_3) 5 (by decide) dJ2_add_3_28 he ?_
    refine j_icmp_ne (y := yiJ2_add_3) 38 dJ2_add_3_29 (by decide) ⟨⟨by omega, by omega⟩, ⟨by omega, by omega⟩⟩ (fun c29 => ?_) (fun c29 => False.elim (by omega))
    refine m_aload (y := yiJ2_add_3) dJ2_add_3_38 rfl ?_
    refine j_iload_n (y := yiJ2_add_3) dJ2_add_3_40 rfl ?_
    refine m_aload (y := yiJ2_add_3) dJ2_add_3_41 rfl ?_
    refine j_iload_n (y := yiJ2_add_3) dJ2_add_3_43 rfl ?_
    refine j_iconst (y := yiJ2_add_3) dJ2_add_3_44 ?_
    refine j_iadd (y := yiJ2_add_3) dJ2_add_3_45 ?_
    refine j_iload_n (y := yiJ2_add_3) dJ2_add_3_46 rfl ?_
    refine j_iload_n (y := yiJ2_add_3) dJ2_add_3_47 rfl ?_
    refine j_isub (y := yiJ2_add_3) dJ2_add_3_48 ?_
    have hgf : ∀ i, 0 ≤ i → i < n → f i = some (p i) ∧ IsO g1 (p i) := fun i a b => ⟨(hf i a b).1, (hf i a b).2.mono' (g1H.2.2.2 _ (hpa i a b).1)⟩
    have hv33 : IsO g1 v := hv.mono' (g1H.2.2.2 v (by omega))
    refine h_copyq (y := yiJ2_add_3) dJ2_add_3_49 q2427 he he ⟨by omega, by omega⟩ ⟨by omega, by omega, by omega⟩ (by omega) (by omega) (fun i a b x hx => by { have q := hgf i (by omega) (by omega); rw [q.1] at hx; cases hx; exact q.2 }) ⟨Nat.le_of_ble_eq_true rfl, by omega⟩ (hp_put fun g2 g2H => ?_)
    have ho : g2.2.2 a = some (true, .inr (14, [(vi (mc + 1)), (.ref e), (vi n)])) := (g2H.2.2.2 _ (by omega)).trans ho
    have he : g2.2.2 e = some (true, oaE K cap (cpq f f 0 (0 + 1) (n - 0))) := g2H.2.2.1
    have g21 := g2H.1
    have g22 := g2H.2.1
    refine m_aload (y := yiJ2_add_3) dJ2_add_3_52 rfl ?_
    refine j_iload_n (y := yiJ2_add_3) dJ2_add_3_54 rfl ?_
    refine m_aload_n (y := yiJ2_add_3) dJ2_add_3_55 rfl ?_
    refine h_aast (y := yiJ2_add_3) dJ2_add_3_56 he (hv33.mono' (g2H.2.2.2 v (by omega))) ⟨by omega, by omega⟩ (by omega) (hp_put fun g3 g3H => ?_)
    have ho : g3.2.2 a = some (true, .inr (14, [(vi (mc + 1)), (.ref e), (vi n)])) := (g3H.2.2.2 _ (by omega)).trans ho
    have he : g3.2.2 e = some (true, oaE K cap (upq (cpq f f 0 (0 + 1) (n - 0)) 0 (some v))) := g3H.2.2.1
    have g31 := g3H.1
    have g32 := g3H.2.1
    refine m_aload_n (y := yiJ2_add_3) dJ2_add_3_57 rfl ?_
    refine j_iload_n (y := yiJ2_add_3) dJ2_add_3_58 rfl ?_
    refine j_iconst (y := yiJ2_add_3) dJ2_add_3_59 ?_
    refine j_iadd (y := yiJ2_add_3) dJ2_add_3_60 ?_
    refine m_putfS (y := yiJ2_add_3) kc_14 2 (by decide) dJ2_add_3_61 q217 rfl ho rfl rfl (hp_put fun g4 g4H => ?_)
    have he : g4.2.2 e = some (true, oaE K cap (upq (cpq f f 0 (0 + 1) (n - 0)) 0 (some v))) := (g4H.2.2.2 _ (by omega)).trans he
    have ho : g4.2.2 a = some (true, .inr (14, [(vi (mc + 1)), (.ref e), (vi (n + 1))])) := g4H.2.2.1
    have g41 := g4H.1
    have g42 := g4H.2.1
    subst hQ; exact j_vret (y := yiJ2_add_3) dJ2_add_3_64 rfl (⟨e, Or.inl rfl, by omega, by omega, ⟨true, cap, _, _, ho, he, hae, by omega, fun _ => rfl, by omega, fun i b c => by { unfold upq cpq shq; by_cases e9 : i = 0; { rw [if_pos e9, if_pos e9]; exact ⟨rfl, hv33.mono' ((g4H.2.2.2 v (by omega)).trans ((g3H.2.2.2 v (by omega)).trans (g2H.2.2.2 v (by omega))))⟩ }; { rw [if_neg e9, if_neg e9, if_pos (by omega)]; have q := hgf (i - 1) (by omega) (by omega); have l9 := lp (i - 1) (by omega) (by omega); have n9 := hpa (i - 1) (by omega) (by omega); rw [show (0 : Int) + (i - (0 + 1)) = i - 1 by omega]; exact ⟨q.1, q.2.mono' ((g4H.2.2.2 _ (by omega)).trans ((g3H.2.2.2 _ (by omega)).trans (g2H.2.2.2 _ (by omega))))⟩ } }, fun i b => by { unfold upq cpq; rw [if_neg (by omega), if_neg (by omega)]; exact hno i (by omega) }⟩, fun b hb => (g4H.2.2.2 b (by omega)).trans ((g3H.2.2.2 b (by omega)).trans ((g2H.2.2.2 b (by omega)).trans (g1H.2.2.2 b (by omega)))), fun c hc => by { rw [he0] at hc; cases hc }⟩)
