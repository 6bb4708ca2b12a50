/-! ArrayList's iterator -/
theorem c_J28_init (K : KT) (d : Nat) (h : MH) (q a e : Nat) (mc n : Int) (v0 v1 v2 v3 : Value) (hd : 1 ≤ d) (hq : h.2.2 q = some (true, .inr (15, [vi 0, vi 0, vi 0, .null]))) (ho : h.2.2 a = some (true, .inr (14, [vi mc, .ref e, vi n]))) (hqa : q ≠ a) : Mt K yiJ28_init d [.ref q, .ref a] h (Rv fun h' => Hp h h' q (true, .inr (15, [vi 0, vi (-1), vi mc, .ref a])) 0 0) := by
  refine mt_ofQ (by decide) (Nat.le_of_ble_eq_true rfl) (fun Q hQ => ?_)
  show MW K yiJ28_init d h 0 [some (.ref q), some (.ref a)] [] Q
  refine mw_wf (fun hwf => ?_)
  have l_hq := hwf _ _ hq
  have l_ho := hwf _ _ ho
  refine m_aload_n (y := yiJ28_init) dJ28_init_0 rfl ?_
  refine m_aload_n (y := yiJ28_init) dJ28_init_1 rfl ?_
  refine m_putfF (y := yiJ28_init) kc_15 3 (by decide) dJ28_init_2 q733 rfl rfl rfl hq rfl rfl (hp_put fun g1 g1H => ?_)
  have ho : g1.2.2 a = some (true, .inr (14, [(vi mc), (.ref e), (vi n)])) := (g1H.2.2.2 _ (by omega)).trans ho
  have hq : g1.2.2 q = some (true, .inr (15, [(vi 0), (vi 0), (vi 0), (.ref a)])) := g1H.2.2.1
  have g11 := g1H.1
  have g12 := g1H.2.1
  refine m_aload_n (y := yiJ28_init) dJ28_init_5 rfl ?_
  refine m_objInit (y := yiJ28_init) dJ28_init_6 q725 q195 q196 ⟨Nat.le_of_ble_eq_true rfl, by omega⟩ ?_
  refine m_aload_n (y := yiJ28_init) dJ28_init_9 rfl ?_
  refine j_iconst (y := yiJ28_init) dJ28_init_10 ?_
  refine m_putfS (y := yiJ28_init) kc_15 1 (by decide) dJ28_init_11 q729 rfl hq rfl rfl (hp_put fun g2 g2H => ?_)
  have ho : g2.2.2 a = some (true, .inr (14, [(vi mc), (.ref e), (vi n)])) := (g2H.2.2.2 _ (by omega)).trans ho
  have hq : g2.2.2 q = some (true, .inr (15, [(vi 0), (vi (-1)), (vi 0), (.ref a)])) := g2H.2.2.1
  have g21 := g2H.1
  have g22 := g2H.2.1
  refine m_aload_n (y := yiJ28_init) dJ28_init_14 rfl ?_
  refine m_aload_n (y := yiJ28_init) dJ28_init_15 rfl ?_
  refine m_getfS (y := yiJ28_init) kc_15 3 (by decide) dJ28_init_16 q733 hq rfl ?_
  refine m_getf (y := yiJ28_init) kc_14 0 (by decide) dJ28_init_19 q219 (Or.inr q220) ho rfl ?_
  refine m_putfS (y := yiJ28_init) kc_15 2 (by decide) dJ28_init_22 q732 rfl hq rfl rfl (hp_put fun g3 g3H => ?_)
  have ho : g3.2.2 a = some (true, .inr (14, [(vi mc), (.ref e), (vi n)])) := (g3H.2.2.2 _ (by omega)).trans ho
  have hq : g3.2.2 q = some (true, .inr (15, [(vi 0), (vi (-1)), (vi mc), (.ref a)])) := g3H.2.2.1
  have g31 := g3H.1
  have g32 := g3H.2.1
  subst hQ; exact j_vret (y := yiJ28_init) dJ28_init_25 rfl (⟨by omega, by omega, hq, fun b hb => (g3H.2.2.2 b hb).trans ((g2H.2.2.2 b hb).trans (g1H.2.2.2 b hb))⟩)
theorem c_J2_iterator (K : KT) (d : Nat) (h : MH) (a e : Nat) (mc n : Int) (hd : 2 ≤ d) (ho : h.2.2 a = some (true, .inr (14, [vi mc, .ref e, vi n]))) (hz : h.1 + 1 ≤ kC K ∧ h.2.1 + 4 ≤ kS K) : Mt K yiJ2_iterator d [.ref a] h (Rr fun r h' => h.1 = r ∧ Hp h h' h.1 (true, .inr (15, [vi 0, vi (-1), vi mc, .ref a])) 1 4) := by
  refine mt_ofQ (by decide) (Nat.le_of_ble_eq_true rfl) (fun Q hQ => ?_)
  show MW K yiJ2_iterator d h 0 [some (.ref a)] [] Q
  refine mw_wf (fun hwf => ?_)
  have l_ho := hwf _ _ ho
  refine m_new (y := yiJ2_iterator) kc_15 4 dJ2_iterator_0 q720 q721 q156 _ rfl ⟨by omega, by omega⟩ (hp_new fun g1 g1H => ?_)
  have ho : g1.2.2 a = some (true, .inr (14, [(vi mc), (.ref e), (vi n)])) := (g1H.2.2.2 _ (by omega)).trans ho
  have fg1 : g1.2.2 h.1 = some (true, .inr (15, [(vi 0), (vi 0), (vi 0), .null])) := g1H.2.2.1
  have g11 := g1H.1
  have g12 := g1H.2.1
  refine m_dup (y := yiJ2_iterator) dJ2_iterator_3 rfl ?_
  refine m_aload_n (y := yiJ2_iterator) dJ2_iterator_4 rfl ?_
  refine m_invI (y := yiJ2_iterator) [(.ref a)] dJ2_iterator_5 q722 q723 q156 q724 rfl rfl (c_J28_init K 1 g1 h.1 a e mc n .null .null .null .null (by omega) fg1 ho (by omega)) pdJ28_init ⟨Nat.le_of_ble_eq_true rfl, by decide, by omega⟩ (kk_v fun h5 q5 => ?_) kx_v
  obtain q5 := q5
  have y1 := q5.1
  have y2 := q5.2.1
  have fg1 := q5.2.2.1
  have ho : h5.2.2 a = some (true, .inr (14, [(vi mc), (.ref e), (vi n)])) := (q5.2.2.2 _ (by omega)).trans ho
  refine mw_wf (fun hwf5 => ?_)
  have l_fg15 := hwf5 _ _ fg1
  subst hQ; exact m_aret (y := yiJ2_iterator) (x := (some h.1)) dJ2_iterator_8 rfl (Or.inl ⟨_, rfl⟩) ⟨h.1, rfl, ⟨rfl, by omega, by omega, fg1, fun b hb => (q5.2.2.2 b hb).trans (g1H.2.2.2 b hb)⟩⟩
theorem c_J28_hasNext (K : KT) (d : Nat) (h : MH) (q a e : Nat) (c l mc n : Int) (hq : h.2.2 q = some (true, .inr (15, [vi c, vi l, vi mc, .ref a]))) (ho : h.2.2 a = some (true, .inr (14, [vi mc, .ref e, vi n]))) (hn : 0 ≤ c ∧ c ≤ n ∧ n ≤ 100000) : Mt K yiJ28_hasNext d [.ref q] h (Rz fun v h' => h = h' ∧ bz (c ≠ n) = v) := by
  refine mt_ofQ (by decide) (Nat.le_of_ble_eq_true rfl) (fun Q hQ => ?_)
  show MW K yiJ28_hasNext d h 0 [some (.ref q)] [] Q
  refine mw_wf (fun hwf => ?_)
  have l_hq := hwf _ _ hq
  have l_ho := hwf _ _ ho
  refine m_aload_n (y := yiJ28_hasNext) dJ28_hasNext_0 rfl ?_
  refine m_getfS (y := yiJ28_hasNext) kc_15 0 (by decide) dJ28_hasNext_1 q728 hq rfl ?_
  refine m_aload_n (y := yiJ28_hasNext) dJ28_hasNext_4 rfl ?_
  refine m_getfS (y := yiJ28_hasNext) kc_15 3 (by decide) dJ28_hasNext_5 q733 hq rfl ?_
  refine m_getfN (y := yiJ28_hasNext) kc_14 2 (by decide) dJ28_hasNext_8 q216 ho rfl ?_
  refine j_icmp_eq (y := yiJ28_hasNext) 18 dJ28_hasNext_11 (by decide) ⟨⟨by omega, by omega⟩, ⟨by omega, by omega⟩⟩ (fun c11 => ?_) (fun c11 => ?_)
  · refine j_iconst (y := yiJ28_hasNext) dJ28_hasNext_18 ?_
    subst hQ; exact j_zret (y := yiJ28_hasNext) dJ28_hasNext_19 rfl (by omega) (⟨rfl, by first | exact (bz_t (by omega)).symm | exact (bz_f (by omega)).symm⟩)
  · refine j_iconst (y := yiJ28_hasNext) dJ28_hasNext_14 ?_
    refine m_goto (y := yiJ28_hasNext) 19 dJ28_hasNext_15 (by decide) ?_
    subst hQ; exact j_zret (y := yiJ28_hasNext) dJ28_hasNext_19 rfl (by omega) (⟨rfl, by first | exact (bz_t (by omega)).symm | exact (bz_f (by omega)).symm⟩)
theorem c_J28_checkForComodification (K : KT) (d : Nat) (h : MH) (q a e : Nat) (c l mc n : Int) (hq : h.2.2 q = some (true, .inr (15, [vi c, vi l, vi mc, .ref a]))) (ho : h.2.2 a = some (true, .inr (14, [vi mc, .ref e, vi n]))) : Mt K yiJ28_checkForComodification d [.ref q] h (Rv fun h' => h = h') := by
  refine mt_ofQ (by decide) (Nat.le_of_ble_eq_true rfl) (fun Q hQ => ?_)
  show MW K yiJ28_checkForComodification d h 0 [some (.ref q)] [] Q
  refine mw_wf (fun hwf => ?_)
  have l_hq := hwf _ _ hq
  have l_ho := hwf _ _ ho
  refine m_aload_n (y := yiJ28_checkForComodification) dJ28_checkForComodification_0 rfl ?_
  refine m_getfS (y := yiJ28_checkForComodification) kc_15 3 (by decide) dJ28_checkForComodification_1 q733 hq rfl ?_
  refine m_getf (y := yiJ28_checkForComodification) kc_14 0 (by decide) dJ28_checkForComodification_4 q219 (Or.inr q220) ho rfl ?_
  refine m_aload_n (y := yiJ28_checkForComodification) dJ28_checkForComodification_7 rfl ?_
  refine m_getfS (y := yiJ28_checkForComodification) kc_15 2 (by decide) dJ28_checkForComodification_8 q732 hq rfl ?_
  refine m_icmp_eq (y := yiJ28_checkForComodification) 22 dJ28_checkForComodification_11 (by decide) (fun _ => ?_) (fun c => absurd rfl c)
  subst hQ; exact j_vret (y := yiJ28_checkForComodification) dJ28_checkForComodification_22 rfl rfl
theorem c_J28_next (K : KT) (d : Nat) (h : MH) (q a e cap x : Nat) (w : Bool) (c l mc n : Int) (f : Int → Option Nat) (hd : 1 ≤ d) (hq : h.2.2 q = some (true, .inr (15, [vi c, vi l, vi mc, .ref a]))) (ho : h.2.2 a = some (true, .inr (14, [vi mc, .ref e, vi n]))) (he : h.2.2 e = some (w, oaE K cap f)) (hqa : q ≠ a ∧ q ≠ e ∧ a ≠ e) (hn : 0 ≤ c ∧ c < n ∧ n ≤ (cap : Int) ∧ cap ≤ 100000) (hx : f c = some x) : Mt K yiJ28_next d [.ref q] h (Rr fun r h' => x = r ∧ Hp h h' q (true, .inr (15, [vi (c + 1), vi c, vi mc, .ref a])) 0 0) := by
  refine mt_ofQ (by decide) (Nat.le_of_ble_eq_true rfl) (fun Q hQ => ?_)
  show MW K yiJ28_next d h 0 [some (.ref q), none, none] [] Q
  refine mw_wf (fun hwf => ?_)
  have l_hq := hwf _ _ hq
  have l_ho := hwf _ _ ho
  have l_he := hwf _ _ he
  refine m_aload_n (y := yiJ28_next) dJ28_next_0 rfl ?_
  refine m_invV (y := yiJ28_next) (rB := (RJ28, TJ28, 4)) [] dJ28_next_1 hq rfl q765 q766 q767 q156 q770 rfl (c_J28_checkForComodification K 0 h q a e c l mc n hq ho) pdJ28_checkForComodification ⟨Nat.le_of_ble_eq_true rfl, by decide, by omega⟩ (kk_v fun h1 q1 => ?_) kx_v
  obtain rfl := q1
  refine m_aload_n (y := yiJ28_next) dJ28_next_4 rfl ?_
  refine m_getfS (y := yiJ28_next) kc_15 0 (by decide) dJ28_next_5 q728 hq rfl ?_
  refine j_istore_n (y := yiJ28_next) [some (.ref q), some (vi c), none] dJ28_next_8 (by decide) rfl rfl ?_
  refine j_iload_n (y := yiJ28_next) dJ28_next_9 rfl ?_
  refine m_aload_n (y := yiJ28_next) dJ28_next_10 rfl ?_
  refine m_getfS (y := yiJ28_next) kc_15 3 (by decide) dJ28_next_11 q733 hq rfl ?_
  refine m_getfN (y := yiJ28_next) kc_14 2 (by decide) dJ28_next_14 q216 ho rfl ?_
  refine j_icmp_lt (y := yiJ28_next) 28 dJ28_next_17 (by decide) ⟨⟨by omega, by omega⟩, ⟨by omega, by omega⟩⟩ (fun c17 => ?_) (fun c17 => False.elim (by omega))
  refine m_aload_n (y := yiJ28_next) dJ28_next_28 rfl ?_
  refine m_getfS (y := yiJ28_next) kc_15 3 (by decide) dJ28_next_29 q733 hq rfl ?_
  refine m_getfS (y := yiJ28_next) kc_14 1 (by decide) dJ28_next_32 q214 ho rfl ?_
  refine m_astore_n (y := yiJ28_next) dJ28_next_35 (by decide) rfl ?_
  show MW K yiJ28_next d h 36 [some (.ref q), some (vi c), some (.ref e)] [] Q
  refine j_iload_n (y := yiJ28_next) dJ28_next_36 rfl ?_
  refine m_aload_n (y := yiJ28_next) dJ28_next_37 rfl ?_
  refine h_alen (y := yiJ28_next) 5 (by decide) dJ28_next_38 he ?_
  refine j_icmp_lt (y := yiJ28_next) 50 dJ28_next_39 (by decide) ⟨⟨by omega, by omega⟩, ⟨by omega, by omega⟩⟩ (fun c39 => ?_) (fun c39 => False.elim (by omega))
  refine m_aload_n (y := yiJ28_next) dJ28_next_50 rfl ?_
  refine j_iload_n (y := yiJ28_next) dJ28_next_51 rfl ?_
  refine j_iconst (y := yiJ28_next) dJ28_next_52 ?_
  refine j_iadd (y := yiJ28_next) dJ28_next_53 ?_
  refine m_putfS (y := yiJ28_next) kc_15 0 (by decide) dJ28_next_54 q728 rfl hq rfl rfl (hp_put fun g1 g1H => ?_)
  have ho : g1.2.2 a = some (true, .inr (14, [(vi mc), (.ref e), (vi n)])) := (g1H.2.2.2 _ (by omega)).trans ho
  have he : g1.2.2 e = some (w, oaE K cap f) := (g1H.2.2.2 _ (by omega)).trans he
  have hq : g1.2.2 q = some (true, .inr (15, [(vi (c + 1)), (vi l), (vi mc), (.ref a)])) := g1H.2.2.1
  have g11 := g1H.1
  have g12 := g1H.2.1
  refine m_aload_n (y := yiJ28_next) dJ28_next_57 rfl ?_
  refine m_aload_n (y := yiJ28_next) dJ28_next_58 rfl ?_
  refine j_iload_n (y := yiJ28_next) dJ28_next_59 rfl ?_
  refine m_dup_x1 (y := yiJ28_next) dJ28_next_60 rfl rfl ?_
  refine m_putfS (y := yiJ28_next) kc_15 1 (by decide) dJ28_next_61 q729 rfl hq rfl rfl (hp_put fun g2 g2H => ?_)
  have ho : g2.2.2 a = some (true, .inr (14, [(vi mc), (.ref e), (vi n)])) := (g2H.2.2.2 _ (by omega)).trans ho
  have he : g2.2.2 e = some (w, oaE K cap f) := (g2H.2.2.2 _ (by omega)).trans he
  have hq : g2.2.2 q = some (true, .inr (15, [(vi (c + 1)), (vi c), (vi mc), (.ref a)])) := g2H.2.2.1
  have g21 := g2H.1
  have g22 := g2H.2.1
  refine h_aald5 (y := yiJ28_next) dJ28_next_64 he ⟨by omega, by omega⟩ (by omega) ?_
  rw [hx]
  show MW K yiJ28_next d g2 65 [some (.ref q), some (vi c), some (.ref e)] [(.ref x)] Q
  subst hQ; exact m_aret (y := yiJ28_next) (x := (some x)) dJ28_next_65 rfl (Or.inl ⟨_, rfl⟩) ⟨x, rfl, ⟨rfl, by omega, by omega, hq, fun b hb => (g2H.2.2.2 b hb).trans (g1H.2.2.2 b hb)⟩⟩
