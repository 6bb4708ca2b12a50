/-! the sort: mergeLo, cut at its loops -/
theorem ml522 (K : KT) (d : Nat) (h : MH) (rk : Nat → Int) (o e t rb rl cap tl : Nat) (mg ss : Int) (a b B L1 L2 : Int) (f1 f0 ft0 : Int → Option Nat) (p0 : Int → Nat) (hd : 5 ≤ d) (hB : kV K 12 = vi 1) (ho : h.2.2 o = some (true, .inr (26, [.ref e, vi mg, .ref t, vi 0, vi (tl : Int), vi ss, .ref rb, .ref rl]))) (he : h.2.2 e = some (true, oaE K cap f1)) (htm : h.2.2 t = some (true, oaE K tl ft0)) (het : e ≠ t) (hA : ArS h rk e a b f1 f0 p0) (hb : (0 ≤ a ∧ a ≤ B ∧ B + L1 + L2 ≤ b) ∧ b ≤ (cap : Int) ∧ cap ≤ 60000) (hL : (0 < L1 ∧ 0 < L2) ∧ L1 ≤ (tl : Int) ∧ tl ≤ 60000) (hmg : 0 ≤ mg ∧ mg ≤ 1000000) (A1 : Asc rk p0 B (B + L1)) (A2 : Asc rk p0 (B + L1) (B + L1 + L2)) (hfi : rk (p0 (B + L1)) < rk (p0 B)) (hla : rk (p0 (B + L1 + L2 - 1)) < rk (p0 (B + L1 - 1))) (hI : Inj rk p0 a b) (Q : OT → MH → Prop) (hQ : (Rv fun h' => ∃ (mg' : Int) (f ft : Int → Option Nat) (p : Int → Nat), (h.1 = h'.1 ∧ h.2.1 = h'.2.1) ∧ (0 ≤ mg' ∧ mg' ≤ mg + 3 * (L1 + L2) + 5) ∧ h'.2.2 o = some (true, .inr (26, [.ref e, vi mg', .ref t, vi 0, vi (tl : Int), vi ss, .ref rb, .ref rl])) ∧ h'.2.2 e = some (true, oaE K cap f) ∧ h'.2.2 t = some (true, oaE K tl ft) ∧ ArS h' rk e a b f f0 p ∧ Asc rk p B (B + L1 + L2) ∧ Sms p0 p B (B + L1 + L2) ∧ ∀ q, q ≠ e ∧ q ≠ t ∧ q ≠ o → h'.2.2 q = h.2.2 q) = Q) : (∀ (l1 l2 x c ds G : Int) (f : Int → Option Nat) (p : Int → Nat) (gj : MH), (gj.2.2 o = some (true, .inr (26, [(.ref e), (vi mg), (.ref t), (vi 0), (vi (tl : Int)), (vi ss), (.ref rb), (.ref rl)]))) → (gj.2.2 e = some (true, oaE K cap f)) → (gj.2.2 t = some (true, oaE K tl (cpq f1 ft0 B 0 L1))) → (∀ b, (b ≠ e ∧ b ≠ t ∧ b ≠ o) → gj.2.2 b = h.2.2 b) → (h.1 = gj.1 ∧ h.2.1 = gj.2.1) → (l1 = L1 - x ∧ l2 = B + L1 + L2 - c ∧ ds = x + c - L1 ∧ 1 ≤ l1 ∧ 0 ≤ l2 ∧ 0 ≤ x ∧ B + L1 ≤ c) → (l1 = 1 ∨ l2 = 0) → (-300000 ≤ G ∧ G ≤ mg + 3 * (L1 + L2)) → (MS rk a b B L1 L2 x (c - (B + L1)) f f0 p0 p h) → MW K yiJ35_mergeLo d gj 522 [some (.ref o), some (vi B), some (vi l1), some (vi (B + L1)), some (vi l2), some (.ref e), some (.ref t), some (vi x), some (vi c), some (vi ds), some (vi G), none, none] [] Q) := by
  have hoe : o ≠ e := ne_oa ho he
  have hot : o ≠ t := ne_oa ho htm
  have hin : ∀ i j, a ≤ i → i < b → a ≤ j → j < b → i ≠ j → rk (p0 i) ≠ rk (p0 j) := fun i j i1 i2 j1 j2 hne => by
    by_cases e9 : i < j
    · exact hI i j i1 e9 j2
    · exact fun e8 => hI j i j1 (by omega) i2 e8.symm
  have hpe : ∀ i, a ≤ i → i < b → p0 i ≠ e ∧ p0 i ≠ t ∧ p0 i ≠ o := fun i i1 i2 => by
    obtain ⟨r1, r2, r3, r4⟩ := (hA.1 i i1 i2).2.cell
    exact ⟨ne_oa r4 he, ne_oa r4 htm, ne_oo r4 ho (by decide)⟩
  have hup : ∀ g' : MH, (∀ q, q ≠ e ∧ q ≠ t ∧ q ≠ o → g'.2.2 q = h.2.2 q) → ∀ b w ci fs, ci ≠ 26 → h.2.2 b = some (w, .inr (ci, fs)) → g'.2.2 b = h.2.2 b := fun g' q b w ci fs h26 hb9 => q b ⟨ne_oa hb9 he, ne_oa hb9 htm, ne_oo hb9 ho h26⟩
  have hrd : ∀ g' : MH, (∀ q, q ≠ e ∧ q ≠ t ∧ q ≠ o → g'.2.2 q = h.2.2 q) → ∀ i, a ≤ i → i < b → RdS g' rk (p0 i) := fun g' q i i1 i2 => (hA.1 i i1 i2).2.up (hup g' q)
  have rkc : ∀ i j i' j' : Int, i = i' → j = j' → rk (p0 i') < rk (p0 j') → rk (p0 i) < rk (p0 j) := fun i j i' j' e1 e2 e3 => by rw [e1, e2]; exact e3
  have hlt : ∀ c i : Int, (B + L1 ≤ c ∧ c < B + L1 + L2) → i = L1 - 1 → ∀ {x y : Int}, (x = y → rk (p0 (B + i)) < rk (p0 c)) → x ≤ y → x < y := fun c i hc hi x y hx hxy => by
    by_cases e9 : x = y
    · have u := hx e9
      rw [hi, show B + (L1 - 1) = B + L1 - 1 by omega] at u
      by_cases e8 : c = B + L1 + L2 - 1
      · rw [e8] at u; omega
      · have := A2 c (B + L1 + L2 - 1) hc.1 (by omega) (by omega); omega
    · omega
  have ht : ∀ i, 0 ≤ i → i < L1 → cpq f1 ft0 B 0 L1 i = some (p0 (B + i)) := fun i i1 i2 => by { unfold cpq; rw [if_pos (by omega), Int.sub_zero]; exact (hA.1 (B + i) (by omega) (by omega)).1 }
  intro l1 l2 x c ds G f p gj ho he htm fR hz hw he2 hG hM
  refine mw_wf (fun hwf522 => ?_)
  have l_ho522 := hwf522 _ _ ho
  have l_he522 := hwf522 _ _ he
  have l_htm522 := hwf522 _ _ htm
  refine m_aload_n (y := yiJ35_mergeLo) dJ35_mergeLo_522 rfl ?_
  refine j_iload (y := yiJ35_mergeLo) dJ35_mergeLo_523 rfl ?_
  have J535 : ∀ (mv : Int), (1 ≤ mv ∧ mv ≤ mg + 3 * (L1 + L2) + 5) → MW K yiJ35_mergeLo d gj 535 [some (.ref o), some (vi B), some (vi l1), some (vi (B + L1)), some (vi l2), some (.ref e), some (.ref t), some (vi x), some (vi c), some (vi ds), some (vi G), none, none] [(vi mv), (.ref o)] Q := by
    intro mv hmv
    refine m_putfS (y := yiJ35_mergeLo) kc_26 1 (by decide) dJ35_mergeLo_535 q2013 rfl ho rfl rfl (hp_put fun g1 g1H => ?_)
    have he : g1.2.2 e = some (true, oaE K cap f) := (g1H.2.2.2 _ (by omega)).trans he
    have htm : g1.2.2 t = some (true, oaE K tl (cpq f1 ft0 B 0 L1)) := (g1H.2.2.2 _ (by omega)).trans htm
    have fR : ∀ b, (b ≠ e ∧ b ≠ t ∧ b ≠ o) → g1.2.2 b = h.2.2 b := fun b hb => (g1H.2.2.2 b (by omega)).trans (fR b hb)
    have ho : g1.2.2 o = some (true, .inr (26, [(.ref e), (vi mv), (.ref t), (vi 0), (vi (tl : Int)), (vi ss), (.ref rb), (.ref rl)])) := g1H.2.2.1
    have g11 := g1H.1
    have g12 := g1H.2.1
    refine j_iload_n (y := yiJ35_mergeLo) dJ35_mergeLo_538 rfl ?_
    refine j_iconst (y := yiJ35_mergeLo) dJ35_mergeLo_539 ?_
    refine j_icmp_ne (y := yiJ35_mergeLo) 591 dJ35_mergeLo_540 (by decide) ⟨⟨by omega, by omega⟩, ⟨by omega, by omega⟩⟩ (fun c540 => ?_) (fun c540 => ?_)
    · refine j_iload_n (y := yiJ35_mergeLo) dJ35_mergeLo_591 rfl ?_
      refine j_if_ne (y := yiJ35_mergeLo) 605 dJ35_mergeLo_592 (by decide) ⟨by omega, by omega⟩ (fun c592 => ?_) (fun c592 => False.elim (by omega))
      refine m_gets (y := yiJ35_mergeLo) (ref := "") 12 rfl dJ35_mergeLo_605 q1989 hB ?_
      refine j_if_ne (y := yiJ35_mergeLo) 624 dJ35_mergeLo_608 (by decide) ⟨by decide, by decide⟩ (fun _ => ?_) (fun c => absurd c (by decide))
      refine m_gets (y := yiJ35_mergeLo) (ref := "") 12 rfl dJ35_mergeLo_624 q1989 hB ?_
      refine j_if_ne (y := yiJ35_mergeLo) 643 dJ35_mergeLo_627 (by decide) ⟨by decide, by decide⟩ (fun _ => ?_) (fun c => absurd c (by decide))
      refine m_aload (y := yiJ35_mergeLo) dJ35_mergeLo_643 rfl ?_
      refine j_iload (y := yiJ35_mergeLo) dJ35_mergeLo_645 rfl ?_
      refine m_aload (y := yiJ35_mergeLo) dJ35_mergeLo_647 rfl ?_
      refine j_iload (y := yiJ35_mergeLo) dJ35_mergeLo_649 rfl ?_
      refine j_iload_n (y := yiJ35_mergeLo) dJ35_mergeLo_651 rfl ?_
      refine h_copyq (y := yiJ35_mergeLo) dJ35_mergeLo_652 q2003 htm he ⟨by omega, by omega⟩ ⟨by omega, by omega, by omega⟩ (by omega) (by omega) (fun i a1 a2 x9 hx => by { rw [ht i (by omega) (by omega)] at hx; cases hx; exact (hrd _ fR (B + i) (by omega) (by omega)).iso }) ⟨Nat.le_of_ble_eq_true rfl, by omega⟩ (hp_put fun g2 g2H => ?_)
      have ho : g2.2.2 o = some (true, .inr (26, [(.ref e), (vi mv), (.ref t), (vi 0), (vi (tl : Int)), (vi ss), (.ref rb), (.ref rl)])) := (g2H.2.2.2 _ (by omega)).trans ho
      have htm : g2.2.2 t = some (true, oaE K tl (cpq f1 ft0 B 0 L1)) := (g2H.2.2.2 _ (by omega)).trans htm
      have fR : ∀ b, (b ≠ e ∧ b ≠ t ∧ b ≠ o) → g2.2.2 b = h.2.2 b := fun b hb => (g2H.2.2.2 b (by omega)).trans (fR b hb)
      have he : g2.2.2 e = some (true, oaE K cap (cpq (cpq f1 ft0 B 0 L1) f x ds l1)) := g2H.2.2.1
      have g21 := g2H.1
      have g22 := g2H.2.1
      have q655 := (by first | exact (hMz.up (hup _ fR)).done (by omega) (by omega) e | exact ((hM.t1 ⟨by omega, by omega⟩ rfl (m := l1) ⟨by omega, by omega⟩ A1 (fun _ _ => by omega) (MS.cp1 (ds := ds) ht (by omega) ⟨by omega, by omega, by omega⟩)).up (hup _ fR)).done (by omega) (by omega) e)
      subst hQ; exact j_vret (y := yiJ35_mergeLo) dJ35_mergeLo_655 rfl (⟨mv, _, _, _, (by omega), ⟨by omega, by omega⟩, ho, he, htm, q655.1, q655.2.1, q655.2.2, fR⟩)
    · refine m_gets (y := yiJ35_mergeLo) (ref := "") 12 rfl dJ35_mergeLo_543 q1989 hB ?_
      refine j_if_ne (y := yiJ35_mergeLo) 562 dJ35_mergeLo_546 (by decide) ⟨by decide, by decide⟩ (fun _ => ?_) (fun c => absurd c (by decide))
      refine m_aload (y := yiJ35_mergeLo) dJ35_mergeLo_562 rfl ?_
      refine j_iload (y := yiJ35_mergeLo) dJ35_mergeLo_564 rfl ?_
      refine m_aload (y := yiJ35_mergeLo) dJ35_mergeLo_566 rfl ?_
      refine j_iload (y := yiJ35_mergeLo) dJ35_mergeLo_568 rfl ?_
      refine j_iload (y := yiJ35_mergeLo) dJ35_mergeLo_570 rfl ?_
      refine h_copyq (y := yiJ35_mergeLo) dJ35_mergeLo_572 q2003 he he ⟨by omega, by omega⟩ ⟨by omega, by omega, by omega⟩ (by omega) (by omega) (fun i a1 a2 x9 hx => by { rw [hM.e2 ⟨by omega, by omega⟩ (i := i) ⟨by omega, by omega⟩] at hx; cases hx; exact (hrd _ fR i (by omega) (by omega)).iso }) ⟨Nat.le_of_ble_eq_true rfl, by omega⟩ (hp_put fun g3 g3H => ?_)
      have ho : g3.2.2 o = some (true, .inr (26, [(.ref e), (vi mv), (.ref t), (vi 0), (vi (tl : Int)), (vi ss), (.ref rb), (.ref rl)])) := (g3H.2.2.2 _ (by omega)).trans ho
      have htm : g3.2.2 t = some (true, oaE K tl (cpq f1 ft0 B 0 L1)) := (g3H.2.2.2 _ (by omega)).trans htm
      have fR : ∀ b, (b ≠ e ∧ b ≠ t ∧ b ≠ o) → g3.2.2 b = h.2.2 b := fun b hb => (g3H.2.2.2 b (by omega)).trans (fR b hb)
      have he : g3.2.2 e = some (true, oaE K cap (cpq f f c ds l2)) := g3H.2.2.1
      have g31 := g3H.1
      have g32 := g3H.2.1
      refine m_aload (y := yiJ35_mergeLo) dJ35_mergeLo_575 rfl ?_
      refine j_iload (y := yiJ35_mergeLo) dJ35_mergeLo_577 rfl ?_
      refine j_iload (y := yiJ35_mergeLo) dJ35_mergeLo_579 rfl ?_
      refine j_iadd (y := yiJ35_mergeLo) dJ35_mergeLo_581 ?_
      refine m_aload (y := yiJ35_mergeLo) dJ35_mergeLo_582 rfl ?_
      refine j_iload (y := yiJ35_mergeLo) dJ35_mergeLo_584 rfl ?_
      refine h_aald5 (y := yiJ35_mergeLo) dJ35_mergeLo_586 htm ⟨by omega, by omega⟩ (by omega) ?_
      rw [(ht x (by omega) (by omega))]
      show MW K yiJ35_mergeLo d g3 587 [some (.ref o), some (vi B), some (vi l1), some (vi (B + L1)), some (vi l2), some (.ref e), some (.ref t), some (vi x), some (vi c), some (vi ds), some (vi G), none, none] [(.ref (p0 (B + x))), (vi (ds + l2)), (.ref e)] Q
      have i587 : IsO g3 (p0 (B + x)) := (hrd g3 fR _ (by omega) (by omega)).iso
      refine h_aast (y := yiJ35_mergeLo) dJ35_mergeLo_587 he (by assumption) ⟨by omega, by omega⟩ (by omega) (hp_put fun g4 g4H => ?_)
      have ho : g4.2.2 o = some (true, .inr (26, [(.ref e), (vi mv), (.ref t), (vi 0), (vi (tl : Int)), (vi ss), (.ref rb), (.ref rl)])) := (g4H.2.2.2 _ (by omega)).trans ho
      have htm : g4.2.2 t = some (true, oaE K tl (cpq f1 ft0 B 0 L1)) := (g4H.2.2.2 _ (by omega)).trans htm
      have fR : ∀ b, (b ≠ e ∧ b ≠ t ∧ b ≠ o) → g4.2.2 b = h.2.2 b := fun b hb => (g4H.2.2.2 b (by omega)).trans (fR b hb)
      have he : g4.2.2 e = some (true, oaE K cap (upq (cpq f f c ds l2) (ds + l2) (some (p0 (B + x))))) := g4H.2.2.1
      have g41 := g4H.1
      have g42 := g4H.2.1
      have hMz : MS rk a b B L1 L2 _ _ _ f0 p0 _ h := (hM.t2 ⟨by omega, by omega⟩ rfl (m := l2) ⟨by omega, by omega⟩ A2 (fun _ _ => rkc _ _ _ _ (by omega) (by omega) hla) (hM.cp2 (c := c) (ds := ds) ⟨by omega, by omega⟩ (by omega) (by omega) ⟨by omega, by omega⟩)).t1 ⟨by omega, by omega⟩ rfl (m := 1) ⟨by omega, by omega⟩ A1 (fun _ _ => by omega) (MS.up1 (ds := ds + l2) (by omega))
      refine m_goto (y := yiJ35_mergeLo) 655 dJ35_mergeLo_588 (by decide) ?_
      have q655 := (by first | exact (hMz.up (hup _ fR)).done (by omega) (by omega) e | exact ((hM.t1 ⟨by omega, by omega⟩ rfl (m := l1) ⟨by omega, by omega⟩ A1 (fun _ _ => by omega) (MS.cp1 (ds := ds) ht (by omega) ⟨by omega, by omega, by omega⟩)).up (hup _ fR)).done (by omega) (by omega) e)
      subst hQ; exact j_vret (y := yiJ35_mergeLo) dJ35_mergeLo_655 rfl (⟨mv, _, _, _, (by omega), ⟨by omega, by omega⟩, ho, he, htm, q655.1, q655.2.1, q655.2.2, fR⟩)
  refine j_iconst (y := yiJ35_mergeLo) dJ35_mergeLo_525 ?_
  refine j_icmp_ge (y := yiJ35_mergeLo) 533 dJ35_mergeLo_526 (by decide) ⟨⟨by omega, by omega⟩, ⟨by omega, by omega⟩⟩ (fun c526 => ?_) (fun c526 => ?_)
  · refine j_iload (y := yiJ35_mergeLo) dJ35_mergeLo_533 rfl ?_
    exact J535 _ (by omega)
  · refine j_iconst (y := yiJ35_mergeLo) dJ35_mergeLo_529 ?_
    refine m_goto (y := yiJ35_mergeLo) 535 dJ35_mergeLo_530 (by decide) ?_
    exact J535 _ (by omega)
theorem ml268 (K : KT) (d : Nat) (h : MH) (rk : Nat → Int) (o e t rb rl cap tl : Nat) (mg ss : Int) (a b B L1 L2 : Int) (f1 f0 ft0 : Int → Option Nat) (p0 : Int → Nat) (hd : 5 ≤ d) (hB : kV K 12 = vi 1) (ho : h.2.2 o = some (true, .inr (26, [.ref e, vi mg, .ref t, vi 0, vi (tl : Int), vi ss, .ref rb, .ref rl]))) (he : h.2.2 e = some (true, oaE K cap f1)) (htm : h.2.2 t = some (true, oaE K tl ft0)) (het : e ≠ t) (hA : ArS h rk e a b f1 f0 p0) (hb : (0 ≤ a ∧ a ≤ B ∧ B + L1 + L2 ≤ b) ∧ b ≤ (cap : Int) ∧ cap ≤ 60000) (hL : (0 < L1 ∧ 0 < L2) ∧ L1 ≤ (tl : Int) ∧ tl ≤ 60000) (hmg : 0 ≤ mg ∧ mg ≤ 1000000) (A1 : Asc rk p0 B (B + L1)) (A2 : Asc rk p0 (B + L1) (B + L1 + L2)) (hfi : rk (p0 (B + L1)) < rk (p0 B)) (hla : rk (p0 (B + L1 + L2 - 1)) < rk (p0 (B + L1 - 1))) (hI : Inj rk p0 a b) (Q : OT → MH → Prop) (r0 : Int) (J522 : (∀ (l1 l2 x c ds G : Int) (f : Int → Option Nat) (p : Int → Nat) (gj : MH), (gj.2.2 o = some (true, .inr (26, [(.ref e), (vi mg), (.ref t), (vi 0), (vi (tl : Int)), (vi ss), (.ref rb), (.ref rl)]))) → (gj.2.2 e = some (true, oaE K cap f)) → (gj.2.2 t = some (true, oaE K tl (cpq f1 ft0 B 0 L1))) → (∀ b, (b ≠ e ∧ b ≠ t ∧ b ≠ o) → gj.2.2 b = h.2.2 b) → (h.1 = gj.1 ∧ h.2.1 = gj.2.1) → (l1 = L1 - x ∧ l2 = B + L1 + L2 - c ∧ ds = x + c - L1 ∧ 1 ≤ l1 ∧ 0 ≤ l2 ∧ 0 ≤ x ∧ B + L1 ≤ c) → (l1 = 1 ∨ l2 = 0) → (-300000 ≤ G ∧ G ≤ mg + 3 * (L1 + L2)) → (MS rk a b B L1 L2 x (c - (B + L1)) f f0 p0 p h) → MW K yiJ35_mergeLo d gj 522 [some (.ref o), some (vi B), some (vi l1), some (vi (B + L1)), some (vi l2), some (.ref e), some (.ref t), some (vi x), some (vi c), some (vi ds), some (vi G), none, none] [] Q)) (J141 : (∀ (u1 u2 xu cu du G : Int) (fu : Int → Option Nat) (pu : Int → Nat) (gu : MH), (gu.2.2 o = some (true, .inr (26, [(.ref e), (vi mg), (.ref t), (vi 0), (vi (tl : Int)), (vi ss), (.ref rb), (.ref rl)]))) → (gu.2.2 e = some (true, oaE K cap fu)) → (gu.2.2 t = some (true, oaE K tl (cpq f1 ft0 B 0 L1))) → (∀ b, (b ≠ e ∧ b ≠ t ∧ b ≠ o) → gu.2.2 b = h.2.2 b) → (h.1 = gu.1 ∧ h.2.1 = gu.2.1) → (u1 = L1 - xu ∧ u2 = B + L1 + L2 - cu ∧ du = xu + cu - L1 ∧ 2 ≤ u1 ∧ 1 ≤ u2 ∧ 0 ≤ xu ∧ B + L1 + 1 ≤ cu) → (0 ≤ G ∧ G ≤ mg + 2 * (xu + cu - B - L1)) → (MS rk a b B L1 L2 xu (cu - (B + L1)) fu f0 p0 pu h) → (u1 + u2 < r0) → MW K yiJ35_mergeLo d gu 141 [some (.ref o), some (vi B), some (vi u1), some (vi (B + L1)), some (vi u2), some (.ref e), some (.ref t), some (vi xu), some (vi cu), some (vi du), some (vi G), none, none] [] Q)) : (∀ (l1 l2 x c ds Gg : Int) (f : Int → Option Nat) (p : Int → Nat) (gw : MH), (gw.2.2 o = some (true, .inr (26, [(.ref e), (vi mg), (.ref t), (vi 0), (vi (tl : Int)), (vi ss), (.ref rb), (.ref rl)]))) → (gw.2.2 e = some (true, oaE K cap f)) → (gw.2.2 t = some (true, oaE K tl (cpq f1 ft0 B 0 L1))) → (∀ b, (b ≠ e ∧ b ≠ t ∧ b ≠ o) → gw.2.2 b = h.2.2 b) → (h.1 = gw.1 ∧ h.2.1 = gw.2.1) → (l1 = L1 - x ∧ l2 = B + L1 + L2 - c ∧ ds = x + c - L1 ∧ 2 ≤ l1 ∧ 1 ≤ l2 ∧ 0 ≤ x ∧ B + L1 + 1 ≤ c ∧ l1 + l2 < r0) → (-(x + c - B - L1) ≤ Gg ∧ Gg ≤ mg + 2 * (x + c - B - L1)) → (MS rk a b B L1 L2 x (c - (B + L1)) f f0 p0 p h) → MW K yiJ35_mergeLo d gw 268 [some (.ref o), some (vi B), some (vi l1), some (vi (B + L1)), some (vi l2), some (.ref e), some (.ref t), some (vi x), some (vi c), some (vi ds), some (vi Gg), none, none] [] Q) := by
  have hoe : o ≠ e := ne_oa ho he
  have hot : o ≠ t := ne_oa ho htm
  have hin : ∀ i j, a ≤ i → i < b → a ≤ j → j < b → i ≠ j → rk (p0 i) ≠ rk (p0 j) := fun i j i1 i2 j1 j2 hne => by
    by_cases e9 : i < j
    · exact hI i j i1 e9 j2
    · exact fun e8 => hI j i j1 (by omega) i2 e8.symm
  have hpe : ∀ i, a ≤ i → i < b → p0 i ≠ e ∧ p0 i ≠ t ∧ p0 i ≠ o := fun i i1 i2 => by
    obtain ⟨r1, r2, r3, r4⟩ := (hA.1 i i1 i2).2.cell
    exact ⟨ne_oa r4 he, ne_oa r4 htm, ne_oo r4 ho (by decide)⟩
  have hup : ∀ g' : MH, (∀ q, q ≠ e ∧ q ≠ t ∧ q ≠ o → g'.2.2 q = h.2.2 q) → ∀ b w ci fs, ci ≠ 26 → h.2.2 b = some (w, .inr (ci, fs)) → g'.2.2 b = h.2.2 b := fun g' q b w ci fs h26 hb9 => q b ⟨ne_oa hb9 he, ne_oa hb9 htm, ne_oo hb9 ho h26⟩
  have hrd : ∀ g' : MH, (∀ q, q ≠ e ∧ q ≠ t ∧ q ≠ o → g'.2.2 q = h.2.2 q) → ∀ i, a ≤ i → i < b → RdS g' rk (p0 i) := fun g' q i i1 i2 => (hA.1 i i1 i2).2.up (hup g' q)
  have rkc : ∀ i j i' j' : Int, i = i' → j = j' → rk (p0 i') < rk (p0 j') → rk (p0 i) < rk (p0 j) := fun i j i' j' e1 e2 e3 => by rw [e1, e2]; exact e3
  have hlt : ∀ c i : Int, (B + L1 ≤ c ∧ c < B + L1 + L2) → i = L1 - 1 → ∀ {x y : Int}, (x = y → rk (p0 (B + i)) < rk (p0 c)) → x ≤ y → x < y := fun c i hc hi x y hx hxy => by
    by_cases e9 : x = y
    · have u := hx e9
      rw [hi, show B + (L1 - 1) = B + L1 - 1 by omega] at u
      by_cases e8 : c = B + L1 + L2 - 1
      · rw [e8] at u; omega
      · have := A2 c (B + L1 + L2 - 1) hc.1 (by omega) (by omega); omega
    · omega
  have ht : ∀ i, 0 ≤ i → i < L1 → cpq f1 ft0 B 0 L1 i = some (p0 (B + i)) := fun i i1 i2 => by { unfold cpq; rw [if_pos (by omega), Int.sub_zero]; exact (hA.1 (B + i) (by omega) (by omega)).1 }
  have L268 : ∀ (N : Nat) (l1 l2 x c ds Gg : Int) (f : Int → Option Nat) (p : Int → Nat) (gw : MH), (l1 + l2).toNat = N → (gw.2.2 o = some (true, .inr (26, [(.ref e), (vi mg), (.ref t), (vi 0), (vi (tl : Int)), (vi ss), (.ref rb), (.ref rl)]))) → (gw.2.2 e = some (true, oaE K cap f)) → (gw.2.2 t = some (true, oaE K tl (cpq f1 ft0 B 0 L1))) → (∀ b, (b ≠ e ∧ b ≠ t ∧ b ≠ o) → gw.2.2 b = h.2.2 b) → (h.1 = gw.1 ∧ h.2.1 = gw.2.1) → (l1 = L1 - x ∧ l2 = B + L1 + L2 - c ∧ ds = x + c - L1 ∧ 2 ≤ l1 ∧ 1 ≤ l2 ∧ 0 ≤ x ∧ B + L1 + 1 ≤ c ∧ l1 + l2 < r0) → (-(x + c - B - L1) ≤ Gg ∧ Gg ≤ mg + 2 * (x + c - B - L1)) → (MS rk a b B L1 L2 x (c - (B + L1)) f f0 p0 p h) → MW K yiJ35_mergeLo d gw 268 [some (.ref o), some (vi B), some (vi l1), some (vi (B + L1)), some (vi l2), some (.ref e), some (.ref t), some (vi x), some (vi c), some (vi ds), some (vi Gg), none, none] [] Q := by
    intro N
    induction N using Nat.strongRecOn with
    | _ N ih268 =>
    intro l1 l2 x c ds Gg f p gw hN268 ho he htm fR hz hw3 hG3 hM3
    refine mw_wf (fun hwf268 => ?_)
    have l_ho268 := hwf268 _ _ ho
    have l_he268 := hwf268 _ _ he
    have l_htm268 := hwf268 _ _ htm
    refine m_gets (y := yiJ35_mergeLo) (ref := "") 12 rfl dJ35_mergeLo_268 q1989 hB ?_
    refine j_if_ne (y := yiJ35_mergeLo) 292 dJ35_mergeLo_271 (by decide) ⟨by decide, by decide⟩ (fun _ => ?_) (fun c => absurd c (by decide))
    refine m_aload (y := yiJ35_mergeLo) dJ35_mergeLo_292 rfl ?_
    refine j_iload (y := yiJ35_mergeLo) dJ35_mergeLo_294 rfl ?_
    refine h_aald5 (y := yiJ35_mergeLo) dJ35_mergeLo_296 he ⟨by omega, by omega⟩ (by omega) ?_
    rw [(hM3.e2 ⟨by omega, by omega⟩ (i := c) ⟨by omega, by omega⟩)]
    show MW K yiJ35_mergeLo d gw 297 [some (.ref o), some (vi B), some (vi l1), some (vi (B + L1)), some (vi l2), some (.ref e), some (.ref t), some (vi x), some (vi c), some (vi ds), some (vi Gg), none, none] [(.ref (p0 c))] Q
    obtain ⟨ru, cs, ks, hps⟩ := (hrd gw fR c (by omega) (by omega)).cell
    have ne297 := hpe c (by omega) (by omega)
    have hps : gw.2.2 (p0 c) = some (true, .inr (8, [(.ref ru), (vi cs), (vi ks)])) := hps
    have l_hps := hwf268 _ _ hps
    refine m_cast (y := yiJ35_mergeLo) dJ35_mergeLo_297 hps rfl q1994 (Or.inr q1534) ?_
    refine m_aload (y := yiJ35_mergeLo) dJ35_mergeLo_300 rfl ?_
    refine j_iload (y := yiJ35_mergeLo) dJ35_mergeLo_302 rfl ?_
    refine j_iload_n (y := yiJ35_mergeLo) dJ35_mergeLo_304 rfl ?_
    refine j_iconst (y := yiJ35_mergeLo) dJ35_mergeLo_305 ?_
    refine m_invS (y := yiJ35_mergeLo) [(.ref (p0 c)), (.ref t), (vi x), (vi l1), (vi 0)] dJ35_mergeLo_306 q2052 q2053 q171 q2054 (c_J35_gallopRight K 3 gw rk t tl (p0 c) true x l1 0 (cpq f1 ft0 B 0 L1) (fun i => p0 (B + i)) (by omega) hB htm (fun i i1 i2 => ⟨ht i (by omega) (by omega), hrd _ fR (B + i) (by omega) (by omega)⟩) (hrd _ fR c (by omega) (by omega)) (fun i j i1 i2 i3 => A1 (B + i) (B + j) (by omega) (by omega) (by omega)) (fun i i1 i2 => hin c (B + i) (by omega) (by omega) (by omega) (by omega) (by omega)) ⟨by omega, by omega, by omega, by omega⟩ ⟨by omega, by omega⟩) pdJ35_gallopRight ⟨Nat.le_of_ble_eq_true rfl, by decide, by omega⟩ (kk_z fun r306 h306 q306 => ?_) kx_z
    obtain ⟨rfl, z306, y306, w306⟩ := q306
    have y306' : ∀ i, x ≤ i → i < x + r306 → rk (p0 (B + i)) < rk (p0 c) := y306
    have w306' : ∀ i, x + r306 ≤ i → i < x + l1 → rk (p0 c) < rk (p0 (B + i)) := w306
    have t306 : r306 < l1 := hlt c (x + l1 - 1) (by omega) (by omega) (fun e9 => y306' _ (by omega) (by omega)) (by omega)
    refine j_istore (y := yiJ35_mergeLo) [some (.ref o), some (vi B), some (vi l1), some (vi (B + L1)), some (vi l2), some (.ref e), some (.ref t), some (vi x), some (vi c), some (vi ds), some (vi Gg), some (vi r306), none] dJ35_mergeLo_309 (by decide) rfl rfl ?_
    have J356 : ∀ (m1 xx dd k1 : Int) (f : Int → Option Nat) (p : Int → Nat) (gx : MH), (gx.2.2 o = some (true, .inr (26, [(.ref e), (vi mg), (.ref t), (vi 0), (vi (tl : Int)), (vi ss), (.ref rb), (.ref rl)]))) → (gx.2.2 e = some (true, oaE K cap f)) → (gx.2.2 t = some (true, oaE K tl (cpq f1 ft0 B 0 L1))) → (∀ b, (b ≠ e ∧ b ≠ t ∧ b ≠ o) → gx.2.2 b = h.2.2 b) → (h.1 = gx.1 ∧ h.2.1 = gx.2.1) → (m1 = L1 - xx ∧ dd = xx + c - L1 ∧ 2 ≤ m1 ∧ x ≤ xx ∧ 0 ≤ k1 ∧ k1 ≤ 100000) → (rk (p0 c) < rk (p0 (B + xx))) → (MS rk a b B L1 L2 xx (c - (B + L1)) f f0 p0 p h) → MW K yiJ35_mergeLo d gx 356 [some (.ref o), some (vi B), some (vi m1), some (vi (B + L1)), some (vi l2), some (.ref e), some (.ref t), some (vi xx), some (vi c), some (vi dd), some (vi Gg), some (vi k1), none] [] Q := by
      intro m1 xx dd k1 f p gx ho he htm fR hz hw4 hc4 hM4
      refine mw_wf (fun hwf356 => ?_)
      have l_ho356 := hwf356 _ _ ho
      have l_he356 := hwf356 _ _ he
      have l_htm356 := hwf356 _ _ htm
      refine m_aload (y := yiJ35_mergeLo) dJ35_mergeLo_356 rfl ?_
      refine j_iload (y := yiJ35_mergeLo) dJ35_mergeLo_358 rfl ?_
      refine j_iinc (y := yiJ35_mergeLo) [some (.ref o), some (vi B), some (vi m1), some (vi (B + L1)), some (vi l2), some (.ref e), some (.ref t), some (vi xx), some (vi c), some (vi (dd + 1)), some (vi Gg), some (vi k1), none] dJ35_mergeLo_360 rfl (by decide) rfl rfl ?_
      refine m_aload (y := yiJ35_mergeLo) dJ35_mergeLo_363 rfl ?_
      refine j_iload (y := yiJ35_mergeLo) dJ35_mergeLo_365 rfl ?_
      refine j_iinc (y := yiJ35_mergeLo) [some (.ref o), some (vi B), some (vi m1), some (vi (B + L1)), some (vi l2), some (.ref e), some (.ref t), some (vi xx), some (vi (c + 1)), some (vi (dd + 1)), some (vi Gg), some (vi k1), none] dJ35_mergeLo_367 rfl (by decide) rfl rfl ?_
      refine h_aald5 (y := yiJ35_mergeLo) dJ35_mergeLo_370 he ⟨by omega, by omega⟩ (by omega) ?_
      rw [(hM4.e2 ⟨by omega, by omega⟩ (i := c) ⟨by omega, by omega⟩)]
      show MW K yiJ35_mergeLo d gx 371 [some (.ref o), some (vi B), some (vi m1), some (vi (B + L1)), some (vi l2), some (.ref e), some (.ref t), some (vi xx), some (vi (c + 1)), some (vi (dd + 1)), some (vi Gg), some (vi k1), none] [(.ref (p0 c)), (vi dd), (.ref e)] Q
      have i371 : IsO gx (p0 c) := (hrd gx fR _ (by omega) (by omega)).iso
      refine h_aast (y := yiJ35_mergeLo) dJ35_mergeLo_371 he (by assumption) ⟨by omega, by omega⟩ (by omega) (hp_put fun g1 g1H => ?_)
      have ho : g1.2.2 o = some (true, .inr (26, [(.ref e), (vi mg), (.ref t), (vi 0), (vi (tl : Int)), (vi ss), (.ref rb), (.ref rl)])) := (g1H.2.2.2 _ (by omega)).trans ho
      have htm : g1.2.2 t = some (true, oaE K tl (cpq f1 ft0 B 0 L1)) := (g1H.2.2.2 _ (by omega)).trans htm
      have fR : ∀ b, (b ≠ e ∧ b ≠ t ∧ b ≠ o) → g1.2.2 b = h.2.2 b := fun b hb => (g1H.2.2.2 b (by omega)).trans (fR b hb)
      have he : g1.2.2 e = some (true, oaE K cap (upq f dd (some (p0 c)))) := g1H.2.2.1
      have g11 := g1H.1
      have g12 := g1H.2.1
      have hM5 := hM4.t2 ⟨by omega, by omega⟩ (y' := c + 1 - (B + L1)) (by omega) (m := 1) ⟨by omega, by omega⟩ A2 (fun _ _ => rkc _ _ c (B + xx) (by omega) (by omega) hc4) (MS.up2 (ds := dd) (c := c) (by omega) (by omega))
      refine j_iinc (y := yiJ35_mergeLo) [some (.ref o), some (vi B), some (vi m1), some (vi (B + L1)), some (vi (l2 + (-1))), some (.ref e), some (.ref t), some (vi xx), some (vi (c + 1)), some (vi (dd + 1)), some (vi Gg), some (vi k1), none] dJ35_mergeLo_372 rfl (by decide) rfl rfl ?_
      refine j_iload (y := yiJ35_mergeLo) dJ35_mergeLo_375 rfl ?_
      refine j_if_ne (y := yiJ35_mergeLo) 383 dJ35_mergeLo_377 (by decide) ⟨by omega, by omega⟩ (fun c377 => ?_) (fun c377 => ?_)
      · refine m_aload (y := yiJ35_mergeLo) dJ35_mergeLo_383 rfl ?_
        refine j_iload (y := yiJ35_mergeLo) dJ35_mergeLo_385 rfl ?_
        refine h_aald5 (y := yiJ35_mergeLo) dJ35_mergeLo_387 htm ⟨by omega, by omega⟩ (by omega) ?_
        rw [(ht xx (by omega) (by omega))]
        show MW K yiJ35_mergeLo d g1 388 [some (.ref o), some (vi B), some (vi m1), some (vi (B + L1)), some (vi (l2 + (-1))), some (.ref e), some (.ref t), some (vi xx), some (vi (c + 1)), some (vi (dd + 1)), some (vi Gg), some (vi k1), none] [(.ref (p0 (B + xx)))] Q
        obtain ⟨ru, cs, ks, hps⟩ := (hrd g1 fR (B + xx) (by omega) (by omega)).cell
        have ne388 := hpe (B + xx) (by omega) (by omega)
        have hps : g1.2.2 (p0 (B + xx)) = some (true, .inr (8, [(.ref ru), (vi cs), (vi ks)])) := hps
        refine mw_wf (fun hwfk2 => ?_)
        have l_hps := hwfk2 _ _ hps
        refine m_cast (y := yiJ35_mergeLo) dJ35_mergeLo_388 hps rfl q1994 (Or.inr q1534) ?_
        refine m_aload (y := yiJ35_mergeLo) dJ35_mergeLo_391 rfl ?_
        refine j_iload (y := yiJ35_mergeLo) dJ35_mergeLo_393 rfl ?_
        refine j_iload (y := yiJ35_mergeLo) dJ35_mergeLo_395 rfl ?_
        refine j_iconst (y := yiJ35_mergeLo) dJ35_mergeLo_397 ?_
        refine m_invS (y := yiJ35_mergeLo) [(.ref (p0 (B + xx))), (.ref e), (vi (c + 1)), (vi (l2 + (-1))), (vi 0)] dJ35_mergeLo_398 q2055 q2056 q171 q2057 (c_J35_gallopLeft K 3 g1 rk e cap (p0 (B + xx)) true (c + 1) (l2 - 1) 0 _ p0 (by omega) hB he (fun i i1 i2 => ⟨hM5.e2 ⟨by omega, by omega⟩ (i := i) ⟨by omega, by omega⟩, hrd _ fR i (by omega) (by omega)⟩) (hrd _ fR (B + xx) (by omega) (by omega)) (fun i j i1 i2 i3 => A2 i j (by omega) (by omega) (by omega)) (fun i i1 i2 => hin (B + xx) i (by omega) (by omega) (by omega) (by omega) (by omega)) ⟨by omega, by omega, by omega, by omega⟩ ⟨by omega, by omega⟩) pdJ35_gallopLeft ⟨Nat.le_of_ble_eq_true rfl, by decide, by omega⟩ (kk_z fun r398 h398 q398 => ?_) kx_z
        obtain ⟨rfl, z398, y398, w398⟩ := q398
        have y398' : ∀ i, c + 1 ≤ i → i < c + 1 + r398 → rk (p0 i) < rk (p0 (B + xx)) := y398
        have w398' : ∀ i, c + 1 + r398 ≤ i → i < c + 1 + (l2 - 1) → rk (p0 (B + xx)) < rk (p0 i) := w398
        refine j_istore (y := yiJ35_mergeLo) [some (.ref o), some (vi B), some (vi m1), some (vi (B + L1)), some (vi (l2 + (-1))), some (.ref e), some (.ref t), some (vi xx), some (vi (c + 1)), some (vi (dd + 1)), some (vi Gg), some (vi k1), some (vi r398)] dJ35_mergeLo_401 (by decide) rfl rfl ?_
        have J450 : ∀ (n2 cc dd k2 : Int) (f : Int → Option Nat) (p : Int → Nat) (gy : MH), (gy.2.2 o = some (true, .inr (26, [(.ref e), (vi mg), (.ref t), (vi 0), (vi (tl : Int)), (vi ss), (.ref rb), (.ref rl)]))) → (gy.2.2 e = some (true, oaE K cap f)) → (gy.2.2 t = some (true, oaE K tl (cpq f1 ft0 B 0 L1))) → (∀ b, (b ≠ e ∧ b ≠ t ∧ b ≠ o) → gy.2.2 b = h.2.2 b) → (h.1 = gy.1 ∧ h.2.1 = gy.2.1) → (n2 = B + L1 + L2 - cc ∧ dd = xx + cc - L1 ∧ 1 ≤ n2 ∧ c + 1 ≤ cc ∧ 0 ≤ k2 ∧ k2 ≤ 100000) → (rk (p0 (B + xx)) < rk (p0 cc)) → (MS rk a b B L1 L2 xx (cc - (B + L1)) f f0 p0 p h) → MW K yiJ35_mergeLo d gy 450 [some (.ref o), some (vi B), some (vi m1), some (vi (B + L1)), some (vi n2), some (.ref e), some (.ref t), some (vi xx), some (vi cc), some (vi dd), some (vi Gg), some (vi k1), some (vi k2)] [] Q := by
          intro n2 cc dd k2 f p gy ho he htm fR hz hw5 hc5 hM6
          refine mw_wf (fun hwf450 => ?_)
          have l_ho450 := hwf450 _ _ ho
          have l_he450 := hwf450 _ _ he
          have l_htm450 := hwf450 _ _ htm
          refine m_aload (y := yiJ35_mergeLo) dJ35_mergeLo_450 rfl ?_
          refine j_iload (y := yiJ35_mergeLo) dJ35_mergeLo_452 rfl ?_
          refine j_iinc (y := yiJ35_mergeLo) [some (.ref o), some (vi B), some (vi m1), some (vi (B + L1)), some (vi n2), some (.ref e), some (.ref t), some (vi xx), some (vi cc), some (vi (dd + 1)), some (vi Gg), some (vi k1), some (vi k2)] dJ35_mergeLo_454 rfl (by decide) rfl rfl ?_
          refine m_aload (y := yiJ35_mergeLo) dJ35_mergeLo_457 rfl ?_
          refine j_iload (y := yiJ35_mergeLo) dJ35_mergeLo_459 rfl ?_
          refine j_iinc (y := yiJ35_mergeLo) [some (.ref o), some (vi B), some (vi m1), some (vi (B + L1)), some (vi n2), some (.ref e), some (.ref t), some (vi (xx + 1)), some (vi cc), some (vi (dd + 1)), some (vi Gg), some (vi k1), some (vi k2)] dJ35_mergeLo_461 rfl (by decide) rfl rfl ?_
          refine h_aald5 (y := yiJ35_mergeLo) dJ35_mergeLo_464 htm ⟨by omega, by omega⟩ (by omega) ?_
          rw [(ht xx (by omega) (by omega))]
          show MW K yiJ35_mergeLo d gy 465 [some (.ref o), some (vi B), some (vi m1), some (vi (B + L1)), some (vi n2), some (.ref e), some (.ref t), some (vi (xx + 1)), some (vi cc), some (vi (dd + 1)), some (vi Gg), some (vi k1), some (vi k2)] [(.ref (p0 (B + xx))), (vi dd), (.ref e)] Q
          have i465 : IsO gy (p0 (B + xx)) := (hrd gy fR _ (by omega) (by omega)).iso
          refine h_aast (y := yiJ35_mergeLo) dJ35_mergeLo_465 he (by assumption) ⟨by omega, by omega⟩ (by omega) (hp_put fun g3 g3H => ?_)
          have ho : g3.2.2 o = some (true, .inr (26, [(.ref e), (vi mg), (.ref t), (vi 0), (vi (tl : Int)), (vi ss), (.ref rb), (.ref rl)])) := (g3H.2.2.2 _ (by omega)).trans ho
          have htm : g3.2.2 t = some (true, oaE K tl (cpq f1 ft0 B 0 L1)) := (g3H.2.2.2 _ (by omega)).trans htm
          have fR : ∀ b, (b ≠ e ∧ b ≠ t ∧ b ≠ o) → g3.2.2 b = h.2.2 b := fun b hb => (g3H.2.2.2 b (by omega)).trans (fR b hb)
          have he : g3.2.2 e = some (true, oaE K cap (upq f dd (some (p0 (B + xx))))) := g3H.2.2.1
          have g31 := g3H.1
          have g32 := g3H.2.1
          have hM7 := hM6.t1 ⟨by omega, by omega⟩ (x' := xx + 1) (by omega) (m := 1) ⟨by omega, by omega⟩ A1 (fun _ _ => rkc _ _ (B + xx) cc (by omega) (by omega) hc5) (MS.up1 (ds := dd) (by omega))
          refine j_iinc (y := yiJ35_mergeLo) [some (.ref o), some (vi B), some (vi (m1 + (-1))), some (vi (B + L1)), some (vi n2), some (.ref e), some (.ref t), some (vi (xx + 1)), some (vi cc), some (vi (dd + 1)), some (vi Gg), some (vi k1), some (vi k2)] dJ35_mergeLo_466 rfl (by decide) rfl rfl ?_
          refine j_iload_n (y := yiJ35_mergeLo) dJ35_mergeLo_469 rfl ?_
          refine j_iconst (y := yiJ35_mergeLo) dJ35_mergeLo_470 ?_
          refine j_icmp_ne (y := yiJ35_mergeLo) 477 dJ35_mergeLo_471 (by decide) ⟨⟨by omega, by omega⟩, ⟨by omega, by omega⟩⟩ (fun c471 => ?_) (fun c471 => ?_)
          · refine j_iinc (y := yiJ35_mergeLo) [some (.ref o), some (vi B), some (vi (m1 + (-1))), some (vi (B + L1)), some (vi n2), some (.ref e), some (.ref t), some (vi (xx + 1)), some (vi cc), some (vi (dd + 1)), some (vi (Gg + (-1))), some (vi k1), some (vi k2)] dJ35_mergeLo_477 rfl (by decide) rfl rfl ?_
            refine j_iload (y := yiJ35_mergeLo) dJ35_mergeLo_480 rfl ?_
            refine j_bipush (y := yiJ35_mergeLo) dJ35_mergeLo_482 (by decide) ?_
            refine j_icmp_lt (y := yiJ35_mergeLo) 491 dJ35_mergeLo_484 (by decide) ⟨⟨by omega, by omega⟩, ⟨by omega, by omega⟩⟩ (fun c484 => ?_) (fun c484 => ?_)
            · refine j_iconst (y := yiJ35_mergeLo) dJ35_mergeLo_491 ?_
              refine j_iload (y := yiJ35_mergeLo) dJ35_mergeLo_492 rfl ?_
              refine j_bipush (y := yiJ35_mergeLo) dJ35_mergeLo_494 (by decide) ?_
              refine j_icmp_lt (y := yiJ35_mergeLo) 503 dJ35_mergeLo_496 (by decide) ⟨⟨by omega, by omega⟩, ⟨by omega, by omega⟩⟩ (fun c496 => ?_) (fun c496 => ?_)
              · refine j_iconst (y := yiJ35_mergeLo) dJ35_mergeLo_503 ?_
                refine j_ior0 (y := yiJ35_mergeLo) dJ35_mergeLo_504 ?_
                refine j_if_ne (y := yiJ35_mergeLo) 268 dJ35_mergeLo_505 (by decide) ⟨by decide, by decide⟩ (fun c => absurd c (by decide)) (fun _ => ?_)
                refine j_iload (y := yiJ35_mergeLo) dJ35_mergeLo_508 rfl ?_
                refine j_if_ge (y := yiJ35_mergeLo) 516 dJ35_mergeLo_510 (by decide) ⟨by omega, by omega⟩ (fun c510 => ?_) (fun c510 => ?_)
                · refine j_iinc (y := yiJ35_mergeLo) [some (.ref o), some (vi B), some (vi (m1 + (-1))), some (vi (B + L1)), some (vi n2), some (.ref e), some (.ref t), some (vi (xx + 1)), some (vi cc), some (vi (dd + 1)), some (vi ((Gg + (-1)) + 2)), some (vi k1), some (vi k2)] dJ35_mergeLo_516 rfl (by decide) rfl rfl ?_
                  refine m_goto (y := yiJ35_mergeLo) 141 dJ35_mergeLo_519 (by decide) ?_
                  refine mw_forget 11 ?_
                  refine mw_forget 12 ?_
                  exact J141 _ _ _ _ _ _ _ _ _ ho he htm fR (by omega) (by omega) (by omega) hM7 (by omega)
                · refine j_iconst (y := yiJ35_mergeLo) dJ35_mergeLo_513 ?_
                  refine j_istore (y := yiJ35_mergeLo) [some (.ref o), some (vi B), some (vi (m1 + (-1))), some (vi (B + L1)), some (vi n2), some (.ref e), some (.ref t), some (vi (xx + 1)), some (vi cc), some (vi (dd + 1)), some (vi 0), some (vi k1), some (vi k2)] dJ35_mergeLo_514 (by decide) rfl rfl ?_
                  refine j_iinc (y := yiJ35_mergeLo) [some (.ref o), some (vi B), some (vi (m1 + (-1))), some (vi (B + L1)), some (vi n2), some (.ref e), some (.ref t), some (vi (xx + 1)), some (vi cc), some (vi (dd + 1)), some (vi (0 + 2)), some (vi k1), some (vi k2)] dJ35_mergeLo_516 rfl (by decide) rfl rfl ?_
                  refine m_goto (y := yiJ35_mergeLo) 141 dJ35_mergeLo_519 (by decide) ?_
                  refine mw_forget 11 ?_
                  refine mw_forget 12 ?_
                  exact J141 _ _ _ _ _ _ _ _ _ ho he htm fR (by omega) (by omega) (by omega) hM7 (by omega)
              · refine j_iconst (y := yiJ35_mergeLo) dJ35_mergeLo_499 ?_
                refine m_goto (y := yiJ35_mergeLo) 504 dJ35_mergeLo_500 (by decide) ?_
                refine j_ior1 (y := yiJ35_mergeLo) dJ35_mergeLo_504 (by omega) ?_
                refine j_if_ne (y := yiJ35_mergeLo) 268 dJ35_mergeLo_505 (by decide) ⟨by decide, by decide⟩ (fun _ => ?_) (fun c => absurd c (by decide))
                refine mw_forget 11 ?_
                refine mw_forget 12 ?_
                exact ih268 _ (by omega) _ _ _ _ _ _ _ _ _ rfl ho he htm fR (by omega) (by omega) (by omega) hM7
            · refine j_iconst (y := yiJ35_mergeLo) dJ35_mergeLo_487 ?_
              refine m_goto (y := yiJ35_mergeLo) 492 dJ35_mergeLo_488 (by decide) ?_
              refine j_iload (y := yiJ35_mergeLo) dJ35_mergeLo_492 rfl ?_
              refine j_bipush (y := yiJ35_mergeLo) dJ35_mergeLo_494 (by decide) ?_
              refine j_icmp_lt (y := yiJ35_mergeLo) 503 dJ35_mergeLo_496 (by decide) ⟨⟨by omega, by omega⟩, ⟨by omega, by omega⟩⟩ (fun c496 => ?_) (fun c496 => ?_)
              · refine j_iconst (y := yiJ35_mergeLo) dJ35_mergeLo_503 ?_
                refine j_ior0 (y := yiJ35_mergeLo) dJ35_mergeLo_504 ?_
                refine j_if_ne (y := yiJ35_mergeLo) 268 dJ35_mergeLo_505 (by decide) ⟨by decide, by decide⟩ (fun _ => ?_) (fun c => absurd c (by decide))
                refine mw_forget 11 ?_
                refine mw_forget 12 ?_
                exact ih268 _ (by omega) _ _ _ _ _ _ _ _ _ rfl ho he htm fR (by omega) (by omega) (by omega) hM7
              · refine j_iconst (y := yiJ35_mergeLo) dJ35_mergeLo_499 ?_
                refine m_goto (y := yiJ35_mergeLo) 504 dJ35_mergeLo_500 (by decide) ?_
                refine j_ior1 (y := yiJ35_mergeLo) dJ35_mergeLo_504 (by omega) ?_
                refine j_if_ne (y := yiJ35_mergeLo) 268 dJ35_mergeLo_505 (by decide) ⟨by decide, by decide⟩ (fun _ => ?_) (fun c => absurd c (by decide))
                refine mw_forget 11 ?_
                refine mw_forget 12 ?_
                exact ih268 _ (by omega) _ _ _ _ _ _ _ _ _ rfl ho he htm fR (by omega) (by omega) (by omega) hM7
          · refine m_goto (y := yiJ35_mergeLo) 522 dJ35_mergeLo_474 (by decide) ?_
            refine mw_forget 11 ?_
            refine mw_forget 12 ?_
            exact J522 _ _ _ _ _ _ _ _ _ ho he htm fR (by omega) (by omega) (by omega) (by omega) (by first | exact hM7 | exact hM6 | exact hM5 | exact hM4a | exact hMa | exact hMb)
        refine j_iload (y := yiJ35_mergeLo) dJ35_mergeLo_403 rfl ?_
        refine j_if_eq (y := yiJ35_mergeLo) 450 dJ35_mergeLo_405 (by decide) ⟨by omega, by omega⟩ (fun c405 => ?_) (fun c405 => ?_)
        · exact J450 _ _ _ _ _ _ _ ho he htm fR (by omega) (by omega) (by first | exact w398' _ (by omega) (by omega) | (rw [show c + 1 = c + 1 + r398 by omega]; exact w398' _ (by omega) (by omega))) (by first | exact hM6 | exact hM5)
        · refine m_aload (y := yiJ35_mergeLo) dJ35_mergeLo_408 rfl ?_
          refine j_iload (y := yiJ35_mergeLo) dJ35_mergeLo_410 rfl ?_
          refine m_aload (y := yiJ35_mergeLo) dJ35_mergeLo_412 rfl ?_
          refine j_iload (y := yiJ35_mergeLo) dJ35_mergeLo_414 rfl ?_
          refine j_iload (y := yiJ35_mergeLo) dJ35_mergeLo_416 rfl ?_
          refine h_copyq (y := yiJ35_mergeLo) dJ35_mergeLo_418 q2003 he he ⟨by omega, by omega⟩ ⟨by omega, by omega, by omega⟩ (by omega) (by omega) (fun i a1 a2 x9 hx => by { rw [hM5.e2 ⟨by omega, by omega⟩ (i := i) ⟨by omega, by omega⟩] at hx; cases hx; exact (hrd _ fR i (by omega) (by omega)).iso }) ⟨Nat.le_of_ble_eq_true rfl, by omega⟩ (hp_put fun g4 g4H => ?_)
          have ho : g4.2.2 o = some (true, .inr (26, [(.ref e), (vi mg), (.ref t), (vi 0), (vi (tl : Int)), (vi ss), (.ref rb), (.ref rl)])) := (g4H.2.2.2 _ (by omega)).trans ho
          have htm : g4.2.2 t = some (true, oaE K tl (cpq f1 ft0 B 0 L1)) := (g4H.2.2.2 _ (by omega)).trans htm
          have hps : g4.2.2 (p0 (B + xx)) = some (true, .inr (8, [(.ref ru), (vi cs), (vi ks)])) := (g4H.2.2.2 _ (by omega)).trans hps
          have fR : ∀ b, (b ≠ e ∧ b ≠ t ∧ b ≠ o) → g4.2.2 b = h.2.2 b := fun b hb => (g4H.2.2.2 b (by omega)).trans (fR b hb)
          have he : g4.2.2 e = some (true, oaE K cap (cpq (upq f dd (some (p0 c))) (upq f dd (some (p0 c))) (c + 1) (dd + 1) r398)) := g4H.2.2.1
          have g41 := g4H.1
          have g42 := g4H.2.1
          have hM6 := hM5.t2 ⟨by omega, by omega⟩ (y' := c + 1 + r398 - (B + L1)) (by omega) (m := r398) ⟨by omega, by omega⟩ A2 (fun _ _ => rkc _ _ (c + 1 + r398 - 1) (B + xx) (by omega) (by omega) (y398' _ (by omega) (by omega))) (hM5.cp2 (c := c + 1) (ds := dd + 1) ⟨by omega, by omega⟩ (by omega) (by omega) ⟨by omega, by omega⟩)
          refine j_iload (y := yiJ35_mergeLo) dJ35_mergeLo_421 rfl ?_
          refine j_iload (y := yiJ35_mergeLo) dJ35_mergeLo_423 rfl ?_
          refine j_iadd (y := yiJ35_mergeLo) dJ35_mergeLo_425 ?_
          refine j_istore (y := yiJ35_mergeLo) [some (.ref o), some (vi B), some (vi m1), some (vi (B + L1)), some (vi (l2 + (-1))), some (.ref e), some (.ref t), some (vi xx), some (vi (c + 1)), some (vi ((dd + 1) + r398)), some (vi Gg), some (vi k1), some (vi r398)] dJ35_mergeLo_426 (by decide) rfl rfl ?_
          refine j_iload (y := yiJ35_mergeLo) dJ35_mergeLo_428 rfl ?_
          refine j_iload (y := yiJ35_mergeLo) dJ35_mergeLo_430 rfl ?_
          refine j_iadd (y := yiJ35_mergeLo) dJ35_mergeLo_432 ?_
          refine j_istore (y := yiJ35_mergeLo) [some (.ref o), some (vi B), some (vi m1), some (vi (B + L1)), some (vi (l2 + (-1))), some (.ref e), some (.ref t), some (vi xx), some (vi ((c + 1) + r398)), some (vi ((dd + 1) + r398)), some (vi Gg), some (vi k1), some (vi r398)] dJ35_mergeLo_433 (by decide) rfl rfl ?_
          refine j_iload (y := yiJ35_mergeLo) dJ35_mergeLo_435 rfl ?_
          refine j_iload (y := yiJ35_mergeLo) dJ35_mergeLo_437 rfl ?_
          refine j_isub (y := yiJ35_mergeLo) dJ35_mergeLo_439 ?_
          refine j_istore (y := yiJ35_mergeLo) [some (.ref o), some (vi B), some (vi m1), some (vi (B + L1)), some (vi ((l2 + (-1)) - r398)), some (.ref e), some (.ref t), some (vi xx), some (vi ((c + 1) + r398)), some (vi ((dd + 1) + r398)), some (vi Gg), some (vi k1), some (vi r398)] dJ35_mergeLo_440 (by decide) rfl rfl ?_
          refine j_iload (y := yiJ35_mergeLo) dJ35_mergeLo_442 rfl ?_
          refine j_if_ne (y := yiJ35_mergeLo) 450 dJ35_mergeLo_444 (by decide) ⟨by omega, by omega⟩ (fun c444 => ?_) (fun c444 => ?_)
          · exact J450 _ _ _ _ _ _ _ ho he htm fR (by omega) (by omega) (by first | exact w398' _ (by omega) (by omega) | (rw [show c + 1 = c + 1 + r398 by omega]; exact w398' _ (by omega) (by omega))) (by first | exact hM6 | exact hM5)
          · refine m_goto (y := yiJ35_mergeLo) 522 dJ35_mergeLo_447 (by decide) ?_
            refine mw_forget 11 ?_
            refine mw_forget 12 ?_
            exact J522 _ _ _ _ _ _ _ _ _ ho he htm fR (by omega) (by omega) (by omega) (by omega) (by first | exact hM7 | exact hM6 | exact hM5 | exact hM4a | exact hMa | exact hMb)
      · refine m_goto (y := yiJ35_mergeLo) 522 dJ35_mergeLo_380 (by decide) ?_
        refine mw_forget 11 ?_
        exact J522 _ _ _ _ _ _ _ _ _ ho he htm fR (by omega) (by omega) (by omega) (by omega) (by first | exact hM7 | exact hM6 | exact hM5 | exact hM4a | exact hMa | exact hMb)
    refine j_iload (y := yiJ35_mergeLo) dJ35_mergeLo_311 rfl ?_
    refine j_if_eq (y := yiJ35_mergeLo) 356 dJ35_mergeLo_313 (by decide) ⟨by omega, by omega⟩ (fun c313 => ?_) (fun c313 => ?_)
    · exact J356 _ _ _ _ _ _ _ ho he htm fR (by omega) (by omega) (by first | exact w306' _ (by omega) (by omega) | (rw [show x = x + r306 by omega]; exact w306' _ (by omega) (by omega))) (by first | exact hM4a | exact hM3)
    · refine m_aload (y := yiJ35_mergeLo) dJ35_mergeLo_316 rfl ?_
      refine j_iload (y := yiJ35_mergeLo) dJ35_mergeLo_318 rfl ?_
      refine m_aload (y := yiJ35_mergeLo) dJ35_mergeLo_320 rfl ?_
      refine j_iload (y := yiJ35_mergeLo) dJ35_mergeLo_322 rfl ?_
      refine j_iload (y := yiJ35_mergeLo) dJ35_mergeLo_324 rfl ?_
      refine h_copyq (y := yiJ35_mergeLo) dJ35_mergeLo_326 q2003 htm he ⟨by omega, by omega⟩ ⟨by omega, by omega, by omega⟩ (by omega) (by omega) (fun i a1 a2 x9 hx => by { rw [ht i (by omega) (by omega)] at hx; cases hx; exact (hrd _ fR (B + i) (by omega) (by omega)).iso }) ⟨Nat.le_of_ble_eq_true rfl, by omega⟩ (hp_put fun g5 g5H => ?_)
      have ho : g5.2.2 o = some (true, .inr (26, [(.ref e), (vi mg), (.ref t), (vi 0), (vi (tl : Int)), (vi ss), (.ref rb), (.ref rl)])) := (g5H.2.2.2 _ (by omega)).trans ho
      have htm : g5.2.2 t = some (true, oaE K tl (cpq f1 ft0 B 0 L1)) := (g5H.2.2.2 _ (by omega)).trans htm
      have hps : g5.2.2 (p0 c) = some (true, .inr (8, [(.ref ru), (vi cs), (vi ks)])) := (g5H.2.2.2 _ (by omega)).trans hps
      have fR : ∀ b, (b ≠ e ∧ b ≠ t ∧ b ≠ o) → g5.2.2 b = h.2.2 b := fun b hb => (g5H.2.2.2 b (by omega)).trans (fR b hb)
      have he : g5.2.2 e = some (true, oaE K cap (cpq (cpq f1 ft0 B 0 L1) f x ds r306)) := g5H.2.2.1
      have g51 := g5H.1
      have g52 := g5H.2.1
      have hM4a := hM3.t1 ⟨by omega, by omega⟩ (x' := x + r306) rfl (m := r306) ⟨by omega, by omega⟩ A1 (fun _ _ => rkc _ _ (B + (x + r306 - 1)) c (by omega) (by omega) (y306' _ (by omega) (by omega))) (MS.cp1 (ds := ds) ht (by omega) ⟨by omega, by omega, by omega⟩)
      refine j_iload (y := yiJ35_mergeLo) dJ35_mergeLo_329 rfl ?_
      refine j_iload (y := yiJ35_mergeLo) dJ35_mergeLo_331 rfl ?_
      refine j_iadd (y := yiJ35_mergeLo) dJ35_mergeLo_333 ?_
      refine j_istore (y := yiJ35_mergeLo) [some (.ref o), some (vi B), some (vi l1), some (vi (B + L1)), some (vi l2), some (.ref e), some (.ref t), some (vi x), some (vi c), some (vi (ds + r306)), some (vi Gg), some (vi r306), none] dJ35_mergeLo_334 (by decide) rfl rfl ?_
      refine j_iload (y := yiJ35_mergeLo) dJ35_mergeLo_336 rfl ?_
      refine j_iload (y := yiJ35_mergeLo) dJ35_mergeLo_338 rfl ?_
      refine j_iadd (y := yiJ35_mergeLo) dJ35_mergeLo_340 ?_
      refine j_istore (y := yiJ35_mergeLo) [some (.ref o), some (vi B), some (vi l1), some (vi (B + L1)), some (vi l2), some (.ref e), some (.ref t), some (vi (x + r306)), some (vi c), some (vi (ds + r306)), some (vi Gg), some (vi r306), none] dJ35_mergeLo_341 (by decide) rfl rfl ?_
      refine j_iload_n (y := yiJ35_mergeLo) dJ35_mergeLo_343 rfl ?_
      refine j_iload (y := yiJ35_mergeLo) dJ35_mergeLo_344 rfl ?_
      refine j_isub (y := yiJ35_mergeLo) dJ35_mergeLo_346 ?_
      refine j_istore_n (y := yiJ35_mergeLo) [some (.ref o), some (vi B), some (vi (l1 - r306)), some (vi (B + L1)), some (vi l2), some (.ref e), some (.ref t), some (vi (x + r306)), some (vi c), some (vi (ds + r306)), some (vi Gg), some (vi r306), none] dJ35_mergeLo_347 (by decide) rfl rfl ?_
      refine j_iload_n (y := yiJ35_mergeLo) dJ35_mergeLo_348 rfl ?_
      refine j_iconst (y := yiJ35_mergeLo) dJ35_mergeLo_349 ?_
      refine j_icmp_gt (y := yiJ35_mergeLo) 356 dJ35_mergeLo_350 (by decide) ⟨⟨by omega, by omega⟩, ⟨by omega, by omega⟩⟩ (fun c350 => ?_) (fun c350 => ?_)
      · exact J356 _ _ _ _ _ _ _ ho he htm fR (by omega) (by omega) (by first | exact w306' _ (by omega) (by omega) | (rw [show x = x + r306 by omega]; exact w306' _ (by omega) (by omega))) (by first | exact hM4a | exact hM3)
      · refine m_goto (y := yiJ35_mergeLo) 522 dJ35_mergeLo_353 (by decide) ?_
        refine mw_forget 11 ?_
        exact J522 _ _ _ _ _ _ _ _ _ ho he htm fR (by omega) (by omega) (by omega) (by omega) (by first | exact hM7 | exact hM6 | exact hM5 | exact hM4a | exact hMa | exact hMb)
  exact fun l1 l2 x c ds Gg f p gw ho he htm fR hz hw3 hG3 hM3 => L268 _ l1 l2 x c ds Gg f p gw rfl ho he htm fR hz hw3 hG3 hM3
theorem ml147 (K : KT) (d : Nat) (h : MH) (rk : Nat → Int) (o e t rb rl cap tl : Nat) (mg ss : Int) (a b B L1 L2 : Int) (f1 f0 ft0 : Int → Option Nat) (p0 : Int → Nat) (hd : 5 ≤ d) (hB : kV K 12 = vi 1) (ho : h.2.2 o = some (true, .inr (26, [.ref e, vi mg, .ref t, vi 0, vi (tl : Int), vi ss, .ref rb, .ref rl]))) (he : h.2.2 e = some (true, oaE K cap f1)) (htm : h.2.2 t = some (true, oaE K tl ft0)) (het : e ≠ t) (hA : ArS h rk e a b f1 f0 p0) (hb : (0 ≤ a ∧ a ≤ B ∧ B + L1 + L2 ≤ b) ∧ b ≤ (cap : Int) ∧ cap ≤ 60000) (hL : (0 < L1 ∧ 0 < L2) ∧ L1 ≤ (tl : Int) ∧ tl ≤ 60000) (hmg : 0 ≤ mg ∧ mg ≤ 1000000) (A1 : Asc rk p0 B (B + L1)) (A2 : Asc rk p0 (B + L1) (B + L1 + L2)) (hfi : rk (p0 (B + L1)) < rk (p0 B)) (hla : rk (p0 (B + L1 + L2 - 1)) < rk (p0 (B + L1 - 1))) (hI : Inj rk p0 a b) (Q : OT → MH → Prop) (r0 : Int) (J522 : (∀ (l1 l2 x c ds G : Int) (f : Int → Option Nat) (p : Int → Nat) (gj : MH), (gj.2.2 o = some (true, .inr (26, [(.ref e), (vi mg), (.ref t), (vi 0), (vi (tl : Int)), (vi ss), (.ref rb), (.ref rl)]))) → (gj.2.2 e = some (true, oaE K cap f)) → (gj.2.2 t = some (true, oaE K tl (cpq f1 ft0 B 0 L1))) → (∀ b, (b ≠ e ∧ b ≠ t ∧ b ≠ o) → gj.2.2 b = h.2.2 b) → (h.1 = gj.1 ∧ h.2.1 = gj.2.1) → (l1 = L1 - x ∧ l2 = B + L1 + L2 - c ∧ ds = x + c - L1 ∧ 1 ≤ l1 ∧ 0 ≤ l2 ∧ 0 ≤ x ∧ B + L1 ≤ c) → (l1 = 1 ∨ l2 = 0) → (-300000 ≤ G ∧ G ≤ mg + 3 * (L1 + L2)) → (MS rk a b B L1 L2 x (c - (B + L1)) f f0 p0 p h) → MW K yiJ35_mergeLo d gj 522 [some (.ref o), some (vi B), some (vi l1), some (vi (B + L1)), some (vi l2), some (.ref e), some (.ref t), some (vi x), some (vi c), some (vi ds), some (vi G), none, none] [] Q)) (J268 : (∀ (l1 l2 x c ds Gg : Int) (f : Int → Option Nat) (p : Int → Nat) (gw : MH), (gw.2.2 o = some (true, .inr (26, [(.ref e), (vi mg), (.ref t), (vi 0), (vi (tl : Int)), (vi ss), (.ref rb), (.ref rl)]))) → (gw.2.2 e = some (true, oaE K cap f)) → (gw.2.2 t = some (true, oaE K tl (cpq f1 ft0 B 0 L1))) → (∀ b, (b ≠ e ∧ b ≠ t ∧ b ≠ o) → gw.2.2 b = h.2.2 b) → (h.1 = gw.1 ∧ h.2.1 = gw.2.1) → (l1 = L1 - x ∧ l2 = B + L1 + L2 - c ∧ ds = x + c - L1 ∧ 2 ≤ l1 ∧ 1 ≤ l2 ∧ 0 ≤ x ∧ B + L1 + 1 ≤ c ∧ l1 + l2 < r0) → (-(x + c - B - L1) ≤ Gg ∧ Gg ≤ mg + 2 * (x + c - B - L1)) → (MS rk a b B L1 L2 x (c - (B + L1)) f f0 p0 p h) → MW K yiJ35_mergeLo d gw 268 [some (.ref o), some (vi B), some (vi l1), some (vi (B + L1)), some (vi l2), some (.ref e), some (.ref t), some (vi x), some (vi c), some (vi ds), some (vi Gg), none, none] [] Q)) : (∀ (v1 v2 xv cv dv k1 k2 G : Int) (fv : Int → Option Nat) (pv : Int → Nat) (gv : MH), (gv.2.2 o = some (true, .inr (26, [(.ref e), (vi mg), (.ref t), (vi 0), (vi (tl : Int)), (vi ss), (.ref rb), (.ref rl)]))) → (gv.2.2 e = some (true, oaE K cap fv)) → (gv.2.2 t = some (true, oaE K tl (cpq f1 ft0 B 0 L1))) → (∀ b, (b ≠ e ∧ b ≠ t ∧ b ≠ o) → gv.2.2 b = h.2.2 b) → (h.1 = gv.1 ∧ h.2.1 = gv.2.1) → (v1 = L1 - xv ∧ v2 = B + L1 + L2 - cv ∧ dv = xv + cv - L1 ∧ 2 ≤ v1 ∧ 1 ≤ v2 ∧ 0 ≤ xv ∧ B + L1 + 1 ≤ cv ∧ v1 + v2 ≤ r0) → (0 ≤ k1 ∧ k1 ≤ xv ∧ 0 ≤ k2 ∧ k2 ≤ cv - B - L1) → (0 ≤ G ∧ G ≤ mg + 2 * (xv + cv - B - L1)) → (MS rk a b B L1 L2 xv (cv - (B + L1)) fv f0 p0 pv h) → MW K yiJ35_mergeLo d gv 147 [some (.ref o), some (vi B), some (vi v1), some (vi (B + L1)), some (vi v2), some (.ref e), some (.ref t), some (vi xv), some (vi cv), some (vi dv), some (vi G), some (vi k1), some (vi k2)] [] Q) := by
  have hoe : o ≠ e := ne_oa ho he
  have hot : o ≠ t := ne_oa ho htm
  have hin : ∀ i j, a ≤ i → i < b → a ≤ j → j < b → i ≠ j → rk (p0 i) ≠ rk (p0 j) := fun i j i1 i2 j1 j2 hne => by
    by_cases e9 : i < j
    · exact hI i j i1 e9 j2
    · exact fun e8 => hI j i j1 (by omega) i2 e8.symm
  have hpe : ∀ i, a ≤ i → i < b → p0 i ≠ e ∧ p0 i ≠ t ∧ p0 i ≠ o := fun i i1 i2 => by
    obtain ⟨r1, r2, r3, r4⟩ := (hA.1 i i1 i2).2.cell
    exact ⟨ne_oa r4 he, ne_oa r4 htm, ne_oo r4 ho (by decide)⟩
  have hup : ∀ g' : MH, (∀ q, q ≠ e ∧ q ≠ t ∧ q ≠ o → g'.2.2 q = h.2.2 q) → ∀ b w ci fs, ci ≠ 26 → h.2.2 b = some (w, .inr (ci, fs)) → g'.2.2 b = h.2.2 b := fun g' q b w ci fs h26 hb9 => q b ⟨ne_oa hb9 he, ne_oa hb9 htm, ne_oo hb9 ho h26⟩
  have hrd : ∀ g' : MH, (∀ q, q ≠ e ∧ q ≠ t ∧ q ≠ o → g'.2.2 q = h.2.2 q) → ∀ i, a ≤ i → i < b → RdS g' rk (p0 i) := fun g' q i i1 i2 => (hA.1 i i1 i2).2.up (hup g' q)
  have rkc : ∀ i j i' j' : Int, i = i' → j = j' → rk (p0 i') < rk (p0 j') → rk (p0 i) < rk (p0 j) := fun i j i' j' e1 e2 e3 => by rw [e1, e2]; exact e3
  have hlt : ∀ c i : Int, (B + L1 ≤ c ∧ c < B + L1 + L2) → i = L1 - 1 → ∀ {x y : Int}, (x = y → rk (p0 (B + i)) < rk (p0 c)) → x ≤ y → x < y := fun c i hc hi x y hx hxy => by
    by_cases e9 : x = y
    · have u := hx e9
      rw [hi, show B + (L1 - 1) = B + L1 - 1 by omega] at u
      by_cases e8 : c = B + L1 + L2 - 1
      · rw [e8] at u; omega
      · have := A2 c (B + L1 + L2 - 1) hc.1 (by omega) (by omega); omega
    · omega
  have ht : ∀ i, 0 ≤ i → i < L1 → cpq f1 ft0 B 0 L1 i = some (p0 (B + i)) := fun i i1 i2 => by { unfold cpq; rw [if_pos (by omega), Int.sub_zero]; exact (hA.1 (B + i) (by omega) (by omega)).1 }
  have L147 : ∀ (N : Nat) (v1 v2 xv cv dv k1 k2 G : Int) (fv : Int → Option Nat) (pv : Int → Nat) (gv : MH), (v1 + v2).toNat = N → (gv.2.2 o = some (true, .inr (26, [(.ref e), (vi mg), (.ref t), (vi 0), (vi (tl : Int)), (vi ss), (.ref rb), (.ref rl)]))) → (gv.2.2 e = some (true, oaE K cap fv)) → (gv.2.2 t = some (true, oaE K tl (cpq f1 ft0 B 0 L1))) → (∀ b, (b ≠ e ∧ b ≠ t ∧ b ≠ o) → gv.2.2 b = h.2.2 b) → (h.1 = gv.1 ∧ h.2.1 = gv.2.1) → (v1 = L1 - xv ∧ v2 = B + L1 + L2 - cv ∧ dv = xv + cv - L1 ∧ 2 ≤ v1 ∧ 1 ≤ v2 ∧ 0 ≤ xv ∧ B + L1 + 1 ≤ cv ∧ v1 + v2 ≤ r0) → (0 ≤ k1 ∧ k1 ≤ xv ∧ 0 ≤ k2 ∧ k2 ≤ cv - B - L1) → (0 ≤ G ∧ G ≤ mg + 2 * (xv + cv - B - L1)) → (MS rk a b B L1 L2 xv (cv - (B + L1)) fv f0 p0 pv h) → MW K yiJ35_mergeLo d gv 147 [some (.ref o), some (vi B), some (vi v1), some (vi (B + L1)), some (vi v2), some (.ref e), some (.ref t), some (vi xv), some (vi cv), some (vi dv), some (vi G), some (vi k1), some (vi k2)] [] Q := by
    intro N
    induction N using Nat.strongRecOn with
    | _ N ih147 =>
    intro v1 v2 xv cv dv k1 k2 G fv pv gv hN147 ho he htm fR hz hw2 hk hG1 hMv
    refine mw_wf (fun hwf147 => ?_)
    have l_ho147 := hwf147 _ _ ho
    have l_he147 := hwf147 _ _ he
    have l_htm147 := hwf147 _ _ htm
    refine m_gets (y := yiJ35_mergeLo) (ref := "") 12 rfl dJ35_mergeLo_147 q1989 hB ?_
    refine j_if_ne (y := yiJ35_mergeLo) 171 dJ35_mergeLo_150 (by decide) ⟨by decide, by decide⟩ (fun _ => ?_) (fun c => absurd c (by decide))
    have J258 : ∀ (l1 l2 x c ds q1 q2 : Int) (f : Int → Option Nat) (p : Int → Nat) (gk : MH), (gk.2.2 o = some (true, .inr (26, [(.ref e), (vi mg), (.ref t), (vi 0), (vi (tl : Int)), (vi ss), (.ref rb), (.ref rl)]))) → (gk.2.2 e = some (true, oaE K cap f)) → (gk.2.2 t = some (true, oaE K tl (cpq f1 ft0 B 0 L1))) → (∀ b, (b ≠ e ∧ b ≠ t ∧ b ≠ o) → gk.2.2 b = h.2.2 b) → (h.1 = gk.1 ∧ h.2.1 = gk.2.1) → (l1 = L1 - x ∧ l2 = B + L1 + L2 - c ∧ ds = x + c - L1 ∧ 2 ≤ l1 ∧ 1 ≤ l2 ∧ 0 ≤ x ∧ B + L1 + 1 ≤ c ∧ l1 + l2 + 1 = v1 + v2) → ((q1 = 0 ∨ q2 = 0) ∧ 0 ≤ q1 ∧ q1 ≤ x ∧ 0 ≤ q2 ∧ q2 ≤ c - B - L1) → (MS rk a b B L1 L2 x (c - (B + L1)) f f0 p0 p h) → MW K yiJ35_mergeLo d gk 258 [some (.ref o), some (vi B), some (vi l1), some (vi (B + L1)), some (vi l2), some (.ref e), some (.ref t), some (vi x), some (vi c), some (vi ds), some (vi G), some (vi q1), some (vi q2)] [] Q := by
      intro l1 l2 x c ds q1 q2 f p gk ho he htm fR hz hw2' hq2 hM2
      refine mw_wf (fun hwf258 => ?_)
      have l_ho258 := hwf258 _ _ ho
      have l_he258 := hwf258 _ _ he
      have l_htm258 := hwf258 _ _ htm
      refine j_iload (y := yiJ35_mergeLo) dJ35_mergeLo_258 rfl ?_
      refine j_iload (y := yiJ35_mergeLo) dJ35_mergeLo_260 rfl ?_
      refine j_iorx (y := yiJ35_mergeLo) dJ35_mergeLo_262 (by omega) ?_
      refine j_iload (y := yiJ35_mergeLo) dJ35_mergeLo_263 rfl ?_
      refine j_icmp_lt (y := yiJ35_mergeLo) 147 dJ35_mergeLo_265 (by decide) ⟨⟨by omega, by omega⟩, ⟨by omega, by omega⟩⟩ (fun c265 => ?_) (fun c265 => ?_)
      · exact ih147 _ (by omega) _ _ _ _ _ _ _ _ _ _ _ rfl ho he htm fR (by omega) (by omega) (by omega) (by omega) hM2
      · refine mw_forget 11 ?_
        refine mw_forget 12 ?_
        exact J268 _ _ _ _ _ _ _ _ _ ho he htm fR (by omega) (by omega) (by omega) hM2
    refine m_aload (y := yiJ35_mergeLo) dJ35_mergeLo_171 rfl ?_
    refine j_iload (y := yiJ35_mergeLo) dJ35_mergeLo_173 rfl ?_
    refine h_aald5 (y := yiJ35_mergeLo) dJ35_mergeLo_175 he ⟨by omega, by omega⟩ (by omega) ?_
    rw [(hMv.e2 ⟨by omega, by omega⟩ (i := cv) ⟨by omega, by omega⟩)]
    show MW K yiJ35_mergeLo d gv 176 [some (.ref o), some (vi B), some (vi v1), some (vi (B + L1)), some (vi v2), some (.ref e), some (.ref t), some (vi xv), some (vi cv), some (vi dv), some (vi G), some (vi k1), some (vi k2)] [(.ref (p0 cv))] Q
    obtain ⟨ru, cs, ks, hps⟩ := (hrd gv fR cv (by omega) (by omega)).cell
    have ne176 := hpe cv (by omega) (by omega)
    have hps : gv.2.2 (p0 cv) = some (true, .inr (8, [(.ref ru), (vi cs), (vi ks)])) := hps
    have l_hps := hwf147 _ _ hps
    refine m_cast (y := yiJ35_mergeLo) dJ35_mergeLo_176 hps rfl q1994 (Or.inr q1534) ?_
    refine m_aload (y := yiJ35_mergeLo) dJ35_mergeLo_179 rfl ?_
    refine j_iload (y := yiJ35_mergeLo) dJ35_mergeLo_181 rfl ?_
    refine h_aald5 (y := yiJ35_mergeLo) dJ35_mergeLo_183 htm ⟨by omega, by omega⟩ (by omega) ?_
    rw [(ht xv (by omega) (by omega))]
    show MW K yiJ35_mergeLo d gv 184 [some (.ref o), some (vi B), some (vi v1), some (vi (B + L1)), some (vi v2), some (.ref e), some (.ref t), some (vi xv), some (vi cv), some (vi dv), some (vi G), some (vi k1), some (vi k2)] [(.ref (p0 (B + xv))), (.ref (p0 cv))] Q
    refine m_invF (y := yiJ35_mergeLo) (rB := (RX9, TX9, 3)) [(.ref (p0 (B + xv)))] dJ35_mergeLo_184 hps rfl q1996 q1517 q1516 rfl q1535 q1537 q1538 q1536 q1534 q168 q1539 ⟨by decide, by decide⟩ (by show _ = some 1; decide +kernel) (c_cmp K 1 gv rk (p0 cv) (p0 (B + xv)) (by omega) (hrd _ fR _ (by omega) (by omega)) (hrd _ fR _ (by omega) (by omega))) pdX9_compareTo ⟨Nat.le_of_ble_eq_true rfl, by decide, by omega⟩ (kk_z fun r184 h184 q184 => ?_) kx_z
    obtain ⟨rfl, e184⟩ := q184
    have b184 := e184.2.2
    have n184 := hin cv (B + xv) (by omega) (by omega) (by omega) (by omega) (by omega)
    refine j_if_ge (y := yiJ35_mergeLo) 225 dJ35_mergeLo_189 (by decide) ⟨by omega, by omega⟩ (fun c189 => ?_) (fun c189 => ?_)
    · refine m_aload (y := yiJ35_mergeLo) dJ35_mergeLo_225 rfl ?_
      refine j_iload (y := yiJ35_mergeLo) dJ35_mergeLo_227 rfl ?_
      refine j_iinc (y := yiJ35_mergeLo) [some (.ref o), some (vi B), some (vi v1), some (vi (B + L1)), some (vi v2), some (.ref e), some (.ref t), some (vi xv), some (vi cv), some (vi (dv + 1)), some (vi G), some (vi k1), some (vi k2)] dJ35_mergeLo_229 rfl (by decide) rfl rfl ?_
      refine m_aload (y := yiJ35_mergeLo) dJ35_mergeLo_232 rfl ?_
      refine j_iload (y := yiJ35_mergeLo) dJ35_mergeLo_234 rfl ?_
      refine j_iinc (y := yiJ35_mergeLo) [some (.ref o), some (vi B), some (vi v1), some (vi (B + L1)), some (vi v2), some (.ref e), some (.ref t), some (vi (xv + 1)), some (vi cv), some (vi (dv + 1)), some (vi G), some (vi k1), some (vi k2)] dJ35_mergeLo_236 rfl (by decide) rfl rfl ?_
      refine h_aald5 (y := yiJ35_mergeLo) dJ35_mergeLo_239 htm ⟨by omega, by omega⟩ (by omega) ?_
      rw [(ht xv (by omega) (by omega))]
      show MW K yiJ35_mergeLo d gv 240 [some (.ref o), some (vi B), some (vi v1), some (vi (B + L1)), some (vi v2), some (.ref e), some (.ref t), some (vi (xv + 1)), some (vi cv), some (vi (dv + 1)), some (vi G), some (vi k1), some (vi k2)] [(.ref (p0 (B + xv))), (vi dv), (.ref e)] Q
      have i240 : IsO gv (p0 (B + xv)) := (hrd gv fR _ (by omega) (by omega)).iso
      refine h_aast (y := yiJ35_mergeLo) dJ35_mergeLo_240 he (by assumption) ⟨by omega, by omega⟩ (by omega) (hp_put fun g1 g1H => ?_)
      have ho : g1.2.2 o = some (true, .inr (26, [(.ref e), (vi mg), (.ref t), (vi 0), (vi (tl : Int)), (vi ss), (.ref rb), (.ref rl)])) := (g1H.2.2.2 _ (by omega)).trans ho
      have htm : g1.2.2 t = some (true, oaE K tl (cpq f1 ft0 B 0 L1)) := (g1H.2.2.2 _ (by omega)).trans htm
      have hps : g1.2.2 (p0 cv) = some (true, .inr (8, [(.ref ru), (vi cs), (vi ks)])) := (g1H.2.2.2 _ (by omega)).trans hps
      have fR : ∀ b, (b ≠ e ∧ b ≠ t ∧ b ≠ o) → g1.2.2 b = h.2.2 b := fun b hb => (g1H.2.2.2 b (by omega)).trans (fR b hb)
      have he : g1.2.2 e = some (true, oaE K cap (upq fv dv (some (p0 (B + xv))))) := g1H.2.2.1
      have g11 := g1H.1
      have g12 := g1H.2.1
      have hMb := hMv.t1 ⟨by omega, by omega⟩ (x' := xv + 1) (by omega) (m := 1) ⟨by omega, by omega⟩ A1 (fun _ _ => rkc _ _ (B + xv) cv (by omega) (by omega) (by have := e184.1; omega)) (MS.up1 (ds := dv) (by omega))
      refine j_iinc (y := yiJ35_mergeLo) [some (.ref o), some (vi B), some (vi v1), some (vi (B + L1)), some (vi v2), some (.ref e), some (.ref t), some (vi (xv + 1)), some (vi cv), some (vi (dv + 1)), some (vi G), some (vi (k1 + 1)), some (vi k2)] dJ35_mergeLo_241 rfl (by decide) rfl rfl ?_
      refine j_iconst (y := yiJ35_mergeLo) dJ35_mergeLo_244 ?_
      refine j_istore (y := yiJ35_mergeLo) [some (.ref o), some (vi B), some (vi v1), some (vi (B + L1)), some (vi v2), some (.ref e), some (.ref t), some (vi (xv + 1)), some (vi cv), some (vi (dv + 1)), some (vi G), some (vi (k1 + 1)), some (vi 0)] dJ35_mergeLo_245 (by decide) rfl rfl ?_
      refine j_iinc (y := yiJ35_mergeLo) [some (.ref o), some (vi B), some (vi (v1 + (-1))), some (vi (B + L1)), some (vi v2), some (.ref e), some (.ref t), some (vi (xv + 1)), some (vi cv), some (vi (dv + 1)), some (vi G), some (vi (k1 + 1)), some (vi 0)] dJ35_mergeLo_247 rfl (by decide) rfl rfl ?_
      refine j_iload_n (y := yiJ35_mergeLo) dJ35_mergeLo_250 rfl ?_
      refine j_iconst (y := yiJ35_mergeLo) dJ35_mergeLo_251 ?_
      refine j_icmp_ne (y := yiJ35_mergeLo) 258 dJ35_mergeLo_252 (by decide) ⟨⟨by omega, by omega⟩, ⟨by omega, by omega⟩⟩ (fun c252 => ?_) (fun c252 => ?_)
      · exact J258 _ _ _ _ _ _ _ _ _ _ ho he htm fR (by omega) (by omega) (by omega) (by first | exact hMa | exact hMb)
      · refine m_goto (y := yiJ35_mergeLo) 522 dJ35_mergeLo_255 (by decide) ?_
        refine mw_forget 11 ?_
        refine mw_forget 12 ?_
        exact J522 _ _ _ _ _ _ _ _ _ ho he htm fR (by omega) (by omega) (by omega) (by omega) (by first | exact hM7 | exact hM6 | exact hM5 | exact hM4a | exact hMa | exact hMb)
    · refine m_aload (y := yiJ35_mergeLo) dJ35_mergeLo_192 rfl ?_
      refine j_iload (y := yiJ35_mergeLo) dJ35_mergeLo_194 rfl ?_
      refine j_iinc (y := yiJ35_mergeLo) [some (.ref o), some (vi B), some (vi v1), some (vi (B + L1)), some (vi v2), some (.ref e), some (.ref t), some (vi xv), some (vi cv), some (vi (dv + 1)), some (vi G), some (vi k1), some (vi k2)] dJ35_mergeLo_196 rfl (by decide) rfl rfl ?_
      refine m_aload (y := yiJ35_mergeLo) dJ35_mergeLo_199 rfl ?_
      refine j_iload (y := yiJ35_mergeLo) dJ35_mergeLo_201 rfl ?_
      refine j_iinc (y := yiJ35_mergeLo) [some (.ref o), some (vi B), some (vi v1), some (vi (B + L1)), some (vi v2), some (.ref e), some (.ref t), some (vi xv), some (vi (cv + 1)), some (vi (dv + 1)), some (vi G), some (vi k1), some (vi k2)] dJ35_mergeLo_203 rfl (by decide) rfl rfl ?_
      refine h_aald5 (y := yiJ35_mergeLo) dJ35_mergeLo_206 he ⟨by omega, by omega⟩ (by omega) ?_
      rw [(hMv.e2 ⟨by omega, by omega⟩ (i := cv) ⟨by omega, by omega⟩)]
      show MW K yiJ35_mergeLo d gv 207 [some (.ref o), some (vi B), some (vi v1), some (vi (B + L1)), some (vi v2), some (.ref e), some (.ref t), some (vi xv), some (vi (cv + 1)), some (vi (dv + 1)), some (vi G), some (vi k1), some (vi k2)] [(.ref (p0 cv)), (vi dv), (.ref e)] Q
      have i207 : IsO gv (p0 cv) := (hrd gv fR _ (by omega) (by omega)).iso
      refine h_aast (y := yiJ35_mergeLo) dJ35_mergeLo_207 he ⟨_, _, _, _, hps, rfl, kObj 8 _ rfl⟩ ⟨by omega, by omega⟩ (by omega) (hp_put fun g2 g2H => ?_)
      have ho : g2.2.2 o = some (true, .inr (26, [(.ref e), (vi mg), (.ref t), (vi 0), (vi (tl : Int)), (vi ss), (.ref rb), (.ref rl)])) := (g2H.2.2.2 _ (by omega)).trans ho
      have htm : g2.2.2 t = some (true, oaE K tl (cpq f1 ft0 B 0 L1)) := (g2H.2.2.2 _ (by omega)).trans htm
      have hps : g2.2.2 (p0 cv) = some (true, .inr (8, [(.ref ru), (vi cs), (vi ks)])) := (g2H.2.2.2 _ (by omega)).trans hps
      have fR : ∀ b, (b ≠ e ∧ b ≠ t ∧ b ≠ o) → g2.2.2 b = h.2.2 b := fun b hb => (g2H.2.2.2 b (by omega)).trans (fR b hb)
      have he : g2.2.2 e = some (true, oaE K cap (upq fv dv (some (p0 cv)))) := g2H.2.2.1
      have g21 := g2H.1
      have g22 := g2H.2.1
      have hMa := hMv.t2 ⟨by omega, by omega⟩ (y' := cv + 1 - (B + L1)) (by omega) (m := 1) ⟨by omega, by omega⟩ A2 (fun _ _ => rkc _ _ cv (B + xv) (by omega) (by omega) (by have := e184.1; omega)) (MS.up2 (ds := dv) (c := cv) (by omega) (by omega))
      refine j_iinc (y := yiJ35_mergeLo) [some (.ref o), some (vi B), some (vi v1), some (vi (B + L1)), some (vi v2), some (.ref e), some (.ref t), some (vi xv), some (vi (cv + 1)), some (vi (dv + 1)), some (vi G), some (vi k1), some (vi (k2 + 1))] dJ35_mergeLo_208 rfl (by decide) rfl rfl ?_
      refine j_iconst (y := yiJ35_mergeLo) dJ35_mergeLo_211 ?_
      refine j_istore (y := yiJ35_mergeLo) [some (.ref o), some (vi B), some (vi v1), some (vi (B + L1)), some (vi v2), some (.ref e), some (.ref t), some (vi xv), some (vi (cv + 1)), some (vi (dv + 1)), some (vi G), some (vi 0), some (vi (k2 + 1))] dJ35_mergeLo_212 (by decide) rfl rfl ?_
      refine j_iinc (y := yiJ35_mergeLo) [some (.ref o), some (vi B), some (vi v1), some (vi (B + L1)), some (vi (v2 + (-1))), some (.ref e), some (.ref t), some (vi xv), some (vi (cv + 1)), some (vi (dv + 1)), some (vi G), some (vi 0), some (vi (k2 + 1))] dJ35_mergeLo_214 rfl (by decide) rfl rfl ?_
      refine j_iload (y := yiJ35_mergeLo) dJ35_mergeLo_217 rfl ?_
      refine j_if_ne (y := yiJ35_mergeLo) 258 dJ35_mergeLo_219 (by decide) ⟨by omega, by omega⟩ (fun c219 => ?_) (fun c219 => ?_)
      · exact J258 _ _ _ _ _ _ _ _ _ _ ho he htm fR (by omega) (by omega) (by omega) (by first | exact hMa | exact hMb)
      · refine m_goto (y := yiJ35_mergeLo) 522 dJ35_mergeLo_222 (by decide) ?_
        refine mw_forget 11 ?_
        refine mw_forget 12 ?_
        exact J522 _ _ _ _ _ _ _ _ _ ho he htm fR (by omega) (by omega) (by omega) (by omega) (by first | exact hM7 | exact hM6 | exact hM5 | exact hM4a | exact hMa | exact hMb)
  exact fun v1 v2 xv cv dv k1 k2 G fv pv gv ho he htm fR hz hw2 hk hG1 hMv => L147 _ v1 v2 xv cv dv k1 k2 G fv pv gv rfl ho he htm fR hz hw2 hk hG1 hMv
theorem ml141 (K : KT) (d : Nat) (h : MH) (rk : Nat → Int) (o e t rb rl cap tl : Nat) (mg ss : Int) (a b B L1 L2 : Int) (f1 f0 ft0 : Int → Option Nat) (p0 : Int → Nat) (hd : 5 ≤ d) (hB : kV K 12 = vi 1) (ho : h.2.2 o = some (true, .inr (26, [.ref e, vi mg, .ref t, vi 0, vi (tl : Int), vi ss, .ref rb, .ref rl]))) (he : h.2.2 e = some (true, oaE K cap f1)) (htm : h.2.2 t = some (true, oaE K tl ft0)) (het : e ≠ t) (hA : ArS h rk e a b f1 f0 p0) (hb : (0 ≤ a ∧ a ≤ B ∧ B + L1 + L2 ≤ b) ∧ b ≤ (cap : Int) ∧ cap ≤ 60000) (hL : (0 < L1 ∧ 0 < L2) ∧ L1 ≤ (tl : Int) ∧ tl ≤ 60000) (hmg : 0 ≤ mg ∧ mg ≤ 1000000) (A1 : Asc rk p0 B (B + L1)) (A2 : Asc rk p0 (B + L1) (B + L1 + L2)) (hfi : rk (p0 (B + L1)) < rk (p0 B)) (hla : rk (p0 (B + L1 + L2 - 1)) < rk (p0 (B + L1 - 1))) (hI : Inj rk p0 a b) (Q : OT → MH → Prop) (J522 : (∀ (l1 l2 x c ds G : Int) (f : Int → Option Nat) (p : Int → Nat) (gj : MH), (gj.2.2 o = some (true, .inr (26, [(.ref e), (vi mg), (.ref t), (vi 0), (vi (tl : Int)), (vi ss), (.ref rb), (.ref rl)]))) → (gj.2.2 e = some (true, oaE K cap f)) → (gj.2.2 t = some (true, oaE K tl (cpq f1 ft0 B 0 L1))) → (∀ b, (b ≠ e ∧ b ≠ t ∧ b ≠ o) → gj.2.2 b = h.2.2 b) → (h.1 = gj.1 ∧ h.2.1 = gj.2.1) → (l1 = L1 - x ∧ l2 = B + L1 + L2 - c ∧ ds = x + c - L1 ∧ 1 ≤ l1 ∧ 0 ≤ l2 ∧ 0 ≤ x ∧ B + L1 ≤ c) → (l1 = 1 ∨ l2 = 0) → (-300000 ≤ G ∧ G ≤ mg + 3 * (L1 + L2)) → (MS rk a b B L1 L2 x (c - (B + L1)) f f0 p0 p h) → MW K yiJ35_mergeLo d gj 522 [some (.ref o), some (vi B), some (vi l1), some (vi (B + L1)), some (vi l2), some (.ref e), some (.ref t), some (vi x), some (vi c), some (vi ds), some (vi G), none, none] [] Q)) : (∀ (u1 u2 xu cu du G : Int) (fu : Int → Option Nat) (pu : Int → Nat) (gu : MH), (gu.2.2 o = some (true, .inr (26, [(.ref e), (vi mg), (.ref t), (vi 0), (vi (tl : Int)), (vi ss), (.ref rb), (.ref rl)]))) → (gu.2.2 e = some (true, oaE K cap fu)) → (gu.2.2 t = some (true, oaE K tl (cpq f1 ft0 B 0 L1))) → (∀ b, (b ≠ e ∧ b ≠ t ∧ b ≠ o) → gu.2.2 b = h.2.2 b) → (h.1 = gu.1 ∧ h.2.1 = gu.2.1) → (u1 = L1 - xu ∧ u2 = B + L1 + L2 - cu ∧ du = xu + cu - L1 ∧ 2 ≤ u1 ∧ 1 ≤ u2 ∧ 0 ≤ xu ∧ B + L1 + 1 ≤ cu) → (0 ≤ G ∧ G ≤ mg + 2 * (xu + cu - B - L1)) → (MS rk a b B L1 L2 xu (cu - (B + L1)) fu f0 p0 pu h) → MW K yiJ35_mergeLo d gu 141 [some (.ref o), some (vi B), some (vi u1), some (vi (B + L1)), some (vi u2), some (.ref e), some (.ref t), some (vi xu), some (vi cu), some (vi du), some (vi G), none, none] [] Q) := by
  have M268 := ml268 K d h rk o e t rb rl cap tl mg ss a b B L1 L2 f1 f0 ft0 p0 hd hB ho he htm het hA hb hL hmg A1 A2 hfi hla hI Q
  have M147 := ml147 K d h rk o e t rb rl cap tl mg ss a b B L1 L2 f1 f0 ft0 p0 hd hB ho he htm het hA hb hL hmg A1 A2 hfi hla hI Q
  have hoe : o ≠ e := ne_oa ho he
  have hot : o ≠ t := ne_oa ho htm
  have hin : ∀ i j, a ≤ i → i < b → a ≤ j → j < b → i ≠ j → rk (p0 i) ≠ rk (p0 j) := fun i j i1 i2 j1 j2 hne => by
    by_cases e9 : i < j
    · exact hI i j i1 e9 j2
    · exact fun e8 => hI j i j1 (by omega) i2 e8.symm
  have hpe : ∀ i, a ≤ i → i < b → p0 i ≠ e ∧ p0 i ≠ t ∧ p0 i ≠ o := fun i i1 i2 => by
    obtain ⟨r1, r2, r3, r4⟩ := (hA.1 i i1 i2).2.cell
    exact ⟨ne_oa r4 he, ne_oa r4 htm, ne_oo r4 ho (by decide)⟩
  have hup : ∀ g' : MH, (∀ q, q ≠ e ∧ q ≠ t ∧ q ≠ o → g'.2.2 q = h.2.2 q) → ∀ b w ci fs, ci ≠ 26 → h.2.2 b = some (w, .inr (ci, fs)) → g'.2.2 b = h.2.2 b := fun g' q b w ci fs h26 hb9 => q b ⟨ne_oa hb9 he, ne_oa hb9 htm, ne_oo hb9 ho h26⟩
  have hrd : ∀ g' : MH, (∀ q, q ≠ e ∧ q ≠ t ∧ q ≠ o → g'.2.2 q = h.2.2 q) → ∀ i, a ≤ i → i < b → RdS g' rk (p0 i) := fun g' q i i1 i2 => (hA.1 i i1 i2).2.up (hup g' q)
  have rkc : ∀ i j i' j' : Int, i = i' → j = j' → rk (p0 i') < rk (p0 j') → rk (p0 i) < rk (p0 j) := fun i j i' j' e1 e2 e3 => by rw [e1, e2]; exact e3
  have hlt : ∀ c i : Int, (B + L1 ≤ c ∧ c < B + L1 + L2) → i = L1 - 1 → ∀ {x y : Int}, (x = y → rk (p0 (B + i)) < rk (p0 c)) → x ≤ y → x < y := fun c i hc hi x y hx hxy => by
    by_cases e9 : x = y
    · have u := hx e9
      rw [hi, show B + (L1 - 1) = B + L1 - 1 by omega] at u
      by_cases e8 : c = B + L1 + L2 - 1
      · rw [e8] at u; omega
      · have := A2 c (B + L1 + L2 - 1) hc.1 (by omega) (by omega); omega
    · omega
  have ht : ∀ i, 0 ≤ i → i < L1 → cpq f1 ft0 B 0 L1 i = some (p0 (B + i)) := fun i i1 i2 => by { unfold cpq; rw [if_pos (by omega), Int.sub_zero]; exact (hA.1 (B + i) (by omega) (by omega)).1 }
  have L141 : ∀ (N : Nat) (u1 u2 xu cu du G : Int) (fu : Int → Option Nat) (pu : Int → Nat) (gu : MH), (u1 + u2).toNat = N → (gu.2.2 o = some (true, .inr (26, [(.ref e), (vi mg), (.ref t), (vi 0), (vi (tl : Int)), (vi ss), (.ref rb), (.ref rl)]))) → (gu.2.2 e = some (true, oaE K cap fu)) → (gu.2.2 t = some (true, oaE K tl (cpq f1 ft0 B 0 L1))) → (∀ b, (b ≠ e ∧ b ≠ t ∧ b ≠ o) → gu.2.2 b = h.2.2 b) → (h.1 = gu.1 ∧ h.2.1 = gu.2.1) → (u1 = L1 - xu ∧ u2 = B + L1 + L2 - cu ∧ du = xu + cu - L1 ∧ 2 ≤ u1 ∧ 1 ≤ u2 ∧ 0 ≤ xu ∧ B + L1 + 1 ≤ cu) → (0 ≤ G ∧ G ≤ mg + 2 * (xu + cu - B - L1)) → (MS rk a b B L1 L2 xu (cu - (B + L1)) fu f0 p0 pu h) → MW K yiJ35_mergeLo d gu 141 [some (.ref o), some (vi B), some (vi u1), some (vi (B + L1)), some (vi u2), some (.ref e), some (.ref t), some (vi xu), some (vi cu), some (vi du), some (vi G), none, none] [] Q := by
    intro N
    induction N using Nat.strongRecOn with
    | _ N ih141 =>
    intro u1 u2 xu cu du G fu pu gu hN141 ho he htm fR hz hw1 hG1 hMu
    refine mw_wf (fun hwf141 => ?_)
    have l_ho141 := hwf141 _ _ ho
    have l_he141 := hwf141 _ _ he
    have l_htm141 := hwf141 _ _ htm
    have J268 := M268 (u1 + u2) J522 (fun a1 a2 a3 a4 a5 a6 a7 a8 a9 b1 b2 b3 b4 b5 b6 b7 b8 b9 => ih141 _ (by omega) a1 a2 a3 a4 a5 a6 a7 a8 a9 rfl b1 b2 b3 b4 b5 b6 b7 b8)
    have J147 := M147 (u1 + u2) J522 J268
    refine j_iconst (y := yiJ35_mergeLo) dJ35_mergeLo_141 ?_
    refine j_istore (y := yiJ35_mergeLo) [some (.ref o), some (vi B), some (vi u1), some (vi (B + L1)), some (vi u2), some (.ref e), some (.ref t), some (vi xu), some (vi cu), some (vi du), some (vi G), some (vi 0), none] dJ35_mergeLo_142 (by decide) rfl rfl ?_
    refine j_iconst (y := yiJ35_mergeLo) dJ35_mergeLo_144 ?_
    refine j_istore (y := yiJ35_mergeLo) [some (.ref o), some (vi B), some (vi u1), some (vi (B + L1)), some (vi u2), some (.ref e), some (.ref t), some (vi xu), some (vi cu), some (vi du), some (vi G), some (vi 0), some (vi 0)] dJ35_mergeLo_145 (by decide) rfl rfl ?_
    exact J147 _ _ _ _ _ _ _ _ _ _ _ ho he htm fR (by omega) (by omega) (by omega) (by omega) hMu
  exact fun u1 u2 xu cu du G fu pu gu ho he htm fR hz hw1 hG1 hMu => L141 _ u1 u2 xu cu du G fu pu gu rfl ho he htm fR hz hw1 hG1 hMu
theorem c_J35_mergeLo (K : KT) (d : Nat) (h : MH) (rk : Nat → Int) (o e t rb rl cap tl : Nat) (mg ss : Int) (a b B L1 L2 : Int) (f1 f0 ft0 : Int → Option Nat) (p0 : Int → Nat) (hd : 5 ≤ d) (hB : kV K 12 = vi 1) (ho : h.2.2 o = some (true, .inr (26, [.ref e, vi mg, .ref t, vi 0, vi (tl : Int), vi ss, .ref rb, .ref rl]))) (he : h.2.2 e = some (true, oaE K cap f1)) (htm : h.2.2 t = some (true, oaE K tl ft0)) (het : e ≠ t) (hA : ArS h rk e a b f1 f0 p0) (hb : (0 ≤ a ∧ a ≤ B ∧ B + L1 + L2 ≤ b) ∧ b ≤ (cap : Int) ∧ cap ≤ 60000) (hL : (0 < L1 ∧ 0 < L2) ∧ L1 ≤ (tl : Int) ∧ tl ≤ 60000) (hmg : 0 ≤ mg ∧ mg ≤ 1000000) (A1 : Asc rk p0 B (B + L1)) (A2 : Asc rk p0 (B + L1) (B + L1 + L2)) (hfi : rk (p0 (B + L1)) < rk (p0 B)) (hla : rk (p0 (B + L1 + L2 - 1)) < rk (p0 (B + L1 - 1))) (hI : Inj rk p0 a b) : Mt K yiJ35_mergeLo d [.ref o, vi B, vi L1, vi (B + L1), vi L2] h (Rv fun h' => ∃ (mg' : Int) (f ft : Int → Option Nat) (p : Int → Nat), (h.1 = h'.1 ∧ h.2.1 = h'.2.1) ∧ (0 ≤ mg' ∧ mg' ≤ mg + 3 * (L1 + L2) + 5) ∧ h'.2.2 o = some (true, .inr (26, [.ref e, vi mg', .ref t, vi 0, vi (tl : Int), vi ss, .ref rb, .ref rl])) ∧ h'.2.2 e = some (true, oaE K cap f) ∧ h'.2.2 t = some (true, oaE K tl ft) ∧ ArS h' rk e a b f f0 p ∧ Asc rk p B (B + L1 + L2) ∧ Sms p0 p B (B + L1 + L2) ∧ ∀ q, q ≠ e ∧ q ≠ t ∧ q ≠ o → h'.2.2 q = h.2.2 q) := by
  have M522 := fun Q hQ => ml522 K d h rk o e t rb rl cap tl mg ss a b B L1 L2 f1 f0 ft0 p0 hd hB ho he htm het hA hb hL hmg A1 A2 hfi hla hI Q hQ
  have M141 := fun Q => ml141 K d h rk o e t rb rl cap tl mg ss a b B L1 L2 f1 f0 ft0 p0 hd hB ho he htm het hA hb hL hmg A1 A2 hfi hla hI Q
  have hoe : o ≠ e := ne_oa ho he
  have hot : o ≠ t := ne_oa ho htm
  have hin : ∀ i j, a ≤ i → i < b → a ≤ j → j < b → i ≠ j → rk (p0 i) ≠ rk (p0 j) := fun i j i1 i2 j1 j2 hne => by
    by_cases e9 : i < j
    · exact hI i j i1 e9 j2
    · exact fun e8 => hI j i j1 (by omega) i2 e8.symm
  have hpe : ∀ i, a ≤ i → i < b → p0 i ≠ e ∧ p0 i ≠ t ∧ p0 i ≠ o := fun i i1 i2 => by
    obtain ⟨r1, r2, r3, r4⟩ := (hA.1 i i1 i2).2.cell
    exact ⟨ne_oa r4 he, ne_oa r4 htm, ne_oo r4 ho (by decide)⟩
  have hup : ∀ g' : MH, (∀ q, q ≠ e ∧ q ≠ t ∧ q ≠ o → g'.2.2 q = h.2.2 q) → ∀ b w ci fs, ci ≠ 26 → h.2.2 b = some (w, .inr (ci, fs)) → g'.2.2 b = h.2.2 b := fun g' q b w ci fs h26 hb9 => q b ⟨ne_oa hb9 he, ne_oa hb9 htm, ne_oo hb9 ho h26⟩
  have hrd : ∀ g' : MH, (∀ q, q ≠ e ∧ q ≠ t ∧ q ≠ o → g'.2.2 q = h.2.2 q) → ∀ i, a ≤ i → i < b → RdS g' rk (p0 i) := fun g' q i i1 i2 => (hA.1 i i1 i2).2.up (hup g' q)
  have rkc : ∀ i j i' j' : Int, i = i' → j = j' → rk (p0 i') < rk (p0 j') → rk (p0 i) < rk (p0 j) := fun i j i' j' e1 e2 e3 => by rw [e1, e2]; exact e3
  have hlt : ∀ c i : Int, (B + L1 ≤ c ∧ c < B + L1 + L2) → i = L1 - 1 → ∀ {x y : Int}, (x = y → rk (p0 (B + i)) < rk (p0 c)) → x ≤ y → x < y := fun c i hc hi x y hx hxy => by
    by_cases e9 : x = y
    · have u := hx e9
      rw [hi, show B + (L1 - 1) = B + L1 - 1 by omega] at u
      by_cases e8 : c = B + L1 + L2 - 1
      · rw [e8] at u; omega
      · have := A2 c (B + L1 + L2 - 1) hc.1 (by omega) (by omega); omega
    · omega
  have ht : ∀ i, 0 ≤ i → i < L1 → cpq f1 ft0 B 0 L1 i = some (p0 (B + i)) := fun i i1 i2 => by { unfold cpq; rw [if_pos (by omega), Int.sub_zero]; exact (hA.1 (B + i) (by omega) (by omega)).1 }
  refine mt_ofQ (by decide) (Nat.le_of_ble_eq_true rfl) (fun Q hQ => ?_)
  show MW K yiJ35_mergeLo d h 0 [some (.ref o), some (vi B), some (vi L1), some (vi (B + L1)), some (vi L2), none, none, none, none, none, none, none, none] [] Q
  refine mw_wf (fun hwf => ?_)
  have l_ho := hwf _ _ ho
  have l_he := hwf _ _ he
  have l_htm := hwf _ _ htm
  have fR : ∀ b, (b ≠ e ∧ b ≠ t ∧ b ≠ o) → h.2.2 b = h.2.2 b := fun _ _ => rfl
  refine m_gets (y := yiJ35_mergeLo) (ref := "") 12 rfl dJ35_mergeLo_0 q1989 hB ?_
  refine j_if_ne (y := yiJ35_mergeLo) 30 dJ35_mergeLo_3 (by decide) ⟨by decide, by decide⟩ (fun _ => ?_) (fun c => absurd c (by decide))
  refine m_aload_n (y := yiJ35_mergeLo) dJ35_mergeLo_30 rfl ?_
  refine m_getfS (y := yiJ35_mergeLo) kc_26 0 (by decide) dJ35_mergeLo_31 q2012 ho rfl ?_
  refine m_astore (y := yiJ35_mergeLo) dJ35_mergeLo_34 (by decide) rfl ?_
  show MW K yiJ35_mergeLo d h 36 [some (.ref o), some (vi B), some (vi L1), some (vi (B + L1)), some (vi L2), some (.ref e), none, none, none, none, none, none, none] [] Q
  refine m_aload_n (y := yiJ35_mergeLo) dJ35_mergeLo_36 rfl ?_
  refine j_iload_n (y := yiJ35_mergeLo) dJ35_mergeLo_37 rfl ?_
  refine m_invV (y := yiJ35_mergeLo) (rB := (RJ35, TJ35, 8)) [(vi L1)] dJ35_mergeLo_38 ho rfl q2062 q2064 qs40 q171 q2065 rfl (c_J35_ensureCapacity K 4 h o e t rb rl mg 0 (tl : Int) ss L1 ho ⟨⟨by omega, by omega⟩, by omega⟩) pdJ35_ensureCapacity ⟨Nat.le_of_ble_eq_true rfl, by decide, by omega⟩ (kk_r fun r38 h38 q38 => ?_) kx_r
  obtain ⟨rfl, rfl⟩ := q38
  refine m_astore (y := yiJ35_mergeLo) dJ35_mergeLo_41 (by decide) rfl ?_
  show MW K yiJ35_mergeLo d h 43 [some (.ref o), some (vi B), some (vi L1), some (vi (B + L1)), some (vi L2), some (.ref e), some (.ref t), none, none, none, none, none, none] [] Q
  refine m_aload_n (y := yiJ35_mergeLo) dJ35_mergeLo_43 rfl ?_
  refine m_getfS (y := yiJ35_mergeLo) kc_26 3 (by decide) dJ35_mergeLo_44 q2015 ho rfl ?_
  refine j_istore (y := yiJ35_mergeLo) [some (.ref o), some (vi B), some (vi L1), some (vi (B + L1)), some (vi L2), some (.ref e), some (.ref t), some (vi 0), none, none, none, none, none] dJ35_mergeLo_47 (by decide) rfl rfl ?_
  refine j_iload_n (y := yiJ35_mergeLo) dJ35_mergeLo_49 rfl ?_
  refine j_istore (y := yiJ35_mergeLo) [some (.ref o), some (vi B), some (vi L1), some (vi (B + L1)), some (vi L2), some (.ref e), some (.ref t), some (vi 0), some (vi (B + L1)), none, none, none, none] dJ35_mergeLo_50 (by decide) rfl rfl ?_
  refine j_iload_n (y := yiJ35_mergeLo) dJ35_mergeLo_52 rfl ?_
  refine j_istore (y := yiJ35_mergeLo) [some (.ref o), some (vi B), some (vi L1), some (vi (B + L1)), some (vi L2), some (.ref e), some (.ref t), some (vi 0), some (vi (B + L1)), some (vi B), none, none, none] dJ35_mergeLo_53 (by decide) rfl rfl ?_
  refine m_aload (y := yiJ35_mergeLo) dJ35_mergeLo_55 rfl ?_
  refine j_iload_n (y := yiJ35_mergeLo) dJ35_mergeLo_57 rfl ?_
  refine m_aload (y := yiJ35_mergeLo) dJ35_mergeLo_58 rfl ?_
  refine j_iload (y := yiJ35_mergeLo) dJ35_mergeLo_60 rfl ?_
  refine j_iload_n (y := yiJ35_mergeLo) dJ35_mergeLo_62 rfl ?_
  refine h_copyq (y := yiJ35_mergeLo) dJ35_mergeLo_63 q2003 he htm ⟨by omega, by omega⟩ ⟨by omega, by omega, by omega⟩ (by omega) (by omega) (fun i a1 a2 x hx => by { have q := hA.1 i (by omega) (by omega); rw [q.1] at hx; cases hx; exact q.2.iso }) ⟨Nat.le_of_ble_eq_true rfl, by omega⟩ (hp_put fun g1 g1H => ?_)
  have ho : g1.2.2 o = some (true, .inr (26, [(.ref e), (vi mg), (.ref t), (vi 0), (vi (tl : Int)), (vi ss), (.ref rb), (.ref rl)])) := (g1H.2.2.2 _ (by omega)).trans ho
  have he : g1.2.2 e = some (true, oaE K cap f1) := (g1H.2.2.2 _ (by omega)).trans he
  have fR : ∀ b, (b ≠ e ∧ b ≠ t ∧ b ≠ o) → g1.2.2 b = h.2.2 b := fun b hb => (g1H.2.2.2 b (by omega)).trans (fR b hb)
  have htm : g1.2.2 t = some (true, oaE K tl (cpq f1 ft0 B 0 L1)) := g1H.2.2.1
  have g11 := g1H.1
  have g12 := g1H.2.1
  refine m_aload (y := yiJ35_mergeLo) dJ35_mergeLo_66 rfl ?_
  refine j_iload (y := yiJ35_mergeLo) dJ35_mergeLo_68 rfl ?_
  refine j_iinc (y := yiJ35_mergeLo) [some (.ref o), some (vi B), some (vi L1), some (vi (B + L1)), some (vi L2), some (.ref e), some (.ref t), some (vi 0), some (vi (B + L1)), some (vi (B + 1)), none, none, none] dJ35_mergeLo_70 rfl (by decide) rfl rfl ?_
  refine m_aload (y := yiJ35_mergeLo) dJ35_mergeLo_73 rfl ?_
  refine j_iload (y := yiJ35_mergeLo) dJ35_mergeLo_75 rfl ?_
  refine j_iinc (y := yiJ35_mergeLo) [some (.ref o), some (vi B), some (vi L1), some (vi (B + L1)), some (vi L2), some (.ref e), some (.ref t), some (vi 0), some (vi ((B + L1) + 1)), some (vi (B + 1)), none, none, none] dJ35_mergeLo_77 rfl (by decide) rfl rfl ?_
  refine h_aald5 (y := yiJ35_mergeLo) dJ35_mergeLo_80 he ⟨by omega, by omega⟩ (by omega) ?_
  rw [(hA.1 (B + L1) (by omega) (by omega)).1]
  show MW K yiJ35_mergeLo d g1 81 [some (.ref o), some (vi B), some (vi L1), some (vi (B + L1)), some (vi L2), some (.ref e), some (.ref t), some (vi 0), some (vi ((B + L1) + 1)), some (vi (B + 1)), none, none, none] [(.ref (p0 (B + L1))), (vi B), (.ref e)] Q
  have i81 : IsO g1 (p0 (B + L1)) := (hrd g1 fR _ (by omega) (by omega)).iso
  refine h_aast (y := yiJ35_mergeLo) dJ35_mergeLo_81 he (by assumption) ⟨by omega, by omega⟩ (by omega) (hp_put fun g2 g2H => ?_)
  have ho : g2.2.2 o = some (true, .inr (26, [(.ref e), (vi mg), (.ref t), (vi 0), (vi (tl : Int)), (vi ss), (.ref rb), (.ref rl)])) := (g2H.2.2.2 _ (by omega)).trans ho
  have htm : g2.2.2 t = some (true, oaE K tl (cpq f1 ft0 B 0 L1)) := (g2H.2.2.2 _ (by omega)).trans htm
  have fR : ∀ b, (b ≠ e ∧ b ≠ t ∧ b ≠ o) → g2.2.2 b = h.2.2 b := fun b hb => (g2H.2.2.2 b (by omega)).trans (fR b hb)
  have he : g2.2.2 e = some (true, oaE K cap (upq f1 B (some (p0 (B + L1))))) := g2H.2.2.1
  have g21 := g2H.1
  have g22 := g2H.2.1
  have hM1 : MS rk a b B L1 L2 0 1 (upq f1 B (some (p0 (B + L1)))) f0 p0 (tk2 p0 p0 B L1 0 0 1) h := (MS.start hA ⟨by omega, by omega⟩).t2 ⟨by omega, by omega⟩ (by omega) ⟨by omega, by omega⟩ A2 (fun _ _ => by { rw [show B + L1 + 0 + 1 - 1 = B + L1 by omega, Int.add_zero]; exact hfi }) (MS.up2 (by omega) (by omega))
  refine j_iinc (y := yiJ35_mergeLo) [some (.ref o), some (vi B), some (vi L1), some (vi (B + L1)), some (vi (L2 + (-1))), some (.ref e), some (.ref t), some (vi 0), some (vi ((B + L1) + 1)), some (vi (B + 1)), none, none, none] dJ35_mergeLo_82 rfl (by decide) rfl rfl ?_
  refine j_iload (y := yiJ35_mergeLo) dJ35_mergeLo_85 rfl ?_
  refine j_if_ne (y := yiJ35_mergeLo) 103 dJ35_mergeLo_87 (by decide) ⟨by omega, by omega⟩ (fun c87 => ?_) (fun c87 => ?_)
  · refine j_iload_n (y := yiJ35_mergeLo) dJ35_mergeLo_103 rfl ?_
    refine j_iconst (y := yiJ35_mergeLo) dJ35_mergeLo_104 ?_
    refine j_icmp_ne (y := yiJ35_mergeLo) 135 dJ35_mergeLo_105 (by decide) ⟨⟨by omega, by omega⟩, ⟨by omega, by omega⟩⟩ (fun c105 => ?_) (fun c105 => ?_)
    · have J141 := M141 Q (M522 Q hQ)
      refine m_aload_n (y := yiJ35_mergeLo) dJ35_mergeLo_135 rfl ?_
      refine m_getfS (y := yiJ35_mergeLo) kc_26 1 (by decide) dJ35_mergeLo_136 q2013 ho rfl ?_
      refine j_istore (y := yiJ35_mergeLo) [some (.ref o), some (vi B), some (vi L1), some (vi (B + L1)), some (vi (L2 + (-1))), some (.ref e), some (.ref t), some (vi 0), some (vi ((B + L1) + 1)), some (vi (B + 1)), some (vi mg), none, none] dJ35_mergeLo_139 (by decide) rfl rfl ?_
      exact J141 _ _ _ _ _ _ _ _ _ ho he htm fR (by omega) (by omega) (by omega) (by rw [show B + L1 + 1 - (B + L1) = 1 by omega]; exact hM1)
    · refine m_aload (y := yiJ35_mergeLo) dJ35_mergeLo_108 rfl ?_
      refine j_iload (y := yiJ35_mergeLo) dJ35_mergeLo_110 rfl ?_
      refine m_aload (y := yiJ35_mergeLo) dJ35_mergeLo_112 rfl ?_
      refine j_iload (y := yiJ35_mergeLo) dJ35_mergeLo_114 rfl ?_
      refine j_iload (y := yiJ35_mergeLo) dJ35_mergeLo_116 rfl ?_
      refine h_copyq (y := yiJ35_mergeLo) dJ35_mergeLo_118 q2003 he he ⟨by omega, by omega⟩ ⟨by omega, by omega, by omega⟩ (by omega) (by omega) (fun i a1 a2 x9 hx => by { rw [hM1.e2 ⟨by omega, by omega⟩ (i := i) ⟨by omega, by omega⟩] at hx; cases hx; exact (hrd _ fR i (by omega) (by omega)).iso }) ⟨Nat.le_of_ble_eq_true rfl, by omega⟩ (hp_put fun g3 g3H => ?_)
      have ho : g3.2.2 o = some (true, .inr (26, [(.ref e), (vi mg), (.ref t), (vi 0), (vi (tl : Int)), (vi ss), (.ref rb), (.ref rl)])) := (g3H.2.2.2 _ (by omega)).trans ho
      have htm : g3.2.2 t = some (true, oaE K tl (cpq f1 ft0 B 0 L1)) := (g3H.2.2.2 _ (by omega)).trans htm
      have fR : ∀ b, (b ≠ e ∧ b ≠ t ∧ b ≠ o) → g3.2.2 b = h.2.2 b := fun b hb => (g3H.2.2.2 b (by omega)).trans (fR b hb)
      have he : g3.2.2 e = some (true, oaE K cap (cpq (upq f1 B (some (p0 (B + L1)))) (upq f1 B (some (p0 (B + L1)))) ((B + L1) + 1) (B + 1) (L2 + (-1)))) := g3H.2.2.1
      have g31 := g3H.1
      have g32 := g3H.2.1
      refine m_aload (y := yiJ35_mergeLo) dJ35_mergeLo_121 rfl ?_
      refine j_iload (y := yiJ35_mergeLo) dJ35_mergeLo_123 rfl ?_
      refine j_iload (y := yiJ35_mergeLo) dJ35_mergeLo_125 rfl ?_
      refine j_iadd (y := yiJ35_mergeLo) dJ35_mergeLo_127 ?_
      refine m_aload (y := yiJ35_mergeLo) dJ35_mergeLo_128 rfl ?_
      refine j_iload (y := yiJ35_mergeLo) dJ35_mergeLo_130 rfl ?_
      refine h_aald5 (y := yiJ35_mergeLo) dJ35_mergeLo_132 htm ⟨by omega, by omega⟩ (by omega) ?_
      rw [(ht 0 (by omega) (by omega))]
      show MW K yiJ35_mergeLo d g3 133 [some (.ref o), some (vi B), some (vi L1), some (vi (B + L1)), some (vi (L2 + (-1))), some (.ref e), some (.ref t), some (vi 0), some (vi ((B + L1) + 1)), some (vi (B + 1)), none, none, none] [(.ref (p0 (B + 0))), (vi ((B + 1) + (L2 + (-1)))), (.ref e)] Q
      have i133 : IsO g3 (p0 (B + 0)) := (hrd g3 fR _ (by omega) (by omega)).iso
      refine h_aast (y := yiJ35_mergeLo) dJ35_mergeLo_133 he (by assumption) ⟨by omega, by omega⟩ (by omega) (hp_put fun g4 g4H => ?_)
      have ho : g4.2.2 o = some (true, .inr (26, [(.ref e), (vi mg), (.ref t), (vi 0), (vi (tl : Int)), (vi ss), (.ref rb), (.ref rl)])) := (g4H.2.2.2 _ (by omega)).trans ho
      have htm : g4.2.2 t = some (true, oaE K tl (cpq f1 ft0 B 0 L1)) := (g4H.2.2.2 _ (by omega)).trans htm
      have fR : ∀ b, (b ≠ e ∧ b ≠ t ∧ b ≠ o) → g4.2.2 b = h.2.2 b := fun b hb => (g4H.2.2.2 b (by omega)).trans (fR b hb)
      have he : g4.2.2 e = some (true, oaE K cap (upq (cpq (upq f1 B (some (p0 (B + L1)))) (upq f1 B (some (p0 (B + L1)))) ((B + L1) + 1) (B + 1) (L2 + (-1))) ((B + 1) + (L2 + (-1))) (some (p0 (B + 0))))) := g4H.2.2.1
      have g41 := g4H.1
      have g42 := g4H.2.1
      subst hQ; exact j_vret (y := yiJ35_mergeLo) dJ35_mergeLo_134 rfl (by { have hM2 := hM1.t2 ⟨by omega, by omega⟩ rfl (m := L2 - 1) ⟨by omega, by omega⟩ A2 (fun _ _ => rkc _ _ _ _ (by omega) (by omega) hla) (hM1.cp2 (c := B + L1 + 1) (ds := B + 1) ⟨by omega, by omega⟩ (by omega) (by omega) ⟨by omega, by omega⟩); have hM3 := hM2.t1 ⟨by omega, by omega⟩ rfl (m := 1) ⟨by omega, by omega⟩ A1 (fun _ _ => by omega) (MS.up1 (ds := B + 1 + (L2 - 1)) (by omega)); have q := (hM3.up (hup _ fR)).done (by omega) (by omega) e; exact ⟨mg, _, _, _, ⟨by omega, by omega⟩, ⟨by omega, by omega⟩, ho, he, htm, q.1, q.2.1, q.2.2, fR⟩ })
  · refine m_aload (y := yiJ35_mergeLo) dJ35_mergeLo_90 rfl ?_
    refine j_iload (y := yiJ35_mergeLo) dJ35_mergeLo_92 rfl ?_
    refine m_aload (y := yiJ35_mergeLo) dJ35_mergeLo_94 rfl ?_
    refine j_iload (y := yiJ35_mergeLo) dJ35_mergeLo_96 rfl ?_
    refine j_iload_n (y := yiJ35_mergeLo) dJ35_mergeLo_98 rfl ?_
    refine h_copyq (y := yiJ35_mergeLo) dJ35_mergeLo_99 q2003 htm he ⟨by omega, by omega⟩ ⟨by omega, by omega, by omega⟩ (by omega) (by omega) (fun i a1 a2 x hx => by { rw [ht i (by omega) (by omega)] at hx; cases hx; exact (hrd _ fR (B + i) (by omega) (by omega)).iso }) ⟨Nat.le_of_ble_eq_true rfl, by omega⟩ (hp_put fun g5 g5H => ?_)
    have ho : g5.2.2 o = some (true, .inr (26, [(.ref e), (vi mg), (.ref t), (vi 0), (vi (tl : Int)), (vi ss), (.ref rb), (.ref rl)])) := (g5H.2.2.2 _ (by omega)).trans ho
    have htm : g5.2.2 t = some (true, oaE K tl (cpq f1 ft0 B 0 L1)) := (g5H.2.2.2 _ (by omega)).trans htm
    have fR : ∀ b, (b ≠ e ∧ b ≠ t ∧ b ≠ o) → g5.2.2 b = h.2.2 b := fun b hb => (g5H.2.2.2 b (by omega)).trans (fR b hb)
    have he : g5.2.2 e = some (true, oaE K cap (cpq (cpq f1 ft0 B 0 L1) (upq f1 B (some (p0 (B + L1)))) 0 (B + 1) L1)) := g5H.2.2.1
    have g51 := g5H.1
    have g52 := g5H.2.1
    subst hQ; exact j_vret (y := yiJ35_mergeLo) dJ35_mergeLo_102 rfl (by { have hM2 := hM1.t1 ⟨by omega, by omega⟩ rfl (m := L1) ⟨by omega, by omega⟩ A1 (fun _ _ => by omega) (MS.cp1 (ds := B + 1) ht (by omega) ⟨by omega, by omega, by omega⟩); have q := (hM2.up (hup _ fR)).done (by omega) (by omega) e; exact ⟨mg, _, _, _, ⟨by omega, by omega⟩, ⟨by omega, by omega⟩, ho, he, htm, q.1, q.2.1, q.2.2, fR⟩ })
