/-! the sort: runs counted, descending ones reversed -/
def revP (p : Int → Nat) (a m : Int) : Int → Nat := fun i => if a ≤ i ∧ i < m then p (a + m - 1 - i) else p i
theorem revP_sms {p : Int → Nat} {a m b : Int} (h : a ≤ m ∧ m ≤ b) : Sms p (revP p a m) a b := by
  refine Sms.wide (a := a) (b := m) ⟨fun i a1 a2 => ⟨a + m - 1 - i, by omega, by omega, ?_⟩, fun i a1 a2 => ⟨a + m - 1 - i, by omega, by omega, ?_⟩, fun i h9 => ?_⟩ ⟨by omega, by omega⟩
  · unfold revP; rw [if_pos ⟨a1, a2⟩]
  · unfold revP; rw [if_pos (by omega)]; congr 1; omega
  · unfold revP; rw [if_neg (by omega)]
theorem revP_asc {rk : Nat → Int} {p : Int → Nat} {a m : Int} (hD : Dsc rk p a m) : Asc rk (revP p a m) a m := by
  intro i j a1 a2 a3
  unfold revP
  rw [if_pos (by omega), if_pos (by omega)]
  exact hD _ _ (by omega) (by omega) (by omega)
theorem revP_inj {rk : Nat → Int} {p : Int → Nat} {a m b : Int} (h : m ≤ b) (hI : Inj rk p a b) : Inj rk (revP p a m) a b := by
  intro i j a1 a2 a3
  have hs : ∀ x y, a ≤ x → x < b → a ≤ y → y < b → x ≠ y → rk (p x) ≠ rk (p y) := fun x y x1 x2 y1 y2 hne => by
    by_cases e : x < y
    · exact hI x y x1 e y2
    · exact fun e9 => hI y x y1 (by omega) x2 e9.symm
  unfold revP
  by_cases ei : a ≤ i ∧ i < m
  · rw [if_pos ei]
    by_cases ej : a ≤ j ∧ j < m
    · rw [if_pos ej]; exact hs _ _ (by omega) (by omega) (by omega) (by omega) (by omega)
    · rw [if_neg ej]; exact hs _ _ (by omega) (by omega) (by omega) (by omega) (by omega)
  · rw [if_neg ei]
    by_cases ej : a ≤ j ∧ j < m
    · rw [if_pos ej]; exact hs _ _ (by omega) (by omega) (by omega) (by omega) (by omega)
    · rw [if_neg ej]; exact hs _ _ (by omega) (by omega) (by omega) (by omega) (by omega)
/-- two places changed -/
def swpP (p : Int → Nat) (i j : Int) : Int → Nat := fun k => if k = j then p i else if k = i then p j else p k
theorem ArS.swp {h : MH} {rk : Nat → Int} {e : Nat} {a b i j : Int} {f f0 : Int → Option Nat} {p : Int → Nat} (L : ArS h rk e a b f f0 p) (h1 : a ≤ i ∧ i < b) (h2 : a ≤ j ∧ j < b) : ArS h rk e a b (upq (upq f i (some (p j))) j (some (p i))) f0 (swpP p i j) := by
  refine ⟨fun k a1 a2 => ?_, fun k h9 => ?_⟩
  · unfold upq swpP
    by_cases e1 : k = j
    · rw [if_pos e1, if_pos e1]; exact ⟨rfl, (L.1 i h1.1 h1.2).2⟩
    · rw [if_neg e1, if_neg e1]
      by_cases e2 : k = i
      · rw [if_pos e2, if_pos e2]; exact ⟨rfl, (L.1 j h2.1 h2.2).2⟩
      · rw [if_neg e2, if_neg e2]; exact L.1 k a1 a2
  · unfold upq
    rw [if_neg (by omega), if_neg (by omega)]; exact L.2 k h9
/-- reversing under way: places below i and behind j are done -/
def rvI (p0 p : Int → Nat) (a m i j : Int) : Prop := ∀ k, p k = if (a ≤ k ∧ k < i) ∨ (j < k ∧ k < m) then p0 (a + m - 1 - k) else p0 k
theorem rvI.step {p0 p : Int → Nat} {a m i j : Int} (H : rvI p0 p a m i j) (h1 : i < j) (h2 : i + j = a + m - 1) (h3 : a ≤ i) : rvI p0 (swpP p i j) a m (i + 1) (j - 1) := by
  intro k
  unfold swpP
  by_cases e1 : k = j
  · rw [if_pos e1, if_pos (by omega), H i, if_neg (by omega)]; congr 1; omega
  · rw [if_neg e1]
    by_cases e2 : k = i
    · rw [if_pos e2, if_pos (by omega), H j, if_neg (by omega)]; congr 1; omega
    · rw [if_neg e2, H k]
      by_cases e3 : (a ≤ k ∧ k < i) ∨ (j < k ∧ k < m)
      · rw [if_pos e3, if_pos (by omega)]
      · rw [if_neg e3, if_neg (by omega)]
theorem rvI.done {p0 p : Int → Nat} {a m i j : Int} (H : rvI p0 p a m i j) (h1 : j ≤ i) (h2 : i + j = a + m - 1) (h3 : i ≤ j + 1) : p = revP p0 a m := by
  funext k
  rw [H k]
  unfold revP
  by_cases e : a ≤ k ∧ k < m
  · rw [if_pos e]
    by_cases e2 : (a ≤ k ∧ k < i) ∨ (j < k ∧ k < m)
    · rw [if_pos e2]
    · rw [if_neg e2]; congr 1; omega
  · rw [if_neg e]
    by_cases e2 : (a ≤ k ∧ k < i) ∨ (j < k ∧ k < m)
    · omega
    · rw [if_neg e2]
theorem c_J35_reverseRange (K : KT) (d : Nat) (h : MH) (rk : Nat → Int) (e cap : Nat) (a b m : Int) (f0 : Int → Option Nat) (p0 : Int → Nat) (he : h.2.2 e = some (true, oaE K cap f0)) (hA : ArS h rk e a b f0 f0 p0) (hb : (0 ≤ a ∧ a < m) ∧ m ≤ b ∧ b ≤ (cap : Int) ∧ cap ≤ 60000) : Mt K yiJ35_reverseRange d [.ref e, vi a, vi m] h (Rv fun h' => ∃ f, (h.1 = h'.1 ∧ h.2.1 = h'.2.1) ∧ h'.2.2 e = some (true, oaE K cap f) ∧ ArS h' rk e a b f f0 (revP p0 a m) ∧ ∀ q, q ≠ e → h'.2.2 q = h.2.2 q) := by
  refine mt_ofQ (by decide) (Nat.le_of_ble_eq_true rfl) (fun Q hQ => ?_)
  show MW K yiJ35_reverseRange d h 0 [some (.ref e), some (vi a), some (vi m), none] [] Q
  refine mw_wf (fun hwf => ?_)
  have l_he := hwf _ _ he
  have fR : ∀ b, (b ≠ e) → h.2.2 b = h.2.2 b := fun _ _ => rfl
  refine j_iinc (y := yiJ35_reverseRange) [some (.ref e), some (vi a), some (vi (m + (-1))), none] dJ35_reverseRange_0 rfl (by decide) rfl rfl ?_
  have L3 : ∀ (N : Nat) (i j : Int) (f : Int → Option Nat) (p : Int → Nat) (g : MH), (j + 1 - i).toNat = N → (g.2.2 e = some (true, oaE K cap f)) → (∀ b, (b ≠ e) → g.2.2 b = h.2.2 b) → (a ≤ i ∧ i ≤ j + 1 ∧ j < m ∧ i + j = a + m - 1) → (h.1 = g.1 ∧ h.2.1 = g.2.1) → (ArS g rk e a b f f0 p) → (rvI p0 p a m i j) → MW K yiJ35_reverseRange d g 3 [some (.ref e), some (vi i), some (vi j), none] [] Q := by
    intro N
    induction N using Nat.strongRecOn with
    | _ N ih3 =>
    intro i j f p g hN3 he fR hi hz hL hr
    refine mw_wf (fun hwf3 => ?_)
    have l_he3 := hwf3 _ _ he
    refine j_iload_n (y := yiJ35_reverseRange) dJ35_reverseRange_3 rfl ?_
    refine j_iload_n (y := yiJ35_reverseRange) dJ35_reverseRange_4 rfl ?_
    refine j_icmp_ge (y := yiJ35_reverseRange) 31 dJ35_reverseRange_5 (by decide) ⟨⟨by omega, by omega⟩, ⟨by omega, by omega⟩⟩ (fun c5 => ?_) (fun c5 => ?_)
    · subst hQ; exact j_vret (y := yiJ35_reverseRange) dJ35_reverseRange_31 rfl (⟨_, hz, he, (by { have e9 := hr.done (by omega) (by omega) (by omega); rw [← e9]; exact hL }), fR⟩)
    · refine m_aload_n (y := yiJ35_reverseRange) dJ35_reverseRange_8 rfl ?_
      refine j_iload_n (y := yiJ35_reverseRange) dJ35_reverseRange_9 rfl ?_
      refine h_aald5 (y := yiJ35_reverseRange) dJ35_reverseRange_10 he ⟨by omega, by omega⟩ (by omega) ?_
      rw [(hL.1 i (by omega) (by omega)).1]
      show MW K yiJ35_reverseRange d g 11 [some (.ref e), some (vi i), some (vi j), none] [(.ref (p i))] Q
      have he0 := he
      have fR0 := fR
      have hne : ∀ i, a ≤ i → i < b → p i ≠ e := fun i a1 a2 => by { obtain ⟨r1, r2, r3, r4⟩ := (hL.1 i a1 a2).2.cell; exact ne_oa r4 he0 }
      have his : ∀ i, a ≤ i → i < b → IsO g (p i) := fun i a1 a2 => (hL.1 i a1 a2).2.iso
      refine m_astore_n (y := yiJ35_reverseRange) dJ35_reverseRange_11 (by decide) rfl ?_
      show MW K yiJ35_reverseRange d g 12 [some (.ref e), some (vi i), some (vi j), some (.ref (p i))] [] Q
      refine m_aload_n (y := yiJ35_reverseRange) dJ35_reverseRange_12 rfl ?_
      refine j_iload_n (y := yiJ35_reverseRange) dJ35_reverseRange_13 rfl ?_
      refine j_iinc (y := yiJ35_reverseRange) [some (.ref e), some (vi (i + 1)), some (vi j), some (.ref (p i))] dJ35_reverseRange_14 rfl (by decide) rfl rfl ?_
      refine m_aload_n (y := yiJ35_reverseRange) dJ35_reverseRange_17 rfl ?_
      refine j_iload_n (y := yiJ35_reverseRange) dJ35_reverseRange_18 rfl ?_
      refine h_aald5 (y := yiJ35_reverseRange) dJ35_reverseRange_19 he ⟨by omega, by omega⟩ (by omega) ?_
      rw [(hL.1 j (by omega) (by omega)).1]
      show MW K yiJ35_reverseRange d g 20 [some (.ref e), some (vi (i + 1)), some (vi j), some (.ref (p i))] [(.ref (p j)), (vi i), (.ref e)] Q
      have i20 : IsO g (p j) := his _ (by omega) (by omega)
      refine h_aast (y := yiJ35_reverseRange) dJ35_reverseRange_20 he (by assumption) ⟨by omega, by omega⟩ (by omega) (hp_put fun g1 g1H => ?_)
      have fR : ∀ b, (b ≠ e) → g1.2.2 b = h.2.2 b := fun b hb => (g1H.2.2.2 b (by omega)).trans (fR b hb)
      have he : g1.2.2 e = some (true, oaE K cap (upq f i (some (p j)))) := g1H.2.2.1
      have g11 := g1H.1
      have g12 := g1H.2.1
      refine m_aload_n (y := yiJ35_reverseRange) dJ35_reverseRange_21 rfl ?_
      refine j_iload_n (y := yiJ35_reverseRange) dJ35_reverseRange_22 rfl ?_
      refine j_iinc (y := yiJ35_reverseRange) [some (.ref e), some (vi (i + 1)), some (vi (j + (-1))), some (.ref (p i))] dJ35_reverseRange_23 rfl (by decide) rfl rfl ?_
      refine m_aload_n (y := yiJ35_reverseRange) dJ35_reverseRange_26 rfl ?_
      have i27 : IsO g1 (p i) := (his _ (by omega) (by omega)).mono' ((fR _ (hne _ (by omega) (by omega))).trans (fR0 _ (hne _ (by omega) (by omega))).symm)
      refine h_aast (y := yiJ35_reverseRange) dJ35_reverseRange_27 he (by assumption) ⟨by omega, by omega⟩ (by omega) (hp_put fun g2 g2H => ?_)
      have fR : ∀ b, (b ≠ e) → g2.2.2 b = h.2.2 b := fun b hb => (g2H.2.2.2 b (by omega)).trans (fR b hb)
      have he : g2.2.2 e = some (true, oaE K cap (upq (upq f i (some (p j))) j (some (p i)))) := g2H.2.2.1
      have g21 := g2H.1
      have g22 := g2H.2.1
      refine m_goto (y := yiJ35_reverseRange) 3 dJ35_reverseRange_28 (by decide) ?_
      refine mw_forget 3 ?_
      exact ih3 _ (by omega) _ _ _ _ _ rfl he fR (by omega) (by omega) ((hL.up (fun b9 w9 c9 f9 _ hb9 => (fR b9 (ne_oa hb9 he0)).trans (fR0 b9 (ne_oa hb9 he0)).symm)).swp ⟨by omega, by omega⟩ ⟨by omega, by omega⟩) (hr.step (by omega) (by omega) (by omega))
  exact L3 _ a (m - 1) f0 p0 _ rfl he fR (by omega) (⟨rfl, rfl⟩) hA (fun k => by rw [if_neg (by omega)])
theorem Asc.ext {rk : Nat → Int} {p : Int → Nat} {a r : Int} (hA : Asc rk p a r) (h : a < r → rk (p (r - 1)) < rk (p r)) : Asc rk p a (r + 1) := by
  intro i j a1 a2 a3
  by_cases e : j = r
  · rw [e]
    by_cases e2 : i = r - 1
    · rw [e2]; exact h (by omega)
    · have := hA i (r - 1) a1 (by omega) (by omega); have := h (by omega); omega
  · exact hA i j a1 a2 (by omega)
theorem Dsc.ext {rk : Nat → Int} {p : Int → Nat} {a r : Int} (hA : Dsc rk p a r) (h : a < r → rk (p r) < rk (p (r - 1))) : Dsc rk p a (r + 1) := by
  intro i j a1 a2 a3
  by_cases e : j = r
  · rw [e]
    by_cases e2 : i = r - 1
    · rw [e2]; exact h (by omega)
    · have := hA i (r - 1) a1 (by omega) (by omega); have := h (by omega); omega
  · exact hA i j a1 a2 (by omega)
theorem c_J35_countRun (K : KT) (d : Nat) (h : MH) (rk : Nat → Int) (e cap : Nat) (a b : Int) (f0 : Int → Option Nat) (p0 : Int → Nat) (hd : 3 ≤ d) (hB : kV K 12 = vi 1) (he : h.2.2 e = some (true, oaE K cap f0)) (hA : ArS h rk e a b f0 f0 p0) (hb : (0 ≤ a ∧ a < b) ∧ b ≤ (cap : Int) ∧ cap ≤ 60000) (hI : Inj rk p0 a b) : Mt K yiJ35_countRunAndMakeAscending d [.ref e, vi a, vi b] h (Rz fun v h' => ∃ f p, (h.1 = h'.1 ∧ h.2.1 = h'.2.1) ∧ h'.2.2 e = some (true, oaE K cap f) ∧ ArS h' rk e a b f f0 p ∧ (1 ≤ v ∧ a + v ≤ b) ∧ Asc rk p a (a + v) ∧ Sms p0 p a b ∧ Inj rk p a b ∧ ∀ q, q ≠ e → h'.2.2 q = h.2.2 q) := by
  refine mt_ofQ (by decide) (Nat.le_of_ble_eq_true rfl) (fun Q hQ => ?_)
  show MW K yiJ35_countRunAndMakeAscending d h 0 [some (.ref e), some (vi a), some (vi b), none] [] Q
  refine mw_wf (fun hwf => ?_)
  have l_he := hwf _ _ he
  refine m_gets (y := yiJ35_countRunAndMakeAscending) (ref := "") 12 rfl dJ35_countRunAndMakeAscending_0 q1989 hB ?_
  refine j_if_ne (y := yiJ35_countRunAndMakeAscending) 19 dJ35_countRunAndMakeAscending_3 (by decide) ⟨by decide, by decide⟩ (fun _ => ?_) (fun c => absurd c (by decide))
  refine j_iload_n (y := yiJ35_countRunAndMakeAscending) dJ35_countRunAndMakeAscending_19 rfl ?_
  refine j_iconst (y := yiJ35_countRunAndMakeAscending) dJ35_countRunAndMakeAscending_20 ?_
  refine j_iadd (y := yiJ35_countRunAndMakeAscending) dJ35_countRunAndMakeAscending_21 ?_
  refine j_istore_n (y := yiJ35_countRunAndMakeAscending) [some (.ref e), some (vi a), some (vi b), some (vi (a + 1))] dJ35_countRunAndMakeAscending_22 (by decide) rfl rfl ?_
  refine j_iload_n (y := yiJ35_countRunAndMakeAscending) dJ35_countRunAndMakeAscending_23 rfl ?_
  refine j_iload_n (y := yiJ35_countRunAndMakeAscending) dJ35_countRunAndMakeAscending_24 rfl ?_
  refine j_icmp_ne (y := yiJ35_countRunAndMakeAscending) 30 dJ35_countRunAndMakeAscending_25 (by decide) ⟨⟨by omega, by omega⟩, ⟨by omega, by omega⟩⟩ (fun c25 => ?_) (fun c25 => ?_)
  · refine m_aload_n (y := yiJ35_countRunAndMakeAscending) dJ35_countRunAndMakeAscending_30 rfl ?_
    refine j_iload_n (y := yiJ35_countRunAndMakeAscending) dJ35_countRunAndMakeAscending_31 rfl ?_
    refine j_iinc (y := yiJ35_countRunAndMakeAscending) [some (.ref e), some (vi a), some (vi b), some (vi ((a + 1) + 1))] dJ35_countRunAndMakeAscending_32 rfl (by decide) rfl rfl ?_
    refine h_aald5 (y := yiJ35_countRunAndMakeAscending) dJ35_countRunAndMakeAscending_35 he ⟨by omega, by omega⟩ (by omega) ?_
    rw [(hA.1 (a + 1) (by omega) (by omega)).1]
    show MW K yiJ35_countRunAndMakeAscending d h 36 [some (.ref e), some (vi a), some (vi b), some (vi ((a + 1) + 1))] [(.ref (p0 (a + 1)))] Q
    obtain ⟨ru, cs, ks, hps⟩ := (hA.1 (a + 1) (by omega) (by omega)).2.cell
    have n36 := ne_oa hps he
    have hps : h.2.2 (p0 (a + 1)) = some (true, .inr (8, [(.ref ru), (vi cs), (vi ks)])) := hps
    have l_hps := hwf _ _ hps
    refine m_cast (y := yiJ35_countRunAndMakeAscending) dJ35_countRunAndMakeAscending_36 hps rfl q1994 (Or.inr q1534) ?_
    refine m_aload_n (y := yiJ35_countRunAndMakeAscending) dJ35_countRunAndMakeAscending_39 rfl ?_
    refine j_iload_n (y := yiJ35_countRunAndMakeAscending) dJ35_countRunAndMakeAscending_40 rfl ?_
    refine h_aald5 (y := yiJ35_countRunAndMakeAscending) dJ35_countRunAndMakeAscending_41 he ⟨by omega, by omega⟩ (by omega) ?_
    rw [(hA.1 a (by omega) (by omega)).1]
    show MW K yiJ35_countRunAndMakeAscending d h 42 [some (.ref e), some (vi a), some (vi b), some (vi ((a + 1) + 1))] [(.ref (p0 a)), (.ref (p0 (a + 1)))] Q
    refine m_invF (y := yiJ35_countRunAndMakeAscending) (rB := (RX9, TX9, 3)) [(.ref (p0 a))] dJ35_countRunAndMakeAscending_42 hps rfl q1996 q1517 q1516 rfl q1535 q1537 q1538 q1536 q1534 q168 q1539 ⟨by decide, by decide⟩ (by show _ = some 1; decide +kernel) (c_cmp K 1 h rk (p0 (a + 1)) (p0 a) (by omega) (hA.1 _ (by omega) (by omega)).2 (hA.1 _ (by omega) (by omega)).2) pdX9_compareTo ⟨Nat.le_of_ble_eq_true rfl, by decide, by omega⟩ (kk_z fun r42 h42 q42 => ?_) kx_z
    obtain ⟨rfl, e42⟩ := q42
    have b42 := e42.2.2
    have n42 := hI a (a + 1) (by omega) (by omega) (by omega)
    refine j_if_ge (y := yiJ35_countRunAndMakeAscending) 89 dJ35_countRunAndMakeAscending_47 (by decide) ⟨by omega, by omega⟩ (fun c47 => ?_) (fun c47 => ?_)
    · have L89 : ∀ (N : Nat) (r : Int), (b - r).toNat = N → (a + 2 ≤ r ∧ r ≤ b) → (Asc rk p0 a r) → MW K yiJ35_countRunAndMakeAscending d h 89 [some (.ref e), some (vi a), some (vi b), some (vi r)] [] Q := by
        intro N
        induction N using Nat.strongRecOn with
        | _ N ih89 =>
        intro r hN89 hr hD
        refine j_iload_n (y := yiJ35_countRunAndMakeAscending) dJ35_countRunAndMakeAscending_89 rfl ?_
        refine j_iload_n (y := yiJ35_countRunAndMakeAscending) dJ35_countRunAndMakeAscending_90 rfl ?_
        refine j_icmp_ge (y := yiJ35_countRunAndMakeAscending) 119 dJ35_countRunAndMakeAscending_91 (by decide) ⟨⟨by omega, by omega⟩, ⟨by omega, by omega⟩⟩ (fun c91 => ?_) (fun c91 => ?_)
        · refine j_iload_n (y := yiJ35_countRunAndMakeAscending) dJ35_countRunAndMakeAscending_119 rfl ?_
          refine j_iload_n (y := yiJ35_countRunAndMakeAscending) dJ35_countRunAndMakeAscending_120 rfl ?_
          refine j_isub (y := yiJ35_countRunAndMakeAscending) dJ35_countRunAndMakeAscending_121 ?_
          subst hQ; exact j_iret (y := yiJ35_countRunAndMakeAscending) dJ35_countRunAndMakeAscending_122 rfl (by first | exact ⟨f0, p0, ⟨rfl, rfl⟩, he, hA, ⟨by omega, by omega⟩, (by { rw [show a + (r - a) = r by omega]; exact hD }), Sms.rfl', hI, fun _ _ => rfl⟩ | exact ⟨f1, _, zz, he1, hL1, ⟨by omega, by omega⟩, (by { rw [show a + (r - a) = r by omega]; exact revP_asc hD }), revP_sms ⟨by omega, by omega⟩, revP_inj (by omega) hI, fr1⟩)
        · refine m_aload_n (y := yiJ35_countRunAndMakeAscending) dJ35_countRunAndMakeAscending_94 rfl ?_
          refine j_iload_n (y := yiJ35_countRunAndMakeAscending) dJ35_countRunAndMakeAscending_95 rfl ?_
          refine h_aald5 (y := yiJ35_countRunAndMakeAscending) dJ35_countRunAndMakeAscending_96 he ⟨by omega, by omega⟩ (by omega) ?_
          rw [(hA.1 r (by omega) (by omega)).1]
          show MW K yiJ35_countRunAndMakeAscending d h 97 [some (.ref e), some (vi a), some (vi b), some (vi r)] [(.ref (p0 r))] Q
          obtain ⟨ru2, cs2, ks2, hps2⟩ := (hA.1 r (by omega) (by omega)).2.cell
          have hps2 : h.2.2 (p0 r) = some (true, .inr (8, [(.ref ru2), (vi cs2), (vi ks2)])) := hps2
          have l_hps2 := hwf _ _ hps2
          refine m_cast (y := yiJ35_countRunAndMakeAscending) dJ35_countRunAndMakeAscending_97 hps2 rfl q1994 (Or.inr q1534) ?_
          refine m_aload_n (y := yiJ35_countRunAndMakeAscending) dJ35_countRunAndMakeAscending_100 rfl ?_
          refine j_iload_n (y := yiJ35_countRunAndMakeAscending) dJ35_countRunAndMakeAscending_101 rfl ?_
          refine j_iconst (y := yiJ35_countRunAndMakeAscending) dJ35_countRunAndMakeAscending_102 ?_
          refine j_isub (y := yiJ35_countRunAndMakeAscending) dJ35_countRunAndMakeAscending_103 ?_
          refine h_aald5 (y := yiJ35_countRunAndMakeAscending) dJ35_countRunAndMakeAscending_104 he ⟨by omega, by omega⟩ (by omega) ?_
          rw [(hA.1 (r - 1) (by omega) (by omega)).1]
          show MW K yiJ35_countRunAndMakeAscending d h 105 [some (.ref e), some (vi a), some (vi b), some (vi r)] [(.ref (p0 (r - 1))), (.ref (p0 r))] Q
          refine m_invF (y := yiJ35_countRunAndMakeAscending) (rB := (RX9, TX9, 3)) [(.ref (p0 (r - 1)))] dJ35_countRunAndMakeAscending_105 hps2 rfl q1996 q1517 q1516 rfl q1535 q1537 q1538 q1536 q1534 q168 q1539 ⟨by decide, by decide⟩ (by show _ = some 1; decide +kernel) (c_cmp K 1 h rk (p0 r) (p0 (r - 1)) (by omega) (hA.1 _ (by omega) (by omega)).2 (hA.1 _ (by omega) (by omega)).2) pdX9_compareTo ⟨Nat.le_of_ble_eq_true rfl, by decide, by omega⟩ (kk_z fun r105 h105 q105 => ?_) kx_z
          obtain ⟨rfl, e105⟩ := q105
          have b105 := e105.2.2
          have n105 := hI (r - 1) r (by omega) (by omega) (by omega)
          refine j_if_lt (y := yiJ35_countRunAndMakeAscending) 119 dJ35_countRunAndMakeAscending_110 (by decide) ⟨by omega, by omega⟩ (fun c110 => ?_) (fun c110 => ?_)
          · refine j_iload_n (y := yiJ35_countRunAndMakeAscending) dJ35_countRunAndMakeAscending_119 rfl ?_
            refine j_iload_n (y := yiJ35_countRunAndMakeAscending) dJ35_countRunAndMakeAscending_120 rfl ?_
            refine j_isub (y := yiJ35_countRunAndMakeAscending) dJ35_countRunAndMakeAscending_121 ?_
            subst hQ; exact j_iret (y := yiJ35_countRunAndMakeAscending) dJ35_countRunAndMakeAscending_122 rfl (by first | exact ⟨f0, p0, ⟨rfl, rfl⟩, he, hA, ⟨by omega, by omega⟩, (by { rw [show a + (r - a) = r by omega]; exact hD }), Sms.rfl', hI, fun _ _ => rfl⟩ | exact ⟨f1, _, zz, he1, hL1, ⟨by omega, by omega⟩, (by { rw [show a + (r - a) = r by omega]; exact revP_asc hD }), revP_sms ⟨by omega, by omega⟩, revP_inj (by omega) hI, fr1⟩)
          · refine j_iinc (y := yiJ35_countRunAndMakeAscending) [some (.ref e), some (vi a), some (vi b), some (vi (r + 1))] dJ35_countRunAndMakeAscending_113 rfl (by decide) rfl rfl ?_
            refine m_goto (y := yiJ35_countRunAndMakeAscending) 89 dJ35_countRunAndMakeAscending_116 (by decide) ?_
            exact ih89 _ (by omega) _ rfl (by omega) (hD.ext (fun _ => by { have := e105.1; omega }))
      exact L89 _ _ rfl (by omega) (fun i j a1 a2 a3 => by { have x1 : i = a := (by omega); have x2 : j = a + 1 := (by omega); rw [x1, x2]; have := e42.1; omega })
    · have L50 : ∀ (N : Nat) (r : Int), (b - r).toNat = N → (a + 2 ≤ r ∧ r ≤ b) → (Dsc rk p0 a r) → MW K yiJ35_countRunAndMakeAscending d h 50 [some (.ref e), some (vi a), some (vi b), some (vi r)] [] Q := by
        intro N
        induction N using Nat.strongRecOn with
        | _ N ih50 =>
        intro r hN50 hr hD
        refine j_iload_n (y := yiJ35_countRunAndMakeAscending) dJ35_countRunAndMakeAscending_50 rfl ?_
        refine j_iload_n (y := yiJ35_countRunAndMakeAscending) dJ35_countRunAndMakeAscending_51 rfl ?_
        refine j_icmp_ge (y := yiJ35_countRunAndMakeAscending) 80 dJ35_countRunAndMakeAscending_52 (by decide) ⟨⟨by omega, by omega⟩, ⟨by omega, by omega⟩⟩ (fun c52 => ?_) (fun c52 => ?_)
        · refine m_aload_n (y := yiJ35_countRunAndMakeAscending) dJ35_countRunAndMakeAscending_80 rfl ?_
          refine j_iload_n (y := yiJ35_countRunAndMakeAscending) dJ35_countRunAndMakeAscending_81 rfl ?_
          refine j_iload_n (y := yiJ35_countRunAndMakeAscending) dJ35_countRunAndMakeAscending_82 rfl ?_
          refine m_invS (y := yiJ35_countRunAndMakeAscending) [(.ref e), (vi a), (vi r)] dJ35_countRunAndMakeAscending_83 q1997 q1998 q171 q1999 (c_J35_reverseRange K 2 h rk e cap a b r f0 p0 he hA ⟨by omega, by omega, by omega⟩) pdJ35_reverseRange ⟨Nat.le_of_ble_eq_true rfl, by decide, by omega⟩ (kk_v fun h83 q83 => ?_) kx_v
          obtain ⟨f1, zz, he1, hL1, fr1⟩ := q83
          have hps : h83.2.2 (p0 (a + 1)) = some (true, .inr (8, [(.ref ru), (vi cs), (vi ks)])) := (fr1 _ (by omega)).trans hps
          refine mw_wf (fun hwf83 => ?_)
          have l_he183 := hwf83 _ _ he1
          refine m_goto (y := yiJ35_countRunAndMakeAscending) 119 dJ35_countRunAndMakeAscending_86 (by decide) ?_
          refine j_iload_n (y := yiJ35_countRunAndMakeAscending) dJ35_countRunAndMakeAscending_119 rfl ?_
          refine j_iload_n (y := yiJ35_countRunAndMakeAscending) dJ35_countRunAndMakeAscending_120 rfl ?_
          refine j_isub (y := yiJ35_countRunAndMakeAscending) dJ35_countRunAndMakeAscending_121 ?_
          subst hQ; exact j_iret (y := yiJ35_countRunAndMakeAscending) dJ35_countRunAndMakeAscending_122 rfl (by first | exact ⟨f0, p0, ⟨rfl, rfl⟩, he, hA, ⟨by omega, by omega⟩, (by { rw [show a + (r - a) = r by omega]; exact hD }), Sms.rfl', hI, fun _ _ => rfl⟩ | exact ⟨f1, _, zz, he1, hL1, ⟨by omega, by omega⟩, (by { rw [show a + (r - a) = r by omega]; exact revP_asc hD }), revP_sms ⟨by omega, by omega⟩, revP_inj (by omega) hI, fr1⟩)
        · refine m_aload_n (y := yiJ35_countRunAndMakeAscending) dJ35_countRunAndMakeAscending_55 rfl ?_
          refine j_iload_n (y := yiJ35_countRunAndMakeAscending) dJ35_countRunAndMakeAscending_56 rfl ?_
          refine h_aald5 (y := yiJ35_countRunAndMakeAscending) dJ35_countRunAndMakeAscending_57 he ⟨by omega, by omega⟩ (by omega) ?_
          rw [(hA.1 r (by omega) (by omega)).1]
          show MW K yiJ35_countRunAndMakeAscending d h 58 [some (.ref e), some (vi a), some (vi b), some (vi r)] [(.ref (p0 r))] Q
          obtain ⟨ru2, cs2, ks2, hps2⟩ := (hA.1 r (by omega) (by omega)).2.cell
          have n58 := ne_oa hps2 he
          have hps2 : h.2.2 (p0 r) = some (true, .inr (8, [(.ref ru2), (vi cs2), (vi ks2)])) := hps2
          have l_hps2 := hwf _ _ hps2
          refine m_cast (y := yiJ35_countRunAndMakeAscending) dJ35_countRunAndMakeAscending_58 hps2 rfl q1994 (Or.inr q1534) ?_
          refine m_aload_n (y := yiJ35_countRunAndMakeAscending) dJ35_countRunAndMakeAscending_61 rfl ?_
          refine j_iload_n (y := yiJ35_countRunAndMakeAscending) dJ35_countRunAndMakeAscending_62 rfl ?_
          refine j_iconst (y := yiJ35_countRunAndMakeAscending) dJ35_countRunAndMakeAscending_63 ?_
          refine j_isub (y := yiJ35_countRunAndMakeAscending) dJ35_countRunAndMakeAscending_64 ?_
          refine h_aald5 (y := yiJ35_countRunAndMakeAscending) dJ35_countRunAndMakeAscending_65 he ⟨by omega, by omega⟩ (by omega) ?_
          rw [(hA.1 (r - 1) (by omega) (by omega)).1]
          show MW K yiJ35_countRunAndMakeAscending d h 66 [some (.ref e), some (vi a), some (vi b), some (vi r)] [(.ref (p0 (r - 1))), (.ref (p0 r))] Q
          refine m_invF (y := yiJ35_countRunAndMakeAscending) (rB := (RX9, TX9, 3)) [(.ref (p0 (r - 1)))] dJ35_countRunAndMakeAscending_66 hps2 rfl q1996 q1517 q1516 rfl q1535 q1537 q1538 q1536 q1534 q168 q1539 ⟨by decide, by decide⟩ (by show _ = some 1; decide +kernel) (c_cmp K 1 h rk (p0 r) (p0 (r - 1)) (by omega) (hA.1 _ (by omega) (by omega)).2 (hA.1 _ (by omega) (by omega)).2) pdX9_compareTo ⟨Nat.le_of_ble_eq_true rfl, by decide, by omega⟩ (kk_z fun r66 h66 q66 => ?_) kx_z
          obtain ⟨rfl, e66⟩ := q66
          have b66 := e66.2.2
          refine j_if_ge (y := yiJ35_countRunAndMakeAscending) 80 dJ35_countRunAndMakeAscending_71 (by decide) ⟨by omega, by omega⟩ (fun c71 => ?_) (fun c71 => ?_)
          · refine m_aload_n (y := yiJ35_countRunAndMakeAscending) dJ35_countRunAndMakeAscending_80 rfl ?_
            refine j_iload_n (y := yiJ35_countRunAndMakeAscending) dJ35_countRunAndMakeAscending_81 rfl ?_
            refine j_iload_n (y := yiJ35_countRunAndMakeAscending) dJ35_countRunAndMakeAscending_82 rfl ?_
            refine m_invS (y := yiJ35_countRunAndMakeAscending) [(.ref e), (vi a), (vi r)] dJ35_countRunAndMakeAscending_83 q1997 q1998 q171 q1999 (c_J35_reverseRange K 2 h rk e cap a b r f0 p0 he hA ⟨by omega, by omega, by omega⟩) pdJ35_reverseRange ⟨Nat.le_of_ble_eq_true rfl, by decide, by omega⟩ (kk_v fun h83 q83 => ?_) kx_v
            obtain ⟨f1, zz, he1, hL1, fr1⟩ := q83
            have hps : h83.2.2 (p0 (a + 1)) = some (true, .inr (8, [(.ref ru), (vi cs), (vi ks)])) := (fr1 _ (by omega)).trans hps
            have hps2 : h83.2.2 (p0 r) = some (true, .inr (8, [(.ref ru2), (vi cs2), (vi ks2)])) := (fr1 _ (by omega)).trans hps2
            refine mw_wf (fun hwf83 => ?_)
            have l_he183 := hwf83 _ _ he1
            refine m_goto (y := yiJ35_countRunAndMakeAscending) 119 dJ35_countRunAndMakeAscending_86 (by decide) ?_
            refine j_iload_n (y := yiJ35_countRunAndMakeAscending) dJ35_countRunAndMakeAscending_119 rfl ?_
            refine j_iload_n (y := yiJ35_countRunAndMakeAscending) dJ35_countRunAndMakeAscending_120 rfl ?_
            refine j_isub (y := yiJ35_countRunAndMakeAscending) dJ35_countRunAndMakeAscending_121 ?_
            subst hQ; exact j_iret (y := yiJ35_countRunAndMakeAscending) dJ35_countRunAndMakeAscending_122 rfl (by first | exact ⟨f0, p0, ⟨rfl, rfl⟩, he, hA, ⟨by omega, by omega⟩, (by { rw [show a + (r - a) = r by omega]; exact hD }), Sms.rfl', hI, fun _ _ => rfl⟩ | exact ⟨f1, _, zz, he1, hL1, ⟨by omega, by omega⟩, (by { rw [show a + (r - a) = r by omega]; exact revP_asc hD }), revP_sms ⟨by omega, by omega⟩, revP_inj (by omega) hI, fr1⟩)
          · refine j_iinc (y := yiJ35_countRunAndMakeAscending) [some (.ref e), some (vi a), some (vi b), some (vi (r + 1))] dJ35_countRunAndMakeAscending_74 rfl (by decide) rfl rfl ?_
            refine m_goto (y := yiJ35_countRunAndMakeAscending) 50 dJ35_countRunAndMakeAscending_77 (by decide) ?_
            exact ih50 _ (by omega) _ rfl (by omega) (hD.ext (fun _ => e66.1.mp (by omega)))
      exact L50 _ _ rfl (by omega) (fun i j a1 a2 a3 => by { have x1 : i = a := (by omega); have x2 : j = a + 1 := (by omega); rw [x1, x2]; exact e42.1.mp (by omega) })
  · refine j_iconst (y := yiJ35_countRunAndMakeAscending) dJ35_countRunAndMakeAscending_28 ?_
    subst hQ; exact j_iret (y := yiJ35_countRunAndMakeAscending) dJ35_countRunAndMakeAscending_29 rfl (⟨f0, p0, ⟨rfl, rfl⟩, he, hA, ⟨by omega, by omega⟩, (fun i j a1 a2 a3 => by omega), Sms.rfl', hI, fun _ _ => rfl⟩)
