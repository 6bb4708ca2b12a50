/-! Lastbus: what waiting costs: a wish, one lateness made as great as it must be -/
def RowM (K : KT) (h : MH) (B : Nat) (G : Int → Int → Int) : Prop := ∀ i : Nat, i < 24 → h.2.2 (B + 1 + i) = some (true, ia K 8 (G (i : Int)))
def rlM (G : Int → Int → Int) (W : Int → Int) : Prop := ∀ t c, 0 ≤ t → t < 24 → 0 ≤ c → c < 8 → G t c = W (8 * t + c)
/-- a table of 24 rows of 8 -/
def MxA (K : KT) (h : MH) (B : Nat) (W : Int → Int) : Prop := ∃ (f : Int → Option Nat) (G : Int → Int → Int), h.2.2 B = some (true, aaE K 24 f) ∧ (∀ t, 0 ≤ t → t < 24 → f t = some (B + 1 + t.toNat)) ∧ RowM K h B G ∧ rlM G W
theorem RowM.at {K : KT} {g : MH} {B : Nat} {G : Int → Int → Int} (h : RowM K g B G) {i : Int} (i0 : 0 ≤ i) (i1 : i < 24) : g.2.2 (B + 1 + i.toNat) = some (true, ia K 8 (G i)) := by
  have := h i.toNat (by omega)
  rw [show ((i.toNat : Nat) : Int) = i by omega] at this
  exact this
theorem MxA.cg {K : KT} {h h' : MH} {B : Nat} {W : Int → Int} (H : MxA K h B W) (e : ∀ b, B ≤ b → b ≤ B + 24 → h'.2.2 b = h.2.2 b) : MxA K h' B W := by
  obtain ⟨f, G, h1, h2, h3, h4⟩ := H
  exact ⟨f, G, (e _ (Nat.le_refl _) (by omega)).trans h1, h2, fun i hi => (e _ (by omega) (by omega)).trans (h3 i hi), h4⟩
theorem MxA.up {K : KT} {h h' : MH} {B : Nat} {W : Int → Int} {f : Int → Option Nat} {G : Int → Int → Int} {t c v : Int} (h1 : h'.2.2 B = some (true, aaE K 24 f)) (h2 : ∀ t, 0 ≤ t → t < 24 → f t = some (B + 1 + t.toNat)) (h3 : RowM K h B G) (h4 : rlM G W) (ht : 0 ≤ t ∧ t < 24) (hc : 0 ≤ c ∧ c < 8) (e1 : h'.2.2 (B + 1 + t.toNat) = some (true, ia K 8 (upz (G t) c v))) (e2 : ∀ q, q ≠ B + 1 + t.toNat → h'.2.2 q = h.2.2 q) : MxA K h' B (upz W (8 * t + c) v) := by
  refine ⟨f, gup G t c v, h1, h2, fun i hi => ?_, fun i j i0 i1 j0 j1 => ?_⟩
  · unfold gup
    by_cases e : (i : Int) = t
    · rw [if_pos e, show i = t.toNat by omega]; exact e1
    · rw [if_neg e, e2 _ (by omega)]; exact h3 i hi
  · unfold gup upz
    by_cases e : i = t
    · subst e
      rw [if_pos rfl]
      by_cases e9 : j = c
      · rw [if_pos e9, if_pos (by omega)]
      · rw [if_neg e9, if_neg (by omega)]; exact h4 i j i0 i1 j0 j1
    · rw [if_neg e, if_neg (by omega)]; exact h4 i j i0 i1 j0 j1
/-- what one lateness must be at least, the first k wishes seen -/
def grB (sg : TS) (day mask : Int) (W : Int → Int) (t c : Int) : Nat → Int
  | 0 => if W (8 * t + c) < (if 0 < c then W (8 * t + c - 1) else 0) then (if 0 < c then W (8 * t + c - 1) else 0) else W (8 * t + c)
  | k + 1 => if (sg.2 39 (k : Int) = t ∧ sg.2 40 (k : Int) = c) ∧ mask / 2 ^ k % 2 = 1 ∧ rnP sg day (sg.2 37 (k : Int)) ∧ rnP sg day (sg.2 39 (k : Int)) then (if grB sg day mask W t c k < missB sg W (k : Int) then missB sg W (k : Int) else grB sg day mask W t c k) else grB sg day mask W t c k
theorem grB_s {sg : TS} {day mask : Int} {W : Int → Int} {t c k : Int} (hk : 0 ≤ k) : grB sg day mask W t c (k + 1).toNat = if (sg.2 39 k = t ∧ sg.2 40 k = c) ∧ mask / 2 ^ k.toNat % 2 = 1 ∧ rnP sg day (sg.2 37 k) ∧ rnP sg day (sg.2 39 k) then (if grB sg day mask W t c k.toNat < missB sg W k then missB sg W k else grB sg day mask W t c k.toNat) else grB sg day mask W t c k.toNat := by
  have e : (k + 1).toNat = k.toNat + 1 := by omega
  rw [e]
  have e2 : ((k.toNat : Nat) : Int) = k := by omega
  show (if (sg.2 39 (k.toNat : Int) = t ∧ sg.2 40 (k.toNat : Int) = c) ∧ mask / 2 ^ k.toNat % 2 = 1 ∧ rnP sg day (sg.2 37 (k.toNat : Int)) ∧ rnP sg day (sg.2 39 (k.toNat : Int)) then (if grB sg day mask W t c k.toNat < missB sg W (k.toNat : Int) then missB sg W (k.toNat : Int) else grB sg day mask W t c k.toNat) else grB sg day mask W t c k.toNat) = _
  rw [e2]
theorem grB_k {sg : TS} {day mask : Int} {W : Int → Int} {t c : Int} {k : Nat} : grB sg day mask W t c (k + 1) = if (sg.2 39 (k : Int) = t ∧ sg.2 40 (k : Int) = c) ∧ mask / 2 ^ k % 2 = 1 ∧ rnP sg day (sg.2 37 (k : Int)) ∧ rnP sg day (sg.2 39 (k : Int)) then (if grB sg day mask W t c k < missB sg W (k : Int) then missB sg W (k : Int) else grB sg day mask W t c k) else grB sg day mask W t c k := rfl
theorem grB_ge {sg : TS} {day mask : Int} {W : Int → Int} {t c : Int} (n : Nat) : W (8 * t + c) ≤ grB sg day mask W t c n ∧ (0 < c → W (8 * t + c - 1) ≤ grB sg day mask W t c n) ∧ ∀ w : Nat, w < n → (sg.2 39 (w : Int) = t ∧ sg.2 40 (w : Int) = c) → mask / 2 ^ w % 2 = 1 → rnP sg day (sg.2 37 (w : Int)) → rnP sg day (sg.2 39 (w : Int)) → missB sg W (w : Int) ≤ grB sg day mask W t c n := by
  induction n with
  | zero =>
    refine ⟨?_, fun hc => ?_, fun w hw => absurd hw (by omega)⟩
    · unfold grB; split <;> omega
    · unfold grB; rw [if_pos hc]; split <;> omega
  | succ k ih =>
    obtain ⟨i1, i2, i3⟩ := ih
    have key : grB sg day mask W t c k ≤ grB sg day mask W t c (k + 1) := by
      rw [grB_k]
      split
      · split <;> omega
      · exact Int.le_refl _
    refine ⟨Int.le_trans i1 key, fun hc => Int.le_trans (i2 hc) key, fun w hw h1 h2 h3 h4 => ?_⟩
    by_cases e : w = k
    · subst e
      rw [grB_k, if_pos ⟨h1, h2, h3, h4⟩]
      split <;> omega
    · exact Int.le_trans (i3 w (by omega) h1 h2 h3 h4) key
theorem grB_le {sg : TS} {day mask : Int} {W W' : Int → Int} {t c : Int} (hT : TB sg) (hw : wsOk sg) (hl : leW sg day W W') (hg : gdW sg day mask W') (hv : vlQ sg day t c) (n : Nat) (hn : (n : Int) ≤ sg.1 36) : grB sg day mask W t c n ≤ W' (8 * t + c) := by
  induction n with
  | zero =>
    have a1 := hl t c hv
    have a2 := latOf_b hT day t c
    have a3 := hg.1 t c hv
    unfold grB
    by_cases e : 0 < c
    · have b1 := hl t (c - 1) ⟨hv.1, ⟨by omega, by have := hv.2.1; omega⟩, hv.2.2⟩
      have b2 := hg.2.1 t c hv (by omega)
      rw [show 8 * t + (c - 1) = 8 * t + c - 1 by omega] at b1
      rw [if_pos e]; split <;> omega
    · rw [if_neg e]; split <;> omega
  | succ k ih =>
    have i1 := ih (by omega)
    rw [grB_k]
    split
    · next e =>
      split
      · have b1 := missB_le hw hl (w := (k : Int)) ⟨by omega, by omega⟩ e.2.2.1
        have b2 := hg.2.2 (k : Int) (by omega) (by omega) e.2.1 e.2.2.1 e.2.2.2
        rw [e.1.1, e.1.2] at b2
        omega
      · exact i1
    · exact i1
theorem grB_b {sg : TS} {day mask : Int} {W : Int → Int} {t c : Int} (hT : TB sg) (hw : wsOk sg) (hW : ∀ t c, vlQ sg day t c → 0 ≤ W (8 * t + c) ∧ W (8 * t + c) ≤ 240) (hv : vlQ sg day t c) (n : Nat) (hn : (n : Int) ≤ sg.1 36) : 0 ≤ grB sg day mask W t c n ∧ grB sg day mask W t c n ≤ 4000 := by
  induction n with
  | zero =>
    have a1 := hW t c hv
    unfold grB
    by_cases e : 0 < c
    · have b1 := hW t (c - 1) ⟨hv.1, ⟨by omega, by have := hv.2.1; omega⟩, hv.2.2⟩
      rw [show 8 * t + (c - 1) = 8 * t + c - 1 by omega] at b1
      rw [if_pos e]; split <;> omega
    · rw [if_neg e]; split <;> omega
  | succ k ih =>
    have i1 := ih (by omega)
    rw [grB_k]
    split
    · next e =>
      obtain ⟨u1, u2, -, -⟩ := hw (k : Int) (by omega) (by omega)
      have b1 := hW (sg.2 37 (k : Int)) (sg.2 38 (k : Int) - 1) ⟨u1, ⟨by omega, by omega⟩, e.2.2.1⟩
      rw [show 8 * sg.2 37 (k : Int) + (sg.2 38 (k : Int) - 1) = 8 * sg.2 37 (k : Int) + sg.2 38 (k : Int) - 1 by omega] at b1
      have b2 := missB_b hT hw (w := (k : Int)) ⟨by omega, by omega⟩ b1
      split <;> omega
    · exact i1
section WAI
variable (K : KT) (d : Nat) (h : MH) (z x : Nat) (sg : TS)
theorem c_X1_counts (w day : Int) (q : Nat) (hd : 5 ≤ d) (hT : TB sg) (hW : World K h z x sg) (hO : svOk sg) (hw : (0 ≤ sg.2 37 w ∧ sg.2 37 w < sg.1 8) ∧ (0 ≤ sg.2 39 w ∧ sg.2 39 w < sg.1 8)) (hy : 0 ≤ day ∧ day ≤ 27) (hq : h.2.2 q = some (true, .inr (13, [vi (sg.2 37 w), vi (sg.2 38 w), vi (sg.2 39 w), vi (sg.2 40 w), vi (sg.2 41 w)]))) : Mt K yiX1_counts d [.ref x, .ref q, vi day] h (Rz fun r h' => h = h' ∧ bz (rnP sg day (sg.2 37 w) ∧ rnP sg day (sg.2 39 w)) = r) := by
  have hW9 := hW
  have f8 := of8 (hT.1 8)
  have hW0 := hW
  obtain ⟨own, e0, cc, ch, wk, sv, tr, lt, ws, tx, se, te, we, kp, sp, tp, wp, T, hK, hE, hI, hx, hch, hwk, hsv, htr, hlt, hws, htx, hkp, hR0⟩ := hW
  obtain ⟨hx, hxz, -⟩ := tg_at hx
  obtain ⟨hch, hchz, -⟩ := tg_at hch
  have hE1 := hE.1
  obtain ⟨hE2, hE2z, -⟩ := tg_at hE.2
  obtain ⟨k0, k1, k3, k4, k5, k8, k9, k10, k11, k12⟩ := hK
  have hwk := And.intro hwk.1.C hwk.2
  refine mt_ofQ (by decide) (Nat.le_of_ble_eq_true rfl) (fun Q hQ => ?_)
  show MW K yiX1_counts d h 0 [some (.ref x), some (.ref q), some (vi day)] [] Q
  refine mw_wf (fun hwf => ?_)
  have l_hx := hwf _ _ hx
  have l_hq := hwf _ _ hq
  refine m_aload_n (y := yiX1_counts) dX1_counts_0 rfl ?_
  refine m_aload_n (y := yiX1_counts) dX1_counts_1 rfl ?_
  refine m_invV (y := yiX1_counts) (rB := (RX14, TX14, 5)) [] dX1_counts_2 hq rfl q2879 q2880 q2881 q186 q2882 rfl (c_X14_trip (d := 0) hq) pdX14_trip ⟨Nat.le_of_ble_eq_true rfl, by decide, by omega⟩ (kk_z fun r2 h2 q2 => ?_) kx_z
  obtain ⟨rfl, rfl⟩ := q2
  refine mw_top (x' := (sg.2 37 w)) rfl ?_
  refine j_iload_n (y := yiX1_counts) dX1_counts_5 rfl ?_
  refine m_invV (y := yiX1_counts) (rB := (RX1, TX1, 10)) [(vi (sg.2 37 w)), (vi day)] dX1_counts_6 hx rfl q1877 q1879 qs35 q123 q1880 rfl (c_X1_runs K 4 h z x sg (sg.2 37 w) day (by omega) hT hW9 hw.1 (hO _ hw.1.1 hw.1.2) ⟨by omega, by omega⟩) pdX1_runs ⟨Nat.le_of_ble_eq_true rfl, by decide, by omega⟩ (kk_z fun r6 h6 q6 => ?_) kx_z
  obtain ⟨rfl, rfl⟩ := q6
  refine mw_top (x' := bz ((0 ≤ day ∧ day ≤ 27) ∧ sg.2 7 (28 * sg.2 9 (sg.2 37 w) + day) ≠ 0)) rfl ?_
  refine j_bz_eq (y := yiX1_counts) 28 dX1_counts_9 (by decide) (fun c9 => ?_) (fun c9 => ?_)
  · refine j_iconst (y := yiX1_counts) dX1_counts_28 ?_
    subst hQ; exact j_zret (y := yiX1_counts) dX1_counts_29 rfl (by omega) (⟨rfl, by first | exact (bz_t ⟨c9.2, c21.2⟩).symm | exact (bz_f (fun h9 => c21 ⟨hy, h9.2⟩)).symm | exact (bz_f (fun h9 => c9 ⟨hy, h9.1⟩)).symm⟩)
  · refine m_aload_n (y := yiX1_counts) dX1_counts_12 rfl ?_
    refine m_aload_n (y := yiX1_counts) dX1_counts_13 rfl ?_
    refine m_invV (y := yiX1_counts) (rB := (RX14, TX14, 5)) [] dX1_counts_14 hq rfl q2864 q2865 q2866 q186 q2867 rfl (c_X14_other (d := 0) hq) pdX14_other ⟨Nat.le_of_ble_eq_true rfl, by decide, by omega⟩ (kk_z fun r14 h14 q14 => ?_) kx_z
    obtain ⟨rfl, rfl⟩ := q14
    refine mw_top (x' := (sg.2 39 w)) rfl ?_
    refine j_iload_n (y := yiX1_counts) dX1_counts_17 rfl ?_
    refine m_invV (y := yiX1_counts) (rB := (RX1, TX1, 10)) [(vi (sg.2 39 w)), (vi day)] dX1_counts_18 hx rfl q1877 q1879 qs35 q123 q1880 rfl (c_X1_runs K 4 h z x sg (sg.2 39 w) day (by omega) hT hW9 hw.2 (hO _ hw.2.1 hw.2.2) ⟨by omega, by omega⟩) pdX1_runs ⟨Nat.le_of_ble_eq_true rfl, by decide, by omega⟩ (kk_z fun r18 h18 q18 => ?_) kx_z
    obtain ⟨rfl, rfl⟩ := q18
    refine mw_top (x' := bz ((0 ≤ day ∧ day ≤ 27) ∧ sg.2 7 (28 * sg.2 9 (sg.2 39 w) + day) ≠ 0)) rfl ?_
    refine j_bz_eq (y := yiX1_counts) 28 dX1_counts_21 (by decide) (fun c21 => ?_) (fun c21 => ?_)
    · refine j_iconst (y := yiX1_counts) dX1_counts_28 ?_
      subst hQ; exact j_zret (y := yiX1_counts) dX1_counts_29 rfl (by omega) (⟨rfl, by first | exact (bz_t ⟨c9.2, c21.2⟩).symm | exact (bz_f (fun h9 => c21 ⟨hy, h9.2⟩)).symm | exact (bz_f (fun h9 => c9 ⟨hy, h9.1⟩)).symm⟩)
    · refine j_iconst (y := yiX1_counts) dX1_counts_24 ?_
      refine m_goto (y := yiX1_counts) 29 dX1_counts_25 (by decide) ?_
      subst hQ; exact j_zret (y := yiX1_counts) dX1_counts_29 rfl (by omega) (⟨rfl, by first | exact (bz_t ⟨c9.2, c21.2⟩).symm | exact (bz_f (fun h9 => c21 ⟨hy, h9.2⟩)).symm | exact (bz_f (fun h9 => c9 ⟨hy, h9.1⟩)).symm⟩)
theorem c_X1_readyBy (w : Int) (q B : Nat) (W : Int → Int) (hd : 4 ≤ d) (hT : TB sg) (hS : stOk sg) (hW : World K h z x sg) (hw : (0 ≤ sg.2 37 w ∧ sg.2 37 w < sg.1 8) ∧ (1 ≤ sg.2 38 w ∧ sg.2 38 w < sg.2 10 (sg.2 37 w))) (hq : h.2.2 q = some (true, .inr (13, [vi (sg.2 37 w), vi (sg.2 38 w), vi (sg.2 39 w), vi (sg.2 40 w), vi (sg.2 41 w)]))) (hM : MxA K h B W) : Mt K yiX1_readyBy d [.ref x, .ref q, .ref B] h (Rz fun r h' => h = h' ∧ sg.2 12 (8 * sg.2 37 w + sg.2 38 w) + W (8 * sg.2 37 w + sg.2 38 w - 1) + sg.2 2 (sg.2 11 (8 * sg.2 37 w + sg.2 38 w)) = r) := by
  have f1b := of1 (hT.1 1)
  have f8 := of8 (hT.1 8)
  have hn8 := oa10 (hT.2 10) (sg.2 37 w) (by omega) (by omega)
  have hs0 := hS (sg.2 37 w) (sg.2 38 w) (by omega) (by omega) (by omega) (by omega)
  obtain ⟨f, G, hb1, hb2, hb3, hb4⟩ := hM
  have hrow := hb3.at (i := sg.2 37 w) (by omega) (by omega)
  have hGW := hb4 (sg.2 37 w) (sg.2 38 w - 1) (by omega) (by omega) (by omega) (by omega)
  have hW0 := hW
  obtain ⟨own, e0, cc, ch, wk, sv, tr, lt, ws, tx, se, te, we, kp, sp, tp, wp, T, hK, hE, hI, hx, hch, hwk, hsv, htr, hlt, hws, htx, hkp, hR0⟩ := hW
  obtain ⟨hx, hxz, -⟩ := tg_at hx
  obtain ⟨hch, hchz, -⟩ := tg_at hch
  have hE1 := hE.1
  obtain ⟨hE2, hE2z, -⟩ := tg_at hE.2
  obtain ⟨k0, k1, k3, k4, k5, k8, k9, k10, k11, k12⟩ := hK
  have hwk := And.intro hwk.1.C hwk.2
  obtain ⟨⟨wt, capt, mct, ft, hto, hte, htne, ht0, htw, htcap, htf, htno⟩, htt⟩ := htr
  obtain ⟨hto, htoz, -⟩ := tg_at hto
  obtain ⟨hte, htez, -⟩ := tg_at hte
  obtain ⟨l, e, p, htq, ⟨wl, cl, ml, fl, hlo, hle, hlae, hl0, hlw, hlc, hlf, hlno⟩, hcl⟩ := htt (sg.2 37 w) (by omega) (by omega)
  have htq9 := (tg_at htq).1
  have hlo9 := (tg_at hlo).1
  have hle9 := (tg_at hle).1
  have hcl9 := (tg_at (hcl (sg.2 38 w) (by omega) (by omega))).1
  have eS : trS sg (sg.2 37 w) (sg.2 38 w) = sg.2 11 (8 * sg.2 37 w + sg.2 38 w) := rfl
  refine mt_ofQ (by decide) (Nat.le_of_ble_eq_true rfl) (fun Q hQ => ?_)
  show MW K yiX1_readyBy d h 0 [some (.ref x), some (.ref q), some (.ref B), none] [] Q
  refine mw_wf (fun hwf => ?_)
  have l_hx := hwf _ _ hx
  have l_hch := hwf _ _ hch
  have l_hto := hwf _ _ hto
  have l_hte := hwf _ _ hte
  have l_hq := hwf _ _ hq
  have l_htq9 := hwf _ _ htq9
  have l_hlo9 := hwf _ _ hlo9
  have l_hle9 := hwf _ _ hle9
  have l_hcl9 := hwf _ _ hcl9
  have l_hb1 := hwf _ _ hb1
  have l_hrow := hwf _ _ hrow
  refine m_aload_n (y := yiX1_readyBy) dX1_readyBy_0 rfl ?_
  refine m_getfS (y := yiX1_readyBy) kc_0 4 (by decide) dX1_readyBy_1 q302 hx rfl ?_
  refine m_aload_n (y := yiX1_readyBy) dX1_readyBy_4 rfl ?_
  refine m_invV (y := yiX1_readyBy) (rB := (RX14, TX14, 5)) [] dX1_readyBy_5 hq rfl q2879 q2880 q2881 q186 q2882 rfl (c_X14_trip (d := 0) hq) pdX14_trip ⟨Nat.le_of_ble_eq_true rfl, by decide, by omega⟩ (kk_z fun r5 h5 q5 => ?_) kx_z
  obtain ⟨rfl, rfl⟩ := q5
  refine mw_top (x' := (sg.2 37 w)) rfl ?_
  refine m_invV (y := yiX1_readyBy) (rB := (RJ2, TJ2, 3)) [(vi (sg.2 37 w))] dX1_readyBy_8 hto rfl q1035 q1036 q1037 q126 q1038 rfl (c_J2_get K 2 h _ _ _ _ _ _ _ _ _ (by omega) hto hte ⟨by omega, by omega⟩ ⟨by omega, by omega⟩ (htf _ (by omega) (by omega))) pdJ2_get ⟨Nat.le_of_ble_eq_true rfl, by decide, by omega⟩ (kk_r fun r8 h8 q8 => ?_) kx_r
  obtain ⟨rfl, rfl⟩ := q8
  refine m_cast (y := yiX1_readyBy) dX1_readyBy_11 htq9 rfl q794 (Or.inl rfl) ?_
  refine m_getfN (y := yiX1_readyBy) kc_2 1 (by decide) dX1_readyBy_14 q1146 htq9 rfl ?_
  refine m_aload_n (y := yiX1_readyBy) dX1_readyBy_17 rfl ?_
  refine m_invV (y := yiX1_readyBy) (rB := (RX14, TX14, 5)) [] dX1_readyBy_18 hq rfl q2887 q2888 q2889 q186 q2890 rfl (c_X14_call (d := 0) hq) pdX14_call ⟨Nat.le_of_ble_eq_true rfl, by decide, by omega⟩ (kk_z fun r18 h18 q18 => ?_) kx_z
  obtain ⟨rfl, rfl⟩ := q18
  refine mw_top (x' := (sg.2 38 w)) rfl ?_
  refine m_invV (y := yiX1_readyBy) (rB := (RJ2, TJ2, 3)) [(vi (sg.2 38 w))] dX1_readyBy_21 hlo9 rfl q1035 q1036 q1037 q126 q1038 rfl (c_J2_get K 2 h _ _ _ _ _ _ _ _ _ (by omega) hlo9 hle9 ⟨by omega, by omega⟩ ⟨by omega, by omega⟩ (hlf _ (by omega) (by omega))) pdJ2_get ⟨Nat.le_of_ble_eq_true rfl, by decide, by omega⟩ (kk_r fun r21 h21 q21 => ?_) kx_r
  obtain ⟨rfl, rfl⟩ := q21
  refine m_cast (y := yiX1_readyBy) dX1_readyBy_24 hcl9 rfl q795 (Or.inl rfl) ?_
  refine m_astore_n (y := yiX1_readyBy) dX1_readyBy_27 (by decide) rfl ?_
  show MW K yiX1_readyBy d h 28 [some (.ref x), some (.ref q), some (.ref B), some (.ref (p (sg.2 38 w)))] [] Q
  refine m_aload_n (y := yiX1_readyBy) dX1_readyBy_28 rfl ?_
  refine m_invV (y := yiX1_readyBy) (rB := (RX4, TX4, 3)) [] dX1_readyBy_29 hcl9 rfl q800 q801 q802 q155 q803 rfl (c_X4_arrival (d := 0) hcl9) pdX4_arrival ⟨Nat.le_of_ble_eq_true rfl, by decide, by omega⟩ (kk_z fun r29 h29 q29 => ?_) kx_z
  obtain ⟨rfl, rfl⟩ := q29
  refine mw_top (x' := (trA sg (sg.2 37 w) (sg.2 38 w))) rfl ?_
  refine m_aload_n (y := yiX1_readyBy) dX1_readyBy_32 rfl ?_
  refine m_aload_n (y := yiX1_readyBy) dX1_readyBy_33 rfl ?_
  refine m_invV (y := yiX1_readyBy) (rB := (RX14, TX14, 5)) [] dX1_readyBy_34 hq rfl q2879 q2880 q2881 q186 q2882 rfl (c_X14_trip (d := 0) hq) pdX14_trip ⟨Nat.le_of_ble_eq_true rfl, by decide, by omega⟩ (kk_z fun r34 h34 q34 => ?_) kx_z
  obtain ⟨rfl, rfl⟩ := q34
  refine mw_top (x' := (sg.2 37 w)) rfl ?_
  refine h_aald6 (y := yiX1_readyBy) dX1_readyBy_37 hb1 ⟨by omega, by omega⟩ (by omega) ?_
  rw [hb2 (sg.2 37 w) (by omega) (by omega)]
  show MW K yiX1_readyBy d h 38 [some (.ref x), some (.ref q), some (.ref B), some (.ref (p (sg.2 38 w)))] [(.ref (B + 1 + (sg.2 37 w).toNat)), (vi (trA sg (sg.2 37 w) (sg.2 38 w)))] Q
  refine m_aload_n (y := yiX1_readyBy) dX1_readyBy_38 rfl ?_
  refine m_invV (y := yiX1_readyBy) (rB := (RX14, TX14, 5)) [] dX1_readyBy_39 hq rfl q2887 q2888 q2889 q186 q2890 rfl (c_X14_call (d := 0) hq) pdX14_call ⟨Nat.le_of_ble_eq_true rfl, by decide, by omega⟩ (kk_z fun r39 h39 q39 => ?_) kx_z
  obtain ⟨rfl, rfl⟩ := q39
  refine mw_top (x' := (sg.2 38 w)) rfl ?_
  refine j_iconst (y := yiX1_readyBy) dX1_readyBy_42 ?_
  refine j_isub (y := yiX1_readyBy) dX1_readyBy_43 ?_
  refine j_iald (y := yiX1_readyBy) dX1_readyBy_44 hrow (by omega) ⟨by omega, by omega⟩ ?_
  refine j_iadd (y := yiX1_readyBy) dX1_readyBy_45 ?_
  refine m_aload_n (y := yiX1_readyBy) dX1_readyBy_46 rfl ?_
  refine m_getfS (y := yiX1_readyBy) kc_0 0 (by decide) dX1_readyBy_47 q296 hx rfl ?_
  refine m_aload_n (y := yiX1_readyBy) dX1_readyBy_50 rfl ?_
  refine m_invV (y := yiX1_readyBy) (rB := (RX4, TX4, 3)) [] dX1_readyBy_51 hcl9 rfl q796 q797 q798 q155 q799 rfl (c_X4_stop (d := 0) hcl9) pdX4_stop ⟨Nat.le_of_ble_eq_true rfl, by decide, by omega⟩ (kk_z fun r51 h51 q51 => ?_) kx_z
  obtain ⟨rfl, rfl⟩ := q51
  refine mw_top (x' := (trS sg (sg.2 37 w) (sg.2 38 w))) rfl ?_
  refine j_iald (y := yiX1_readyBy) dX1_readyBy_54 hch (by omega) ⟨by omega, by omega⟩ ?_
  refine j_iadd (y := yiX1_readyBy) dX1_readyBy_55 ?_
  subst hQ; exact j_iret (y := yiX1_readyBy) dX1_readyBy_56 rfl (⟨rfl, by rw [hGW, show 8 * sg.2 37 w + (sg.2 38 w - 1) = 8 * sg.2 37 w + sg.2 38 w - 1 by omega]; rfl⟩)
theorem c_X1_departureOf (w : Int) (q : Nat) (hd : 4 ≤ d) (hT : TB sg) (hW : World K h z x sg) (hw : (0 ≤ sg.2 39 w ∧ sg.2 39 w < sg.1 8) ∧ (0 ≤ sg.2 40 w ∧ sg.2 40 w < sg.2 10 (sg.2 39 w))) (hq : h.2.2 q = some (true, .inr (13, [vi (sg.2 37 w), vi (sg.2 38 w), vi (sg.2 39 w), vi (sg.2 40 w), vi (sg.2 41 w)]))) : Mt K yiX1_departureOf d [.ref x, .ref q] h (Rz fun r h' => h = h' ∧ sg.2 13 (8 * sg.2 39 w + sg.2 40 w) = r) := by
  have f8 := of8 (hT.1 8)
  have hn8 := oa10 (hT.2 10) (sg.2 39 w) (by omega) (by omega)
  have hW0 := hW
  obtain ⟨own, e0, cc, ch, wk, sv, tr, lt, ws, tx, se, te, we, kp, sp, tp, wp, T, hK, hE, hI, hx, hch, hwk, hsv, htr, hlt, hws, htx, hkp, hR0⟩ := hW
  obtain ⟨hx, hxz, -⟩ := tg_at hx
  obtain ⟨hch, hchz, -⟩ := tg_at hch
  have hE1 := hE.1
  obtain ⟨hE2, hE2z, -⟩ := tg_at hE.2
  obtain ⟨k0, k1, k3, k4, k5, k8, k9, k10, k11, k12⟩ := hK
  have hwk := And.intro hwk.1.C hwk.2
  obtain ⟨⟨wt, capt, mct, ft, hto, hte, htne, ht0, htw, htcap, htf, htno⟩, htt⟩ := htr
  obtain ⟨hto, htoz, -⟩ := tg_at hto
  obtain ⟨hte, htez, -⟩ := tg_at hte
  obtain ⟨l, e, p, htq, ⟨wl, cl, ml, fl, hlo, hle, hlae, hl0, hlw, hlc, hlf, hlno⟩, hcl⟩ := htt (sg.2 39 w) (by omega) (by omega)
  have htq9 := (tg_at htq).1
  have hlo9 := (tg_at hlo).1
  have hle9 := (tg_at hle).1
  have hcl9 := (tg_at (hcl (sg.2 40 w) (by omega) (by omega))).1
  refine mt_ofQ (by decide) (Nat.le_of_ble_eq_true rfl) (fun Q hQ => ?_)
  show MW K yiX1_departureOf d h 0 [some (.ref x), some (.ref q)] [] Q
  refine mw_wf (fun hwf => ?_)
  have l_hx := hwf _ _ hx
  have l_hto := hwf _ _ hto
  have l_hte := hwf _ _ hte
  have l_hq := hwf _ _ hq
  have l_htq9 := hwf _ _ htq9
  have l_hlo9 := hwf _ _ hlo9
  have l_hle9 := hwf _ _ hle9
  have l_hcl9 := hwf _ _ hcl9
  refine m_aload_n (y := yiX1_departureOf) dX1_departureOf_0 rfl ?_
  refine m_getfS (y := yiX1_departureOf) kc_0 4 (by decide) dX1_departureOf_1 q302 hx rfl ?_
  refine m_aload_n (y := yiX1_departureOf) dX1_departureOf_4 rfl ?_
  refine m_invV (y := yiX1_departureOf) (rB := (RX14, TX14, 5)) [] dX1_departureOf_5 hq rfl q2864 q2865 q2866 q186 q2867 rfl (c_X14_other (d := 0) hq) pdX14_other ⟨Nat.le_of_ble_eq_true rfl, by decide, by omega⟩ (kk_z fun r5 h5 q5 => ?_) kx_z
  obtain ⟨rfl, rfl⟩ := q5
  refine mw_top (x' := (sg.2 39 w)) rfl ?_
  refine m_invV (y := yiX1_departureOf) (rB := (RJ2, TJ2, 3)) [(vi (sg.2 39 w))] dX1_departureOf_8 hto rfl q1035 q1036 q1037 q126 q1038 rfl (c_J2_get K 2 h _ _ _ _ _ _ _ _ _ (by omega) hto hte ⟨by omega, by omega⟩ ⟨by omega, by omega⟩ (htf _ (by omega) (by omega))) pdJ2_get ⟨Nat.le_of_ble_eq_true rfl, by decide, by omega⟩ (kk_r fun r8 h8 q8 => ?_) kx_r
  obtain ⟨rfl, rfl⟩ := q8
  refine m_cast (y := yiX1_departureOf) dX1_departureOf_11 htq9 rfl q794 (Or.inl rfl) ?_
  refine m_getfN (y := yiX1_departureOf) kc_2 1 (by decide) dX1_departureOf_14 q1146 htq9 rfl ?_
  refine m_aload_n (y := yiX1_departureOf) dX1_departureOf_17 rfl ?_
  refine m_invV (y := yiX1_departureOf) (rB := (RX14, TX14, 5)) [] dX1_departureOf_18 hq rfl q2868 q2869 q2870 q186 q2871 rfl (c_X14_otherCall (d := 0) hq) pdX14_otherCall ⟨Nat.le_of_ble_eq_true rfl, by decide, by omega⟩ (kk_z fun r18 h18 q18 => ?_) kx_z
  obtain ⟨rfl, rfl⟩ := q18
  refine mw_top (x' := (sg.2 40 w)) rfl ?_
  refine m_invV (y := yiX1_departureOf) (rB := (RJ2, TJ2, 3)) [(vi (sg.2 40 w))] dX1_departureOf_21 hlo9 rfl q1035 q1036 q1037 q126 q1038 rfl (c_J2_get K 2 h _ _ _ _ _ _ _ _ _ (by omega) hlo9 hle9 ⟨by omega, by omega⟩ ⟨by omega, by omega⟩ (hlf _ (by omega) (by omega))) pdJ2_get ⟨Nat.le_of_ble_eq_true rfl, by decide, by omega⟩ (kk_r fun r21 h21 q21 => ?_) kx_r
  obtain ⟨rfl, rfl⟩ := q21
  refine m_cast (y := yiX1_departureOf) dX1_departureOf_24 hcl9 rfl q795 (Or.inl rfl) ?_
  refine m_invV (y := yiX1_departureOf) (rB := (RX4, TX4, 3)) [] dX1_departureOf_27 hcl9 rfl q804 q805 q806 q155 q807 rfl (c_X4_departure (d := 0) hcl9) pdX4_departure ⟨Nat.le_of_ble_eq_true rfl, by decide, by omega⟩ (kk_z fun r27 h27 q27 => ?_) kx_z
  obtain ⟨rfl, rfl⟩ := q27
  refine mw_top (x' := (trD sg (sg.2 39 w) (sg.2 40 w))) rfl ?_
  subst hQ; exact j_iret (y := yiX1_departureOf) dX1_departureOf_30 rfl (⟨rfl, rfl⟩)
theorem c_X1_isHeld (m w : Int) (hm : 0 ≤ m ∧ m ≤ 63) (hw : 0 ≤ w ∧ w < 6) : Mt K yiX1_isHeld d [vi m, vi w] h (Rz fun r h' => h = h' ∧ bz (m / 2 ^ w.toNat % 2 = 1) = r) := by
  refine mt_ofQ (by decide) (Nat.le_of_ble_eq_true rfl) (fun Q hQ => ?_)
  show MW K yiX1_isHeld d h 0 [some (vi m), some (vi w)] [] Q
  refine mw_wf (fun hwf => ?_)
  refine j_iload_n (y := yiX1_isHeld) dX1_isHeld_0 rfl ?_
  refine j_iload_n (y := yiX1_isHeld) dX1_isHeld_1 rfl ?_
  refine j_ishr (y := yiX1_isHeld) dX1_isHeld_2 ⟨by omega, by omega⟩ ⟨by omega, by omega⟩ ?_
  refine j_iconst (y := yiX1_isHeld) dX1_isHeld_3 ?_
  refine j_iand1 (y := yiX1_isHeld) dX1_isHeld_4 ?_
  refine j_iconst (y := yiX1_isHeld) dX1_isHeld_5 ?_
  refine j_icmp_ne (y := yiX1_isHeld) 13 dX1_isHeld_6 (by decide) ⟨⟨by omega, by omega⟩, ⟨by omega, by omega⟩⟩ (fun c6 => ?_) (fun c6 => ?_)
  · refine j_iconst (y := yiX1_isHeld) dX1_isHeld_13 ?_
    subst hQ; exact j_zret (y := yiX1_isHeld) dX1_isHeld_14 rfl (by omega) (⟨rfl, by first | exact (bz_t (by omega)).symm | exact (bz_f (by omega)).symm⟩)
  · refine j_iconst (y := yiX1_isHeld) dX1_isHeld_9 ?_
    refine m_goto (y := yiX1_isHeld) 14 dX1_isHeld_10 (by decide) ?_
    subst hQ; exact j_zret (y := yiX1_isHeld) dX1_isHeld_14 rfl (by omega) (⟨rfl, by first | exact (bz_t (by omega)).symm | exact (bz_f (by omega)).symm⟩)
theorem c_grows (day mask t c : Int) (B : Nat) (W : Int → Int) (hd : 6 ≤ d) (hT : TB sg) (hS : stOk sg) (hO : svOk sg) (hw : wsOk sg) (hW : World K h z x sg) (hzB : z ≤ B) (hy : 0 ≤ day ∧ day ≤ 27) (hm : 0 ≤ mask ∧ mask ≤ 63) (hv : vlQ sg day t c) (hM : MxA K h B W) (hb : ∀ t c, vlQ sg day t c → 0 ≤ W (8 * t + c) ∧ W (8 * t + c) ≤ 240) : Mt K yiX1_grows d [.ref x, .ref B, vi day, vi mask, vi t, vi c] h (Rz fun r h' => bz (W (8 * t + c) < grB sg day mask W t c (sg.1 36).toNat) = r ∧ MxA K h' B (upz W (8 * t + c) (grB sg day mask W t c (sg.1 36).toNat)) ∧ (h'.1 = h.1 ∧ h'.2.1 = h.2.1) ∧ ∀ b, b < z → h'.2.2 b = h.2.2 b) := by
  have f8 := of8 (hT.1 8)
  have f36 := of36 (hT.1 36)
  have hW9 := hW
  have hv1 := hv.1
  have hv2 := hv.2.1
  have hn8 := oa10 (hT.2 10) t (by omega) (by omega)
  have hM9 := hM
  have hbt := hb t c hv
  have hbm : 0 < c → 0 ≤ W (8 * t + c - 1) ∧ W (8 * t + c - 1) ≤ 240 := fun h9 => by
    have := hb t (c - 1) ⟨hv.1, ⟨by omega, by omega⟩, hv.2.2⟩
    rw [show 8 * t + (c - 1) = 8 * t + c - 1 by omega] at this
    exact this
  obtain ⟨f, G, hb1, hb2, hb3, hb4⟩ := hM
  have hrow := hb3.at (i := t) (by omega) (by omega)
  have ga1 := hb4 t c (by omega) (by omega) (by omega) (by omega)
  have ga2 : 0 < c → G t (c - 1) = W (8 * t + c - 1) := fun h9 => by
    have := hb4 t (c - 1) (by omega) (by omega) (by omega) (by omega)
    rw [show 8 * t + (c - 1) = 8 * t + c - 1 by omega] at this
    exact this
  have hW0 := hW
  obtain ⟨own, e0, cc, ch, wk, sv, tr, lt, ws, tx, se, te, we, kp, sp, tp, wp, T, hK, hE, hI, hx, hch, hwk, hsv, htr, hlt, hws, htx, hkp, hR0⟩ := hW
  obtain ⟨hx, hxz, -⟩ := tg_at hx
  obtain ⟨hch, hchz, -⟩ := tg_at hch
  have hE1 := hE.1
  obtain ⟨hE2, hE2z, -⟩ := tg_at hE.2
  obtain ⟨k0, k1, k3, k4, k5, k8, k9, k10, k11, k12⟩ := hK
  have hwk := And.intro hwk.1.C hwk.2
  obtain ⟨⟨ww, capw, mcw, fw, hwo, hwe, hwne, hw0, hww, hwcap, hwf0, hwno⟩, hwt⟩ := hws
  obtain ⟨hwo, hwoz, -⟩ := tg_at hwo
  obtain ⟨hwe, hwez, -⟩ := tg_at hwe
  refine mt_ofQ (by decide) (Nat.le_of_ble_eq_true rfl) (fun Q hQ => ?_)
  show MW K yiX1_grows d h 0 [some (.ref x), some (.ref B), some (vi day), some (vi mask), some (vi t), some (vi c), none, none, none, none] [] Q
  refine mw_wf (fun hwf => ?_)
  have l_hx := hwf _ _ hx
  have l_hwo := hwf _ _ hwo
  have l_hwe := hwf _ _ hwe
  have l_hb1 := hwf _ _ hb1
  have l_hrow := hwf _ _ hrow
  have fR : ∀ b, (b < z) → h.2.2 b = h.2.2 b := fun _ _ => rfl
  refine m_aload_n (y := yiX1_grows) dX1_grows_0 rfl ?_
  refine j_iload (y := yiX1_grows) dX1_grows_1 rfl ?_
  refine h_aald6 (y := yiX1_grows) dX1_grows_3 hb1 ⟨by omega, by omega⟩ (by omega) ?_
  rw [hb2 t (by omega) (by omega)]
  show MW K yiX1_grows d h 4 [some (.ref x), some (.ref B), some (vi day), some (vi mask), some (vi t), some (vi c), none, none, none, none] [(.ref (B + 1 + t.toNat))] Q
  refine j_iload (y := yiX1_grows) dX1_grows_4 rfl ?_
  have g9 := ga1
  refine j_iald (y := yiX1_grows) dX1_grows_6 hrow (by omega) ⟨by omega, by omega⟩ ?_
  refine j_iload (y := yiX1_grows) dX1_grows_7 rfl ?_
  refine j_if_le (y := yiX1_grows) 24 dX1_grows_9 (by decide) ⟨by omega, by omega⟩ (fun c9 => ?_) (fun c9 => ?_)
  · refine j_iconst (y := yiX1_grows) dX1_grows_24 ?_
    refine m_mmax (y := yiX1_grows) dX1_grows_25 q2368 q386 q141 q387 ⟨⟨by omega, by omega⟩, ⟨by omega, by omega⟩⟩ ⟨Nat.le_of_ble_eq_true rfl, by omega⟩ ?_
    refine j_istore (y := yiX1_grows) [some (.ref x), some (.ref B), some (vi day), some (vi mask), some (vi t), some (vi c), some (vi (if ((G t) c) < 0 then 0 else ((G t) c))), none, none, none] dX1_grows_28 (by decide) rfl rfl ?_
    refine j_iconst (y := yiX1_grows) dX1_grows_30 ?_
    refine j_istore (y := yiX1_grows) [some (.ref x), some (.ref B), some (vi day), some (vi mask), some (vi t), some (vi c), some (vi (if ((G t) c) < 0 then 0 else ((G t) c))), some (vi 0), none, none] dX1_grows_31 (by decide) rfl rfl ?_
    have L33 : ∀ (N : Nat) (le k : Int), (6 - k).toNat = N → (0 ≤ k ∧ k ≤ sg.1 36) → (le = grB sg day mask W t c k.toNat) → MW K yiX1_grows d h 33 [some (.ref x), some (.ref B), some (vi day), some (vi mask), some (vi t), some (vi c), some (vi le), some (vi k), none, none] [] Q := by
      intro N
      induction N using Nat.strongRecOn with
      | _ N ih33 =>
      intro le k hN33 hk hl
      have hlb := grB_b (mask := mask) hT hw hb hv k.toNat (by omega)
      refine j_iload (y := yiX1_grows) dX1_grows_33 rfl ?_
      refine m_aload_n (y := yiX1_grows) dX1_grows_35 rfl ?_
      refine m_getfS (y := yiX1_grows) kc_0 6 (by decide) dX1_grows_36 q304 hx rfl ?_
      refine m_invV (y := yiX1_grows) (rB := (RJ2, TJ2, 3)) [] dX1_grows_39 hwo rfl q333 q334 q335 q126 q336 rfl (c_J2_size K 0 h _ _ _ _ hwo) pdJ2_size ⟨Nat.le_of_ble_eq_true rfl, by decide, by omega⟩ (kk_z fun r39 h39 q39 => ?_) kx_z
      obtain ⟨rfl, rfl⟩ := q39
      refine mw_top (x' := sg.1 36) rfl ?_
      refine j_icmp_ge (y := yiX1_grows) 137 dX1_grows_42 (by decide) ⟨⟨by omega, by omega⟩, ⟨by omega, by omega⟩⟩ (fun c42 => ?_) (fun c42 => ?_)
      · have ek : k = sg.1 36 := by omega
        refine j_iload (y := yiX1_grows) dX1_grows_137 rfl ?_
        refine m_aload_n (y := yiX1_grows) dX1_grows_139 rfl ?_
        refine j_iload (y := yiX1_grows) dX1_grows_140 rfl ?_
        refine h_aald6 (y := yiX1_grows) dX1_grows_142 hb1 ⟨by omega, by omega⟩ (by omega) ?_
        rw [hb2 t (by omega) (by omega)]
        show MW K yiX1_grows d h 143 [some (.ref x), some (.ref B), some (vi day), some (vi mask), some (vi t), some (vi c), some (vi le), some (vi k), none, none] [(.ref (B + 1 + t.toNat)), (vi le)] Q
        refine j_iload (y := yiX1_grows) dX1_grows_143 rfl ?_
        refine j_iald (y := yiX1_grows) dX1_grows_145 hrow (by omega) ⟨by omega, by omega⟩ ?_
        refine j_icmp_le (y := yiX1_grows) 153 dX1_grows_146 (by decide) ⟨⟨by omega, by omega⟩, ⟨by omega, by omega⟩⟩ (fun c146 => ?_) (fun c146 => ?_)
        · refine j_iconst (y := yiX1_grows) dX1_grows_153 ?_
          refine j_istore (y := yiX1_grows) [some (.ref x), some (.ref B), some (vi day), some (vi mask), some (vi t), some (vi c), some (vi le), some (vi 0), none, none] dX1_grows_154 (by decide) rfl rfl ?_
          refine m_aload_n (y := yiX1_grows) dX1_grows_156 rfl ?_
          refine j_iload (y := yiX1_grows) dX1_grows_157 rfl ?_
          refine h_aald6 (y := yiX1_grows) dX1_grows_159 hb1 ⟨by omega, by omega⟩ (by omega) ?_
          rw [hb2 t (by omega) (by omega)]
          show MW K yiX1_grows d h 160 [some (.ref x), some (.ref B), some (vi day), some (vi mask), some (vi t), some (vi c), some (vi le), some (vi 0), none, none] [(.ref (B + 1 + t.toNat))] Q
          refine j_iload (y := yiX1_grows) dX1_grows_160 rfl ?_
          refine j_iload (y := yiX1_grows) dX1_grows_162 rfl ?_
          refine j_iast (y := yiX1_grows) dX1_grows_164 hrow (by omega) ⟨by omega, by omega⟩ (hp_put fun g1 g1H => ?_)
          have hb1 : g1.2.2 B = some (true, aaE K 24 f) := (g1H.2.2.2 _ (by omega)).trans hb1
          have fR : ∀ b, (b < z) → g1.2.2 b = h.2.2 b := fun b hb => (g1H.2.2.2 b (by omega)).trans (fR b hb)
          have hrow : g1.2.2 (B + 1 + t.toNat) = some (true, ia K 8 (upz (G t) c le)) := g1H.2.2.1
          have g11 := g1H.1
          have g12 := g1H.2.1
          refine j_iload (y := yiX1_grows) dX1_grows_165 rfl ?_
          subst hQ; exact j_zret (y := yiX1_grows) dX1_grows_167 rfl (by omega) (⟨by rw [ek] at hl; rw [← hl, ← ga1]; first | exact (bz_t (by omega)).symm | exact (bz_f (by omega)).symm, by rw [ek] at hl; rw [← hl]; exact MxA.up hb1 hb2 hb3 hb4 ⟨by omega, by omega⟩ ⟨by omega, by omega⟩ hrow (g1H.2.2.2), by omega, fR⟩)
        · refine j_iconst (y := yiX1_grows) dX1_grows_149 ?_
          refine m_goto (y := yiX1_grows) 154 dX1_grows_150 (by decide) ?_
          refine j_istore (y := yiX1_grows) [some (.ref x), some (.ref B), some (vi day), some (vi mask), some (vi t), some (vi c), some (vi le), some (vi 1), none, none] dX1_grows_154 (by decide) rfl rfl ?_
          refine m_aload_n (y := yiX1_grows) dX1_grows_156 rfl ?_
          refine j_iload (y := yiX1_grows) dX1_grows_157 rfl ?_
          refine h_aald6 (y := yiX1_grows) dX1_grows_159 hb1 ⟨by omega, by omega⟩ (by omega) ?_
          rw [hb2 t (by omega) (by omega)]
          show MW K yiX1_grows d h 160 [some (.ref x), some (.ref B), some (vi day), some (vi mask), some (vi t), some (vi c), some (vi le), some (vi 1), none, none] [(.ref (B + 1 + t.toNat))] Q
          refine j_iload (y := yiX1_grows) dX1_grows_160 rfl ?_
          refine j_iload (y := yiX1_grows) dX1_grows_162 rfl ?_
          refine j_iast (y := yiX1_grows) dX1_grows_164 hrow (by omega) ⟨by omega, by omega⟩ (hp_put fun g2 g2H => ?_)
          have hb1 : g2.2.2 B = some (true, aaE K 24 f) := (g2H.2.2.2 _ (by omega)).trans hb1
          have fR : ∀ b, (b < z) → g2.2.2 b = h.2.2 b := fun b hb => (g2H.2.2.2 b (by omega)).trans (fR b hb)
          have hrow : g2.2.2 (B + 1 + t.toNat) = some (true, ia K 8 (upz (G t) c le)) := g2H.2.2.1
          have g21 := g2H.1
          have g22 := g2H.2.1
          refine j_iload (y := yiX1_grows) dX1_grows_165 rfl ?_
          subst hQ; exact j_zret (y := yiX1_grows) dX1_grows_167 rfl (by omega) (⟨by rw [ek] at hl; rw [← hl, ← ga1]; first | exact (bz_t (by omega)).symm | exact (bz_f (by omega)).symm, by rw [ek] at hl; rw [← hl]; exact MxA.up hb1 hb2 hb3 hb4 ⟨by omega, by omega⟩ ⟨by omega, by omega⟩ hrow (g2H.2.2.2), by omega, fR⟩)
      · refine m_aload_n (y := yiX1_grows) dX1_grows_45 rfl ?_
        refine m_getfS (y := yiX1_grows) kc_0 6 (by decide) dX1_grows_46 q304 hx rfl ?_
        refine j_iload (y := yiX1_grows) dX1_grows_49 rfl ?_
        refine m_invV (y := yiX1_grows) (rB := (RJ2, TJ2, 3)) [(vi k)] dX1_grows_51 hwo rfl q1035 q1036 q1037 q126 q1038 rfl (c_J2_get K 2 h _ _ _ _ _ _ _ _ _ (by omega) hwo hwe ⟨by omega, by omega⟩ ⟨by omega, by omega⟩ (hwf0 _ (by omega) (by omega))) pdJ2_get ⟨Nat.le_of_ble_eq_true rfl, by decide, by omega⟩ (kk_r fun r51 h51 q51 => ?_) kx_r
        obtain ⟨rfl, rfl⟩ := q51
        have hq8 : h.2.2 (wp k) = some (true, .inr (13, [(vi (sg.2 37 k)), (vi (sg.2 38 k)), (vi (sg.2 39 k)), (vi (sg.2 40 k)), (vi (sg.2 41 k))])) := (tg_at (hwt k (by omega) (by omega))).1
        have l_hq8 := hwf _ _ hq8
        refine m_cast (y := yiX1_grows) dX1_grows_54 hq8 rfl q2823 (Or.inl rfl) ?_
        refine m_astore (y := yiX1_grows) dX1_grows_57 (by decide) rfl ?_
        show MW K yiX1_grows d h 59 [some (.ref x), some (.ref B), some (vi day), some (vi mask), some (vi t), some (vi c), some (vi le), some (vi k), some (.ref (wp k)), none] [] Q
        have hwk := hw k (by omega) (by omega)
        have hq9 := (tg_at (hwt k (by omega) (by omega))).1
        have nw1 := oa10 (hT.2 10) (sg.2 37 k) (by omega) (by omega)
        have nw2 := oa10 (hT.2 10) (sg.2 39 k) (by omega) (by omega)
        refine m_aload (y := yiX1_grows) dX1_grows_59 rfl ?_
        refine m_invV (y := yiX1_grows) (rB := (RX14, TX14, 5)) [] dX1_grows_61 hq8 rfl q2864 q2865 q2866 q186 q2867 rfl (c_X14_other (d := 0) hq8) pdX14_other ⟨Nat.le_of_ble_eq_true rfl, by decide, by omega⟩ (kk_z fun r61 h61 q61 => ?_) kx_z
        obtain ⟨rfl, rfl⟩ := q61
        refine mw_top (x' := (sg.2 39 k)) rfl ?_
        refine j_iload (y := yiX1_grows) dX1_grows_64 rfl ?_
        refine j_icmp_ne (y := yiX1_grows) 83 dX1_grows_66 (by decide) ⟨⟨by omega, by omega⟩, ⟨by omega, by omega⟩⟩ (fun c66 => ?_) (fun c66 => ?_)
        · refine j_iconst (y := yiX1_grows) dX1_grows_83 ?_
          refine j_istore (y := yiX1_grows) [some (.ref x), some (.ref B), some (vi day), some (vi mask), some (vi t), some (vi c), some (vi le), some (vi k), some (.ref (wp k)), some (vi 0)] dX1_grows_84 (by decide) rfl rfl ?_
          refine j_iload (y := yiX1_grows) dX1_grows_86 rfl ?_
          refine j_if_eq (y := yiX1_grows) 131 dX1_grows_88 (by decide) ⟨by decide, by decide⟩ (fun _ => ?_) (fun c => absurd c (by decide))
          refine j_iinc (y := yiX1_grows) [some (.ref x), some (.ref B), some (vi day), some (vi mask), some (vi t), some (vi c), some (vi le), some (vi (k + 1)), some (.ref (wp k)), some (vi 0)] dX1_grows_131 rfl (by decide) rfl rfl ?_
          refine m_goto (y := yiX1_grows) 33 dX1_grows_134 (by decide) ?_
          refine mw_forget 8 ?_
          refine mw_forget 9 ?_
          exact ih33 _ (by omega) _ _ rfl (by omega) (by rw [grB_s hk.1]; first | (rw [if_pos (show ((sg.2 39 k = t ∧ sg.2 40 k = c) ∧ mask / 2 ^ k.toNat % 2 = 1 ∧ rnP sg day (sg.2 37 k) ∧ rnP sg day (sg.2 39 k)) from ⟨⟨by omega, by omega⟩, c97, c107⟩), ← hl]; rfl) | (rw [if_neg (show ¬ ((sg.2 39 k = t ∧ sg.2 40 k = c) ∧ mask / 2 ^ k.toNat % 2 = 1 ∧ rnP sg day (sg.2 37 k) ∧ rnP sg day (sg.2 39 k)) from fun h9 => c107 h9.2.2), hl]) | (rw [if_neg (show ¬ ((sg.2 39 k = t ∧ sg.2 40 k = c) ∧ mask / 2 ^ k.toNat % 2 = 1 ∧ rnP sg day (sg.2 37 k) ∧ rnP sg day (sg.2 39 k)) from fun h9 => c97 h9.2.1), hl]) | (rw [if_neg (show ¬ ((sg.2 39 k = t ∧ sg.2 40 k = c) ∧ mask / 2 ^ k.toNat % 2 = 1 ∧ rnP sg day (sg.2 37 k) ∧ rnP sg day (sg.2 39 k)) from fun h9 => absurd h9.1 (by omega)), hl]))
        · refine m_aload (y := yiX1_grows) dX1_grows_69 rfl ?_
          refine m_invV (y := yiX1_grows) (rB := (RX14, TX14, 5)) [] dX1_grows_71 hq8 rfl q2868 q2869 q2870 q186 q2871 rfl (c_X14_otherCall (d := 0) hq8) pdX14_otherCall ⟨Nat.le_of_ble_eq_true rfl, by decide, by omega⟩ (kk_z fun r71 h71 q71 => ?_) kx_z
          obtain ⟨rfl, rfl⟩ := q71
          refine mw_top (x' := (sg.2 40 k)) rfl ?_
          refine j_iload (y := yiX1_grows) dX1_grows_74 rfl ?_
          refine j_icmp_ne (y := yiX1_grows) 83 dX1_grows_76 (by decide) ⟨⟨by omega, by omega⟩, ⟨by omega, by omega⟩⟩ (fun c76 => ?_) (fun c76 => ?_)
          · refine j_iconst (y := yiX1_grows) dX1_grows_83 ?_
            refine j_istore (y := yiX1_grows) [some (.ref x), some (.ref B), some (vi day), some (vi mask), some (vi t), some (vi c), some (vi le), some (vi k), some (.ref (wp k)), some (vi 0)] dX1_grows_84 (by decide) rfl rfl ?_
            refine j_iload (y := yiX1_grows) dX1_grows_86 rfl ?_
            refine j_if_eq (y := yiX1_grows) 131 dX1_grows_88 (by decide) ⟨by decide, by decide⟩ (fun _ => ?_) (fun c => absurd c (by decide))
            refine j_iinc (y := yiX1_grows) [some (.ref x), some (.ref B), some (vi day), some (vi mask), some (vi t), some (vi c), some (vi le), some (vi (k + 1)), some (.ref (wp k)), some (vi 0)] dX1_grows_131 rfl (by decide) rfl rfl ?_
            refine m_goto (y := yiX1_grows) 33 dX1_grows_134 (by decide) ?_
            refine mw_forget 8 ?_
            refine mw_forget 9 ?_
            exact ih33 _ (by omega) _ _ rfl (by omega) (by rw [grB_s hk.1]; first | (rw [if_pos (show ((sg.2 39 k = t ∧ sg.2 40 k = c) ∧ mask / 2 ^ k.toNat % 2 = 1 ∧ rnP sg day (sg.2 37 k) ∧ rnP sg day (sg.2 39 k)) from ⟨⟨by omega, by omega⟩, c97, c107⟩), ← hl]; rfl) | (rw [if_neg (show ¬ ((sg.2 39 k = t ∧ sg.2 40 k = c) ∧ mask / 2 ^ k.toNat % 2 = 1 ∧ rnP sg day (sg.2 37 k) ∧ rnP sg day (sg.2 39 k)) from fun h9 => c107 h9.2.2), hl]) | (rw [if_neg (show ¬ ((sg.2 39 k = t ∧ sg.2 40 k = c) ∧ mask / 2 ^ k.toNat % 2 = 1 ∧ rnP sg day (sg.2 37 k) ∧ rnP sg day (sg.2 39 k)) from fun h9 => c97 h9.2.1), hl]) | (rw [if_neg (show ¬ ((sg.2 39 k = t ∧ sg.2 40 k = c) ∧ mask / 2 ^ k.toNat % 2 = 1 ∧ rnP sg day (sg.2 37 k) ∧ rnP sg day (sg.2 39 k)) from fun h9 => absurd h9.1 (by omega)), hl]))
          · refine j_iconst (y := yiX1_grows) dX1_grows_79 ?_
            refine m_goto (y := yiX1_grows) 84 dX1_grows_80 (by decide) ?_
            refine j_istore (y := yiX1_grows) [some (.ref x), some (.ref B), some (vi day), some (vi mask), some (vi t), some (vi c), some (vi le), some (vi k), some (.ref (wp k)), some (vi 1)] dX1_grows_84 (by decide) rfl rfl ?_
            refine j_iload (y := yiX1_grows) dX1_grows_86 rfl ?_
            refine j_if_eq (y := yiX1_grows) 131 dX1_grows_88 (by decide) ⟨by decide, by decide⟩ (fun c => absurd c (by decide)) (fun _ => ?_)
            refine j_iload_n (y := yiX1_grows) dX1_grows_91 rfl ?_
            refine j_iload (y := yiX1_grows) dX1_grows_92 rfl ?_
            refine m_invS (y := yiX1_grows) [(vi mask), (vi k)] dX1_grows_94 q2872 q2873 q123 q2874 (c_X1_isHeld K 0 h mask k hm ⟨by omega, by omega⟩) pdX1_isHeld ⟨Nat.le_of_ble_eq_true rfl, by decide, by omega⟩ (kk_z fun r94 h94 q94 => ?_) kx_z
            obtain ⟨rfl, rfl⟩ := q94
            refine mw_top (x' := bz (mask / 2 ^ k.toNat % 2 = 1)) rfl ?_
            refine j_bz_eq (y := yiX1_grows) 131 dX1_grows_97 (by decide) (fun c97 => ?_) (fun c97 => ?_)
            · refine j_iinc (y := yiX1_grows) [some (.ref x), some (.ref B), some (vi day), some (vi mask), some (vi t), some (vi c), some (vi le), some (vi (k + 1)), some (.ref (wp k)), some (vi 1)] dX1_grows_131 rfl (by decide) rfl rfl ?_
              refine m_goto (y := yiX1_grows) 33 dX1_grows_134 (by decide) ?_
              refine mw_forget 8 ?_
              refine mw_forget 9 ?_
              exact ih33 _ (by omega) _ _ rfl (by omega) (by rw [grB_s hk.1]; first | (rw [if_pos (show ((sg.2 39 k = t ∧ sg.2 40 k = c) ∧ mask / 2 ^ k.toNat % 2 = 1 ∧ rnP sg day (sg.2 37 k) ∧ rnP sg day (sg.2 39 k)) from ⟨⟨by omega, by omega⟩, c97, c107⟩), ← hl]; rfl) | (rw [if_neg (show ¬ ((sg.2 39 k = t ∧ sg.2 40 k = c) ∧ mask / 2 ^ k.toNat % 2 = 1 ∧ rnP sg day (sg.2 37 k) ∧ rnP sg day (sg.2 39 k)) from fun h9 => c107 h9.2.2), hl]) | (rw [if_neg (show ¬ ((sg.2 39 k = t ∧ sg.2 40 k = c) ∧ mask / 2 ^ k.toNat % 2 = 1 ∧ rnP sg day (sg.2 37 k) ∧ rnP sg day (sg.2 39 k)) from fun h9 => c97 h9.2.1), hl]) | (rw [if_neg (show ¬ ((sg.2 39 k = t ∧ sg.2 40 k = c) ∧ mask / 2 ^ k.toNat % 2 = 1 ∧ rnP sg day (sg.2 37 k) ∧ rnP sg day (sg.2 39 k)) from fun h9 => absurd h9.1 (by omega)), hl]))
            · refine m_aload_n (y := yiX1_grows) dX1_grows_100 rfl ?_
              refine m_aload (y := yiX1_grows) dX1_grows_101 rfl ?_
              refine j_iload_n (y := yiX1_grows) dX1_grows_103 rfl ?_
              refine m_invV (y := yiX1_grows) (rB := (RX1, TX1, 10)) [(.ref (wp k)), (vi day)] dX1_grows_104 hx rfl q2875 q2877 qs65 q123 q2878 rfl (c_X1_counts K 5 h z x sg k day (wp k) (by omega) hT hW9 hO ⟨hwk.1, hwk.2.2.1⟩ hy hq9) pdX1_counts ⟨Nat.le_of_ble_eq_true rfl, by decide, by omega⟩ (kk_z fun r104 h104 q104 => ?_) kx_z
              obtain ⟨rfl, rfl⟩ := q104
              refine mw_top (x' := bz (rnP sg day (sg.2 37 k) ∧ rnP sg day (sg.2 39 k))) rfl ?_
              refine j_bz_eq (y := yiX1_grows) 131 dX1_grows_107 (by decide) (fun c107 => ?_) (fun c107 => ?_)
              · refine j_iinc (y := yiX1_grows) [some (.ref x), some (.ref B), some (vi day), some (vi mask), some (vi t), some (vi c), some (vi le), some (vi (k + 1)), some (.ref (wp k)), some (vi 1)] dX1_grows_131 rfl (by decide) rfl rfl ?_
                refine m_goto (y := yiX1_grows) 33 dX1_grows_134 (by decide) ?_
                refine mw_forget 8 ?_
                refine mw_forget 9 ?_
                exact ih33 _ (by omega) _ _ rfl (by omega) (by rw [grB_s hk.1]; first | (rw [if_pos (show ((sg.2 39 k = t ∧ sg.2 40 k = c) ∧ mask / 2 ^ k.toNat % 2 = 1 ∧ rnP sg day (sg.2 37 k) ∧ rnP sg day (sg.2 39 k)) from ⟨⟨by omega, by omega⟩, c97, c107⟩), ← hl]; rfl) | (rw [if_neg (show ¬ ((sg.2 39 k = t ∧ sg.2 40 k = c) ∧ mask / 2 ^ k.toNat % 2 = 1 ∧ rnP sg day (sg.2 37 k) ∧ rnP sg day (sg.2 39 k)) from fun h9 => c107 h9.2.2), hl]) | (rw [if_neg (show ¬ ((sg.2 39 k = t ∧ sg.2 40 k = c) ∧ mask / 2 ^ k.toNat % 2 = 1 ∧ rnP sg day (sg.2 37 k) ∧ rnP sg day (sg.2 39 k)) from fun h9 => c97 h9.2.1), hl]) | (rw [if_neg (show ¬ ((sg.2 39 k = t ∧ sg.2 40 k = c) ∧ mask / 2 ^ k.toNat % 2 = 1 ∧ rnP sg day (sg.2 37 k) ∧ rnP sg day (sg.2 39 k)) from fun h9 => absurd h9.1 (by omega)), hl]))
              · refine j_iload (y := yiX1_grows) dX1_grows_110 rfl ?_
                refine m_aload_n (y := yiX1_grows) dX1_grows_112 rfl ?_
                refine m_aload (y := yiX1_grows) dX1_grows_113 rfl ?_
                refine m_aload_n (y := yiX1_grows) dX1_grows_115 rfl ?_
                refine m_invV (y := yiX1_grows) (rB := (RX1, TX1, 10)) [(.ref (wp k)), (.ref B)] dX1_grows_116 hx rfl q2883 q2885 qs66 q123 q2886 rfl (c_X1_readyBy K 4 h z x sg k (wp k) B W (by omega) hT hS hW9 ⟨hwk.1, hwk.2.1⟩ hq9 hM9) pdX1_readyBy ⟨Nat.le_of_ble_eq_true rfl, by decide, by omega⟩ (kk_z fun r116 h116 q116 => ?_) kx_z
                obtain ⟨rfl, rfl⟩ := q116
                refine mw_top (x' := sg.2 12 (8 * sg.2 37 k + sg.2 38 k) + W (8 * sg.2 37 k + sg.2 38 k - 1) + sg.2 2 (sg.2 11 (8 * sg.2 37 k + sg.2 38 k))) rfl ?_
                refine m_aload_n (y := yiX1_grows) dX1_grows_119 rfl ?_
                refine m_aload (y := yiX1_grows) dX1_grows_120 rfl ?_
                have hbw := hb (sg.2 37 k) (sg.2 38 k - 1) ⟨hwk.1, ⟨by omega, by omega⟩, c107.1⟩
                rw [show 8 * sg.2 37 k + (sg.2 38 k - 1) = 8 * sg.2 37 k + sg.2 38 k - 1 by omega] at hbw
                have z1 := oa12 (hT.2 12) (8 * sg.2 37 k + sg.2 38 k) (by omega) (by omega)
                have z2 := oa11 (hT.2 11) (8 * sg.2 37 k + sg.2 38 k) (by omega) (by omega)
                have z3 := oa2 (hT.2 2) (sg.2 11 (8 * sg.2 37 k + sg.2 38 k)) (by omega) (by omega)
                have z4 := oa13 (hT.2 13) (8 * sg.2 39 k + sg.2 40 k) (by omega) (by omega)
                refine m_invV (y := yiX1_grows) (rB := (RX1, TX1, 10)) [(.ref (wp k))] dX1_grows_122 hx rfl q2891 q2893 qs67 q123 q2894 rfl (c_X1_departureOf K 4 h z x sg k (wp k) (by omega) hT hW9 ⟨hwk.2.2.1, hwk.2.2.2⟩ hq9) pdX1_departureOf ⟨Nat.le_of_ble_eq_true rfl, by decide, by omega⟩ (kk_z fun r122 h122 q122 => ?_) kx_z
                obtain ⟨rfl, rfl⟩ := q122
                refine mw_top (x' := sg.2 13 (8 * sg.2 39 k + sg.2 40 k)) rfl ?_
                refine j_isub (y := yiX1_grows) dX1_grows_125 ?_
                refine m_mmax (y := yiX1_grows) dX1_grows_126 q2368 q386 q141 q387 ⟨⟨by omega, by omega⟩, ⟨by omega, by omega⟩⟩ ⟨Nat.le_of_ble_eq_true rfl, by omega⟩ ?_
                refine j_istore (y := yiX1_grows) [some (.ref x), some (.ref B), some (vi day), some (vi mask), some (vi t), some (vi c), some (vi (if le < ((sg.2 12 (8 * sg.2 37 k + sg.2 38 k) + W (8 * sg.2 37 k + sg.2 38 k - 1) + sg.2 2 (sg.2 11 (8 * sg.2 37 k + sg.2 38 k))) - (sg.2 13 (8 * sg.2 39 k + sg.2 40 k))) then ((sg.2 12 (8 * sg.2 37 k + sg.2 38 k) + W (8 * sg.2 37 k + sg.2 38 k - 1) + sg.2 2 (sg.2 11 (8 * sg.2 37 k + sg.2 38 k))) - (sg.2 13 (8 * sg.2 39 k + sg.2 40 k))) else le)), some (vi k), some (.ref (wp k)), some (vi 1)] dX1_grows_129 (by decide) rfl rfl ?_
                refine j_iinc (y := yiX1_grows) [some (.ref x), some (.ref B), some (vi day), some (vi mask), some (vi t), some (vi c), some (vi (if le < ((sg.2 12 (8 * sg.2 37 k + sg.2 38 k) + W (8 * sg.2 37 k + sg.2 38 k - 1) + sg.2 2 (sg.2 11 (8 * sg.2 37 k + sg.2 38 k))) - (sg.2 13 (8 * sg.2 39 k + sg.2 40 k))) then ((sg.2 12 (8 * sg.2 37 k + sg.2 38 k) + W (8 * sg.2 37 k + sg.2 38 k - 1) + sg.2 2 (sg.2 11 (8 * sg.2 37 k + sg.2 38 k))) - (sg.2 13 (8 * sg.2 39 k + sg.2 40 k))) else le)), some (vi (k + 1)), some (.ref (wp k)), some (vi 1)] dX1_grows_131 rfl (by decide) rfl rfl ?_
                refine m_goto (y := yiX1_grows) 33 dX1_grows_134 (by decide) ?_
                refine mw_forget 8 ?_
                refine mw_forget 9 ?_
                exact ih33 _ (by omega) _ _ rfl (by omega) (by rw [grB_s hk.1]; first | (rw [if_pos (show ((sg.2 39 k = t ∧ sg.2 40 k = c) ∧ mask / 2 ^ k.toNat % 2 = 1 ∧ rnP sg day (sg.2 37 k) ∧ rnP sg day (sg.2 39 k)) from ⟨⟨by omega, by omega⟩, c97, c107⟩), ← hl]; rfl) | (rw [if_neg (show ¬ ((sg.2 39 k = t ∧ sg.2 40 k = c) ∧ mask / 2 ^ k.toNat % 2 = 1 ∧ rnP sg day (sg.2 37 k) ∧ rnP sg day (sg.2 39 k)) from fun h9 => c107 h9.2.2), hl]) | (rw [if_neg (show ¬ ((sg.2 39 k = t ∧ sg.2 40 k = c) ∧ mask / 2 ^ k.toNat % 2 = 1 ∧ rnP sg day (sg.2 37 k) ∧ rnP sg day (sg.2 39 k)) from fun h9 => c97 h9.2.1), hl]) | (rw [if_neg (show ¬ ((sg.2 39 k = t ∧ sg.2 40 k = c) ∧ mask / 2 ^ k.toNat % 2 = 1 ∧ rnP sg day (sg.2 37 k) ∧ rnP sg day (sg.2 39 k)) from fun h9 => absurd h9.1 (by omega)), hl]))
    exact L33 _ _ _ rfl (by omega) (by show _ = (if _ then _ else _); first | (rw [if_pos (by omega : 0 < c), ← ga1, ← ga2 (by omega)]) | (rw [if_neg (by omega : ¬ 0 < c), ← ga1]))
  · refine m_aload_n (y := yiX1_grows) dX1_grows_12 rfl ?_
    refine j_iload (y := yiX1_grows) dX1_grows_13 rfl ?_
    refine h_aald6 (y := yiX1_grows) dX1_grows_15 hb1 ⟨by omega, by omega⟩ (by omega) ?_
    rw [hb2 t (by omega) (by omega)]
    show MW K yiX1_grows d h 16 [some (.ref x), some (.ref B), some (vi day), some (vi mask), some (vi t), some (vi c), none, none, none, none] [(.ref (B + 1 + t.toNat)), (vi ((G t) c))] Q
    refine j_iload (y := yiX1_grows) dX1_grows_16 rfl ?_
    refine j_iconst (y := yiX1_grows) dX1_grows_18 ?_
    refine j_isub (y := yiX1_grows) dX1_grows_19 ?_
    have g8 := ga2 (by omega)
    have g7 := hbm (by omega)
    refine j_iald (y := yiX1_grows) dX1_grows_20 hrow (by omega) ⟨by omega, by omega⟩ ?_
    refine m_goto (y := yiX1_grows) 25 dX1_grows_21 (by decide) ?_
    refine m_mmax (y := yiX1_grows) dX1_grows_25 q2368 q386 q141 q387 ⟨⟨by omega, by omega⟩, ⟨by omega, by omega⟩⟩ ⟨Nat.le_of_ble_eq_true rfl, by omega⟩ ?_
    refine j_istore (y := yiX1_grows) [some (.ref x), some (.ref B), some (vi day), some (vi mask), some (vi t), some (vi c), some (vi (if ((G t) c) < ((G t) (c - 1)) then ((G t) (c - 1)) else ((G t) c))), none, none, none] dX1_grows_28 (by decide) rfl rfl ?_
    refine j_iconst (y := yiX1_grows) dX1_grows_30 ?_
    refine j_istore (y := yiX1_grows) [some (.ref x), some (.ref B), some (vi day), some (vi mask), some (vi t), some (vi c), some (vi (if ((G t) c) < ((G t) (c - 1)) then ((G t) (c - 1)) else ((G t) c))), some (vi 0), none, none] dX1_grows_31 (by decide) rfl rfl ?_
    have L33 : ∀ (N : Nat) (le k : Int), (6 - k).toNat = N → (0 ≤ k ∧ k ≤ sg.1 36) → (le = grB sg day mask W t c k.toNat) → MW K yiX1_grows d h 33 [some (.ref x), some (.ref B), some (vi day), some (vi mask), some (vi t), some (vi c), some (vi le), some (vi k), none, none] [] Q := by
      intro N
      induction N using Nat.strongRecOn with
      | _ N ih33 =>
      intro le k hN33 hk hl
      have hlb := grB_b (mask := mask) hT hw hb hv k.toNat (by omega)
      refine j_iload (y := yiX1_grows) dX1_grows_33 rfl ?_
      refine m_aload_n (y := yiX1_grows) dX1_grows_35 rfl ?_
      refine m_getfS (y := yiX1_grows) kc_0 6 (by decide) dX1_grows_36 q304 hx rfl ?_
      refine m_invV (y := yiX1_grows) (rB := (RJ2, TJ2, 3)) [] dX1_grows_39 hwo rfl q333 q334 q335 q126 q336 rfl (c_J2_size K 0 h _ _ _ _ hwo) pdJ2_size ⟨Nat.le_of_ble_eq_true rfl, by decide, by omega⟩ (kk_z fun r39 h39 q39 => ?_) kx_z
      obtain ⟨rfl, rfl⟩ := q39
      refine mw_top (x' := sg.1 36) rfl ?_
      refine j_icmp_ge (y := yiX1_grows) 137 dX1_grows_42 (by decide) ⟨⟨by omega, by omega⟩, ⟨by omega, by omega⟩⟩ (fun c42 => ?_) (fun c42 => ?_)
      · have ek : k = sg.1 36 := by omega
        refine j_iload (y := yiX1_grows) dX1_grows_137 rfl ?_
        refine m_aload_n (y := yiX1_grows) dX1_grows_139 rfl ?_
        refine j_iload (y := yiX1_grows) dX1_grows_140 rfl ?_
        refine h_aald6 (y := yiX1_grows) dX1_grows_142 hb1 ⟨by omega, by omega⟩ (by omega) ?_
        rw [hb2 t (by omega) (by omega)]
        show MW K yiX1_grows d h 143 [some (.ref x), some (.ref B), some (vi day), some (vi mask), some (vi t), some (vi c), some (vi le), some (vi k), none, none] [(.ref (B + 1 + t.toNat)), (vi le)] Q
        refine j_iload (y := yiX1_grows) dX1_grows_143 rfl ?_
        refine j_iald (y := yiX1_grows) dX1_grows_145 hrow (by omega) ⟨by omega, by omega⟩ ?_
        refine j_icmp_le (y := yiX1_grows) 153 dX1_grows_146 (by decide) ⟨⟨by omega, by omega⟩, ⟨by omega, by omega⟩⟩ (fun c146 => ?_) (fun c146 => ?_)
        · refine j_iconst (y := yiX1_grows) dX1_grows_153 ?_
          refine j_istore (y := yiX1_grows) [some (.ref x), some (.ref B), some (vi day), some (vi mask), some (vi t), some (vi c), some (vi le), some (vi 0), none, none] dX1_grows_154 (by decide) rfl rfl ?_
          refine m_aload_n (y := yiX1_grows) dX1_grows_156 rfl ?_
          refine j_iload (y := yiX1_grows) dX1_grows_157 rfl ?_
          refine h_aald6 (y := yiX1_grows) dX1_grows_159 hb1 ⟨by omega, by omega⟩ (by omega) ?_
          rw [hb2 t (by omega) (by omega)]
          show MW K yiX1_grows d h 160 [some (.ref x), some (.ref B), some (vi day), some (vi mask), some (vi t), some (vi c), some (vi le), some (vi 0), none, none] [(.ref (B + 1 + t.toNat))] Q
          refine j_iload (y := yiX1_grows) dX1_grows_160 rfl ?_
          refine j_iload (y := yiX1_grows) dX1_grows_162 rfl ?_
          refine j_iast (y := yiX1_grows) dX1_grows_164 hrow (by omega) ⟨by omega, by omega⟩ (hp_put fun g3 g3H => ?_)
          have hb1 : g3.2.2 B = some (true, aaE K 24 f) := (g3H.2.2.2 _ (by omega)).trans hb1
          have fR : ∀ b, (b < z) → g3.2.2 b = h.2.2 b := fun b hb => (g3H.2.2.2 b (by omega)).trans (fR b hb)
          have hrow : g3.2.2 (B + 1 + t.toNat) = some (true, ia K 8 (upz (G t) c le)) := g3H.2.2.1
          have g31 := g3H.1
          have g32 := g3H.2.1
          refine j_iload (y := yiX1_grows) dX1_grows_165 rfl ?_
          subst hQ; exact j_zret (y := yiX1_grows) dX1_grows_167 rfl (by omega) (⟨by rw [ek] at hl; rw [← hl, ← ga1]; first | exact (bz_t (by omega)).symm | exact (bz_f (by omega)).symm, by rw [ek] at hl; rw [← hl]; exact MxA.up hb1 hb2 hb3 hb4 ⟨by omega, by omega⟩ ⟨by omega, by omega⟩ hrow (g3H.2.2.2), by omega, fR⟩)
        · refine j_iconst (y := yiX1_grows) dX1_grows_149 ?_
          refine m_goto (y := yiX1_grows) 154 dX1_grows_150 (by decide) ?_
          refine j_istore (y := yiX1_grows) [some (.ref x), some (.ref B), some (vi day), some (vi mask), some (vi t), some (vi c), some (vi le), some (vi 1), none, none] dX1_grows_154 (by decide) rfl rfl ?_
          refine m_aload_n (y := yiX1_grows) dX1_grows_156 rfl ?_
          refine j_iload (y := yiX1_grows) dX1_grows_157 rfl ?_
          refine h_aald6 (y := yiX1_grows) dX1_grows_159 hb1 ⟨by omega, by omega⟩ (by omega) ?_
          rw [hb2 t (by omega) (by omega)]
          show MW K yiX1_grows d h 160 [some (.ref x), some (.ref B), some (vi day), some (vi mask), some (vi t), some (vi c), some (vi le), some (vi 1), none, none] [(.ref (B + 1 + t.toNat))] Q
          refine j_iload (y := yiX1_grows) dX1_grows_160 rfl ?_
          refine j_iload (y := yiX1_grows) dX1_grows_162 rfl ?_
          refine j_iast (y := yiX1_grows) dX1_grows_164 hrow (by omega) ⟨by omega, by omega⟩ (hp_put fun g4 g4H => ?_)
          have hb1 : g4.2.2 B = some (true, aaE K 24 f) := (g4H.2.2.2 _ (by omega)).trans hb1
          have fR : ∀ b, (b < z) → g4.2.2 b = h.2.2 b := fun b hb => (g4H.2.2.2 b (by omega)).trans (fR b hb)
          have hrow : g4.2.2 (B + 1 + t.toNat) = some (true, ia K 8 (upz (G t) c le)) := g4H.2.2.1
          have g41 := g4H.1
          have g42 := g4H.2.1
          refine j_iload (y := yiX1_grows) dX1_grows_165 rfl ?_
          subst hQ; exact j_zret (y := yiX1_grows) dX1_grows_167 rfl (by omega) (⟨by rw [ek] at hl; rw [← hl, ← ga1]; first | exact (bz_t (by omega)).symm | exact (bz_f (by omega)).symm, by rw [ek] at hl; rw [← hl]; exact MxA.up hb1 hb2 hb3 hb4 ⟨by omega, by omega⟩ ⟨by omega, by omega⟩ hrow (g4H.2.2.2), by omega, fR⟩)
      · refine m_aload_n (y := yiX1_grows) dX1_grows_45 rfl ?_
        refine m_getfS (y := yiX1_grows) kc_0 6 (by decide) dX1_grows_46 q304 hx rfl ?_
        refine j_iload (y := yiX1_grows) dX1_grows_49 rfl ?_
        refine m_invV (y := yiX1_grows) (rB := (RJ2, TJ2, 3)) [(vi k)] dX1_grows_51 hwo rfl q1035 q1036 q1037 q126 q1038 rfl (c_J2_get K 2 h _ _ _ _ _ _ _ _ _ (by omega) hwo hwe ⟨by omega, by omega⟩ ⟨by omega, by omega⟩ (hwf0 _ (by omega) (by omega))) pdJ2_get ⟨Nat.le_of_ble_eq_true rfl, by decide, by omega⟩ (kk_r fun r51 h51 q51 => ?_) kx_r
        obtain ⟨rfl, rfl⟩ := q51
        have hq8 : h.2.2 (wp k) = some (true, .inr (13, [(vi (sg.2 37 k)), (vi (sg.2 38 k)), (vi (sg.2 39 k)), (vi (sg.2 40 k)), (vi (sg.2 41 k))])) := (tg_at (hwt k (by omega) (by omega))).1
        have l_hq8 := hwf _ _ hq8
        refine m_cast (y := yiX1_grows) dX1_grows_54 hq8 rfl q2823 (Or.inl rfl) ?_
        refine m_astore (y := yiX1_grows) dX1_grows_57 (by decide) rfl ?_
        show MW K yiX1_grows d h 59 [some (.ref x), some (.ref B), some (vi day), some (vi mask), some (vi t), some (vi c), some (vi le), some (vi k), some (.ref (wp k)), none] [] Q
        have hwk := hw k (by omega) (by omega)
        have hq9 := (tg_at (hwt k (by omega) (by omega))).1
        have nw1 := oa10 (hT.2 10) (sg.2 37 k) (by omega) (by omega)
        have nw2 := oa10 (hT.2 10) (sg.2 39 k) (by omega) (by omega)
        refine m_aload (y := yiX1_grows) dX1_grows_59 rfl ?_
        refine m_invV (y := yiX1_grows) (rB := (RX14, TX14, 5)) [] dX1_grows_61 hq8 rfl q2864 q2865 q2866 q186 q2867 rfl (c_X14_other (d := 0) hq8) pdX14_other ⟨Nat.le_of_ble_eq_true rfl, by decide, by omega⟩ (kk_z fun r61 h61 q61 => ?_) kx_z
        obtain ⟨rfl, rfl⟩ := q61
        refine mw_top (x' := (sg.2 39 k)) rfl ?_
        refine j_iload (y := yiX1_grows) dX1_grows_64 rfl ?_
        refine j_icmp_ne (y := yiX1_grows) 83 dX1_grows_66 (by decide) ⟨⟨by omega, by omega⟩, ⟨by omega, by omega⟩⟩ (fun c66 => ?_) (fun c66 => ?_)
        · refine j_iconst (y := yiX1_grows) dX1_grows_83 ?_
          refine j_istore (y := yiX1_grows) [some (.ref x), some (.ref B), some (vi day), some (vi mask), some (vi t), some (vi c), some (vi le), some (vi k), some (.ref (wp k)), some (vi 0)] dX1_grows_84 (by decide) rfl rfl ?_
          refine j_iload (y := yiX1_grows) dX1_grows_86 rfl ?_
          refine j_if_eq (y := yiX1_grows) 131 dX1_grows_88 (by decide) ⟨by decide, by decide⟩ (fun _ => ?_) (fun c => absurd c (by decide))
          refine j_iinc (y := yiX1_grows) [some (.ref x), some (.ref B), some (vi day), some (vi mask), some (vi t), some (vi c), some (vi le), some (vi (k + 1)), some (.ref (wp k)), some (vi 0)] dX1_grows_131 rfl (by decide) rfl rfl ?_
          refine m_goto (y := yiX1_grows) 33 dX1_grows_134 (by decide) ?_
          refine mw_forget 8 ?_
          refine mw_forget 9 ?_
          exact ih33 _ (by omega) _ _ rfl (by omega) (by rw [grB_s hk.1]; first | (rw [if_pos (show ((sg.2 39 k = t ∧ sg.2 40 k = c) ∧ mask / 2 ^ k.toNat % 2 = 1 ∧ rnP sg day (sg.2 37 k) ∧ rnP sg day (sg.2 39 k)) from ⟨⟨by omega, by omega⟩, c97, c107⟩), ← hl]; rfl) | (rw [if_neg (show ¬ ((sg.2 39 k = t ∧ sg.2 40 k = c) ∧ mask / 2 ^ k.toNat % 2 = 1 ∧ rnP sg day (sg.2 37 k) ∧ rnP sg day (sg.2 39 k)) from fun h9 => c107 h9.2.2), hl]) | (rw [if_neg (show ¬ ((sg.2 39 k = t ∧ sg.2 40 k = c) ∧ mask / 2 ^ k.toNat % 2 = 1 ∧ rnP sg day (sg.2 37 k) ∧ rnP sg day (sg.2 39 k)) from fun h9 => c97 h9.2.1), hl]) | (rw [if_neg (show ¬ ((sg.2 39 k = t ∧ sg.2 40 k = c) ∧ mask / 2 ^ k.toNat % 2 = 1 ∧ rnP sg day (sg.2 37 k) ∧ rnP sg day (sg.2 39 k)) from fun h9 => absurd h9.1 (by omega)), hl]))
        · refine m_aload (y := yiX1_grows) dX1_grows_69 rfl ?_
          refine m_invV (y := yiX1_grows) (rB := (RX14, TX14, 5)) [] dX1_grows_71 hq8 rfl q2868 q2869 q2870 q186 q2871 rfl (c_X14_otherCall (d := 0) hq8) pdX14_otherCall ⟨Nat.le_of_ble_eq_true rfl, by decide, by omega⟩ (kk_z fun r71 h71 q71 => ?_) kx_z
          obtain ⟨rfl, rfl⟩ := q71
          refine mw_top (x' := (sg.2 40 k)) rfl ?_
          refine j_iload (y := yiX1_grows) dX1_grows_74 rfl ?_
          refine j_icmp_ne (y := yiX1_grows) 83 dX1_grows_76 (by decide) ⟨⟨by omega, by omega⟩, ⟨by omega, by omega⟩⟩ (fun c76 => ?_) (fun c76 => ?_)
          · refine j_iconst (y := yiX1_grows) dX1_grows_83 ?_
            refine j_istore (y := yiX1_grows) [some (.ref x), some (.ref B), some (vi day), some (vi mask), some (vi t), some (vi c), some (vi le), some (vi k), some (.ref (wp k)), some (vi 0)] dX1_grows_84 (by decide) rfl rfl ?_
            refine j_iload (y := yiX1_grows) dX1_grows_86 rfl ?_
            refine j_if_eq (y := yiX1_grows) 131 dX1_grows_88 (by decide) ⟨by decide, by decide⟩ (fun _ => ?_) (fun c => absurd c (by decide))
            refine j_iinc (y := yiX1_grows) [some (.ref x), some (.ref B), some (vi day), some (vi mask), some (vi t), some (vi c), some (vi le), some (vi (k + 1)), some (.ref (wp k)), some (vi 0)] dX1_grows_131 rfl (by decide) rfl rfl ?_
            refine m_goto (y := yiX1_grows) 33 dX1_grows_134 (by decide) ?_
            refine mw_forget 8 ?_
            refine mw_forget 9 ?_
            exact ih33 _ (by omega) _ _ rfl (by omega) (by rw [grB_s hk.1]; first | (rw [if_pos (show ((sg.2 39 k = t ∧ sg.2 40 k = c) ∧ mask / 2 ^ k.toNat % 2 = 1 ∧ rnP sg day (sg.2 37 k) ∧ rnP sg day (sg.2 39 k)) from ⟨⟨by omega, by omega⟩, c97, c107⟩), ← hl]; rfl) | (rw [if_neg (show ¬ ((sg.2 39 k = t ∧ sg.2 40 k = c) ∧ mask / 2 ^ k.toNat % 2 = 1 ∧ rnP sg day (sg.2 37 k) ∧ rnP sg day (sg.2 39 k)) from fun h9 => c107 h9.2.2), hl]) | (rw [if_neg (show ¬ ((sg.2 39 k = t ∧ sg.2 40 k = c) ∧ mask / 2 ^ k.toNat % 2 = 1 ∧ rnP sg day (sg.2 37 k) ∧ rnP sg day (sg.2 39 k)) from fun h9 => c97 h9.2.1), hl]) | (rw [if_neg (show ¬ ((sg.2 39 k = t ∧ sg.2 40 k = c) ∧ mask / 2 ^ k.toNat % 2 = 1 ∧ rnP sg day (sg.2 37 k) ∧ rnP sg day (sg.2 39 k)) from fun h9 => absurd h9.1 (by omega)), hl]))
          · refine j_iconst (y := yiX1_grows) dX1_grows_79 ?_
            refine m_goto (y := yiX1_grows) 84 dX1_grows_80 (by decide) ?_
            refine j_istore (y := yiX1_grows) [some (.ref x), some (.ref B), some (vi day), some (vi mask), some (vi t), some (vi c), some (vi le), some (vi k), some (.ref (wp k)), some (vi 1)] dX1_grows_84 (by decide) rfl rfl ?_
            refine j_iload (y := yiX1_grows) dX1_grows_86 rfl ?_
            refine j_if_eq (y := yiX1_grows) 131 dX1_grows_88 (by decide) ⟨by decide, by decide⟩ (fun c => absurd c (by decide)) (fun _ => ?_)
            refine j_iload_n (y := yiX1_grows) dX1_grows_91 rfl ?_
            refine j_iload (y := yiX1_grows) dX1_grows_92 rfl ?_
            refine m_invS (y := yiX1_grows) [(vi mask), (vi k)] dX1_grows_94 q2872 q2873 q123 q2874 (c_X1_isHeld K 0 h mask k hm ⟨by omega, by omega⟩) pdX1_isHeld ⟨Nat.le_of_ble_eq_true rfl, by decide, by omega⟩ (kk_z fun r94 h94 q94 => ?_) kx_z
            obtain ⟨rfl, rfl⟩ := q94
            refine mw_top (x' := bz (mask / 2 ^ k.toNat % 2 = 1)) rfl ?_
            refine j_bz_eq (y := yiX1_grows) 131 dX1_grows_97 (by decide) (fun c97 => ?_) (fun c97 => ?_)
            · refine j_iinc (y := yiX1_grows) [some (.ref x), some (.ref B), some (vi day), some (vi mask), some (vi t), some (vi c), some (vi le), some (vi (k + 1)), some (.ref (wp k)), some (vi 1)] dX1_grows_131 rfl (by decide) rfl rfl ?_
              refine m_goto (y := yiX1_grows) 33 dX1_grows_134 (by decide) ?_
              refine mw_forget 8 ?_
              refine mw_forget 9 ?_
              exact ih33 _ (by omega) _ _ rfl (by omega) (by rw [grB_s hk.1]; first | (rw [if_pos (show ((sg.2 39 k = t ∧ sg.2 40 k = c) ∧ mask / 2 ^ k.toNat % 2 = 1 ∧ rnP sg day (sg.2 37 k) ∧ rnP sg day (sg.2 39 k)) from ⟨⟨by omega, by omega⟩, c97, c107⟩), ← hl]; rfl) | (rw [if_neg (show ¬ ((sg.2 39 k = t ∧ sg.2 40 k = c) ∧ mask / 2 ^ k.toNat % 2 = 1 ∧ rnP sg day (sg.2 37 k) ∧ rnP sg day (sg.2 39 k)) from fun h9 => c107 h9.2.2), hl]) | (rw [if_neg (show ¬ ((sg.2 39 k = t ∧ sg.2 40 k = c) ∧ mask / 2 ^ k.toNat % 2 = 1 ∧ rnP sg day (sg.2 37 k) ∧ rnP sg day (sg.2 39 k)) from fun h9 => c97 h9.2.1), hl]) | (rw [if_neg (show ¬ ((sg.2 39 k = t ∧ sg.2 40 k = c) ∧ mask / 2 ^ k.toNat % 2 = 1 ∧ rnP sg day (sg.2 37 k) ∧ rnP sg day (sg.2 39 k)) from fun h9 => absurd h9.1 (by omega)), hl]))
            · refine m_aload_n (y := yiX1_grows) dX1_grows_100 rfl ?_
              refine m_aload (y := yiX1_grows) dX1_grows_101 rfl ?_
              refine j_iload_n (y := yiX1_grows) dX1_grows_103 rfl ?_
              refine m_invV (y := yiX1_grows) (rB := (RX1, TX1, 10)) [(.ref (wp k)), (vi day)] dX1_grows_104 hx rfl q2875 q2877 qs65 q123 q2878 rfl (c_X1_counts K 5 h z x sg k day (wp k) (by omega) hT hW9 hO ⟨hwk.1, hwk.2.2.1⟩ hy hq9) pdX1_counts ⟨Nat.le_of_ble_eq_true rfl, by decide, by omega⟩ (kk_z fun r104 h104 q104 => ?_) kx_z
              obtain ⟨rfl, rfl⟩ := q104
              refine mw_top (x' := bz (rnP sg day (sg.2 37 k) ∧ rnP sg day (sg.2 39 k))) rfl ?_
              refine j_bz_eq (y := yiX1_grows) 131 dX1_grows_107 (by decide) (fun c107 => ?_) (fun c107 => ?_)
              · refine j_iinc (y := yiX1_grows) [some (.ref x), some (.ref B), some (vi day), some (vi mask), some (vi t), some (vi c), some (vi le), some (vi (k + 1)), some (.ref (wp k)), some (vi 1)] dX1_grows_131 rfl (by decide) rfl rfl ?_
                refine m_goto (y := yiX1_grows) 33 dX1_grows_134 (by decide) ?_
                refine mw_forget 8 ?_
                refine mw_forget 9 ?_
                exact ih33 _ (by omega) _ _ rfl (by omega) (by rw [grB_s hk.1]; first | (rw [if_pos (show ((sg.2 39 k = t ∧ sg.2 40 k = c) ∧ mask / 2 ^ k.toNat % 2 = 1 ∧ rnP sg day (sg.2 37 k) ∧ rnP sg day (sg.2 39 k)) from ⟨⟨by omega, by omega⟩, c97, c107⟩), ← hl]; rfl) | (rw [if_neg (show ¬ ((sg.2 39 k = t ∧ sg.2 40 k = c) ∧ mask / 2 ^ k.toNat % 2 = 1 ∧ rnP sg day (sg.2 37 k) ∧ rnP sg day (sg.2 39 k)) from fun h9 => c107 h9.2.2), hl]) | (rw [if_neg (show ¬ ((sg.2 39 k = t ∧ sg.2 40 k = c) ∧ mask / 2 ^ k.toNat % 2 = 1 ∧ rnP sg day (sg.2 37 k) ∧ rnP sg day (sg.2 39 k)) from fun h9 => c97 h9.2.1), hl]) | (rw [if_neg (show ¬ ((sg.2 39 k = t ∧ sg.2 40 k = c) ∧ mask / 2 ^ k.toNat % 2 = 1 ∧ rnP sg day (sg.2 37 k) ∧ rnP sg day (sg.2 39 k)) from fun h9 => absurd h9.1 (by omega)), hl]))
              · refine j_iload (y := yiX1_grows) dX1_grows_110 rfl ?_
                refine m_aload_n (y := yiX1_grows) dX1_grows_112 rfl ?_
                refine m_aload (y := yiX1_grows) dX1_grows_113 rfl ?_
                refine m_aload_n (y := yiX1_grows) dX1_grows_115 rfl ?_
                refine m_invV (y := yiX1_grows) (rB := (RX1, TX1, 10)) [(.ref (wp k)), (.ref B)] dX1_grows_116 hx rfl q2883 q2885 qs66 q123 q2886 rfl (c_X1_readyBy K 4 h z x sg k (wp k) B W (by omega) hT hS hW9 ⟨hwk.1, hwk.2.1⟩ hq9 hM9) pdX1_readyBy ⟨Nat.le_of_ble_eq_true rfl, by decide, by omega⟩ (kk_z fun r116 h116 q116 => ?_) kx_z
                obtain ⟨rfl, rfl⟩ := q116
                refine mw_top (x' := sg.2 12 (8 * sg.2 37 k + sg.2 38 k) + W (8 * sg.2 37 k + sg.2 38 k - 1) + sg.2 2 (sg.2 11 (8 * sg.2 37 k + sg.2 38 k))) rfl ?_
                refine m_aload_n (y := yiX1_grows) dX1_grows_119 rfl ?_
                refine m_aload (y := yiX1_grows) dX1_grows_120 rfl ?_
                have hbw := hb (sg.2 37 k) (sg.2 38 k - 1) ⟨hwk.1, ⟨by omega, by omega⟩, c107.1⟩
                rw [show 8 * sg.2 37 k + (sg.2 38 k - 1) = 8 * sg.2 37 k + sg.2 38 k - 1 by omega] at hbw
                have z1 := oa12 (hT.2 12) (8 * sg.2 37 k + sg.2 38 k) (by omega) (by omega)
                have z2 := oa11 (hT.2 11) (8 * sg.2 37 k + sg.2 38 k) (by omega) (by omega)
                have z3 := oa2 (hT.2 2) (sg.2 11 (8 * sg.2 37 k + sg.2 38 k)) (by omega) (by omega)
                have z4 := oa13 (hT.2 13) (8 * sg.2 39 k + sg.2 40 k) (by omega) (by omega)
                refine m_invV (y := yiX1_grows) (rB := (RX1, TX1, 10)) [(.ref (wp k))] dX1_grows_122 hx rfl q2891 q2893 qs67 q123 q2894 rfl (c_X1_departureOf K 4 h z x sg k (wp k) (by omega) hT hW9 ⟨hwk.2.2.1, hwk.2.2.2⟩ hq9) pdX1_departureOf ⟨Nat.le_of_ble_eq_true rfl, by decide, by omega⟩ (kk_z fun r122 h122 q122 => ?_) kx_z
                obtain ⟨rfl, rfl⟩ := q122
                refine mw_top (x' := sg.2 13 (8 * sg.2 39 k + sg.2 40 k)) rfl ?_
                refine j_isub (y := yiX1_grows) dX1_grows_125 ?_
                refine m_mmax (y := yiX1_grows) dX1_grows_126 q2368 q386 q141 q387 ⟨⟨by omega, by omega⟩, ⟨by omega, by omega⟩⟩ ⟨Nat.le_of_ble_eq_true rfl, by omega⟩ ?_
                refine j_istore (y := yiX1_grows) [some (.ref x), some (.ref B), some (vi day), some (vi mask), some (vi t), some (vi c), some (vi (if le < ((sg.2 12 (8 * sg.2 37 k + sg.2 38 k) + W (8 * sg.2 37 k + sg.2 38 k - 1) + sg.2 2 (sg.2 11 (8 * sg.2 37 k + sg.2 38 k))) - (sg.2 13 (8 * sg.2 39 k + sg.2 40 k))) then ((sg.2 12 (8 * sg.2 37 k + sg.2 38 k) + W (8 * sg.2 37 k + sg.2 38 k - 1) + sg.2 2 (sg.2 11 (8 * sg.2 37 k + sg.2 38 k))) - (sg.2 13 (8 * sg.2 39 k + sg.2 40 k))) else le)), some (vi k), some (.ref (wp k)), some (vi 1)] dX1_grows_129 (by decide) rfl rfl ?_
                refine j_iinc (y := yiX1_grows) [some (.ref x), some (.ref B), some (vi day), some (vi mask), some (vi t), some (vi c), some (vi (if le < ((sg.2 12 (8 * sg.2 37 k + sg.2 38 k) + W (8 * sg.2 37 k + sg.2 38 k - 1) + sg.2 2 (sg.2 11 (8 * sg.2 37 k + sg.2 38 k))) - (sg.2 13 (8 * sg.2 39 k + sg.2 40 k))) then ((sg.2 12 (8 * sg.2 37 k + sg.2 38 k) + W (8 * sg.2 37 k + sg.2 38 k - 1) + sg.2 2 (sg.2 11 (8 * sg.2 37 k + sg.2 38 k))) - (sg.2 13 (8 * sg.2 39 k + sg.2 40 k))) else le)), some (vi (k + 1)), some (.ref (wp k)), some (vi 1)] dX1_grows_131 rfl (by decide) rfl rfl ?_
                refine m_goto (y := yiX1_grows) 33 dX1_grows_134 (by decide) ?_
                refine mw_forget 8 ?_
                refine mw_forget 9 ?_
                exact ih33 _ (by omega) _ _ rfl (by omega) (by rw [grB_s hk.1]; first | (rw [if_pos (show ((sg.2 39 k = t ∧ sg.2 40 k = c) ∧ mask / 2 ^ k.toNat % 2 = 1 ∧ rnP sg day (sg.2 37 k) ∧ rnP sg day (sg.2 39 k)) from ⟨⟨by omega, by omega⟩, c97, c107⟩), ← hl]; rfl) | (rw [if_neg (show ¬ ((sg.2 39 k = t ∧ sg.2 40 k = c) ∧ mask / 2 ^ k.toNat % 2 = 1 ∧ rnP sg day (sg.2 37 k) ∧ rnP sg day (sg.2 39 k)) from fun h9 => c107 h9.2.2), hl]) | (rw [if_neg (show ¬ ((sg.2 39 k = t ∧ sg.2 40 k = c) ∧ mask / 2 ^ k.toNat % 2 = 1 ∧ rnP sg day (sg.2 37 k) ∧ rnP sg day (sg.2 39 k)) from fun h9 => c97 h9.2.1), hl]) | (rw [if_neg (show ¬ ((sg.2 39 k = t ∧ sg.2 40 k = c) ∧ mask / 2 ^ k.toNat % 2 = 1 ∧ rnP sg day (sg.2 37 k) ∧ rnP sg day (sg.2 39 k)) from fun h9 => absurd h9.1 (by omega)), hl]))
    exact L33 _ _ _ rfl (by omega) (by show _ = (if _ then _ else _); first | (rw [if_pos (by omega : 0 < c), ← ga1, ← ga2 (by omega)]) | (rw [if_neg (by omega : ¬ 0 < c), ← ga1]))
end WAI
