/-! Lastbus.Labels -/
def mnz (x t : Int) : Int := if t < x then t else x
/-- q: labels over the world's object x; its three arrays A (arrivals), B (by ride), R (ready) -/
def LbC (K : KT) (h : MH) (x : Nat) (cut : Int) (wy q A B R : Nat) (chg : Int) (fa fb fr : Int → Int) : Prop := h.2.2 q = some (true, .inr (9, [vi cut, .ref wy, .ref A, .ref B, .ref R, vi chg, .ref x])) ∧ h.2.2 A = some (true, ia K 12 fa) ∧ h.2.2 B = some (true, ia K 12 fb) ∧ h.2.2 R = some (true, ia K 12 fr)
/-- the walks' rows: W i is row i -/
def WyC (K : KT) (h : MH) (wy : Nat) (W : Int → Int → Int) : Prop := ∃ (wr : Int → Nat) (f : Int → Option Nat), h.2.2 wy = some (true, aaE K 12 f) ∧ ∀ i, 0 ≤ i → i < 12 → f i = some (wr i) ∧ h.2.2 (wr i) = some (true, ia K 12 (W i))
theorem WyC.up {K : KT} {h h' : MH} {wy : Nat} {W : Int → Int → Int} (L : WyC K h wy W) (e1 : ∀ b c, h.2.2 b = some c → h'.2.2 b = some c) : WyC K h' wy W := by
  obtain ⟨wr, f, h1, h2⟩ := L
  exact ⟨wr, f, e1 _ _ h1, fun i a b => ⟨(h2 i a b).1, e1 _ _ (h2 i a b).2⟩⟩
def bW (W : Int → Int → Int) : Prop := ∀ i j, 0 ≤ i → i < 12 → 0 ≤ j → j < 12 → 0 ≤ W i j ∧ W i j ≤ 1000000
theorem c_X10_arrives (K : KT) (d : Nat) (h : MH) (x : Nat) (cut : Int) (wy q A B R : Nat) (chg : Int) (fa fb fr : Int → Int) (s t : Int) (hd : 1 ≤ d) (hL : LbC K h x cut wy q A B R chg fa fb fr) (hc : chg = 0 ∨ chg = 1) (hs : 0 ≤ s ∧ s < 12) (ht : In t ∧ In (fa s)) : Mt K yiX10_arrives d [.ref q, vi s, vi t] h (Rv fun h' => h'.2.2 q = some (true, .inr (9, [vi cut, .ref wy, .ref A, .ref B, .ref R, vi (if t < fa s then 1 else chg), .ref x])) ∧ h'.2.2 A = some (true, ia K 12 (upz fa s (mnz (fa s) t))) ∧ h'.1 = h.1 ∧ h'.2.1 = h.2.1 ∧ ∀ b, (b ≠ q ∧ b ≠ A) → h'.2.2 b = h.2.2 b) := by
  obtain ⟨hq, hA, hB, hR⟩ := hL
  obtain ⟨⟨t1, t2⟩, t3, t4⟩ := ht
  refine mt_ofQ (by decide) (Nat.le_of_ble_eq_true rfl) (fun Q hQ => ?_)
  show MW K yiX10_arrives d h 0 [some (.ref q), some (vi s), some (vi t)] [] Q
  refine mw_wf (fun hwf => ?_)
  have l_hq := hwf _ _ hq
  have l_hA := hwf _ _ hA
  have fR : ∀ b, (b ≠ q ∧ b ≠ A) → h.2.2 b = h.2.2 b := fun _ _ => rfl
  have : q ≠ A := ne_oa hq hA
  refine m_aload_n (y := yiX10_arrives) dX10_arrives_0 rfl ?_
  refine m_dup (y := yiX10_arrives) dX10_arrives_1 rfl ?_
  refine m_getfS (y := yiX10_arrives) kc_9 5 (by decide) dX10_arrives_2 q2117 hq rfl ?_
  refine j_iload_n (y := yiX10_arrives) dX10_arrives_5 rfl ?_
  refine m_aload_n (y := yiX10_arrives) dX10_arrives_6 rfl ?_
  refine m_getfS (y := yiX10_arrives) kc_9 2 (by decide) dX10_arrives_7 q2112 hq rfl ?_
  refine j_iload_n (y := yiX10_arrives) dX10_arrives_10 rfl ?_
  refine j_iald (y := yiX10_arrives) dX10_arrives_11 hA (by omega) ⟨by omega, by omega⟩ ?_
  refine j_icmp_ge (y := yiX10_arrives) 19 dX10_arrives_12 (by decide) ⟨⟨by omega, by omega⟩, ⟨by omega, by omega⟩⟩ (fun c12 => ?_) (fun c12 => ?_)
  · refine j_iconst (y := yiX10_arrives) dX10_arrives_19 ?_
    refine j_ior0 (y := yiX10_arrives) dX10_arrives_20 ?_
    refine m_putfS (y := yiX10_arrives) kc_9 5 (by decide) dX10_arrives_21 q2117 rfl hq (nz01 (by omega)) (fz01 (by omega)) (hp_put fun g1 g1H => ?_)
    have hA : g1.2.2 A = some (true, ia K 12 fa) := (g1H.2.2.2 _ (by omega)).trans hA
    have fR : ∀ b, (b ≠ q ∧ b ≠ A) → g1.2.2 b = h.2.2 b := fun b hb => (g1H.2.2.2 b (by omega)).trans (fR b hb)
    have hq : g1.2.2 q = some (true, .inr (9, [(vi cut), (.ref wy), (.ref A), (.ref B), (.ref R), (vi chg), (.ref x)])) := g1H.2.2.1
    have g11 := g1H.1
    have g12 := g1H.2.1
    refine m_aload_n (y := yiX10_arrives) dX10_arrives_24 rfl ?_
    refine m_getfS (y := yiX10_arrives) kc_9 2 (by decide) dX10_arrives_25 q2112 hq rfl ?_
    refine j_iload_n (y := yiX10_arrives) dX10_arrives_28 rfl ?_
    refine m_aload_n (y := yiX10_arrives) dX10_arrives_29 rfl ?_
    refine m_getfS (y := yiX10_arrives) kc_9 2 (by decide) dX10_arrives_30 q2112 hq rfl ?_
    refine j_iload_n (y := yiX10_arrives) dX10_arrives_33 rfl ?_
    refine j_iald (y := yiX10_arrives) dX10_arrives_34 hA (by omega) ⟨by omega, by omega⟩ ?_
    refine j_iload_n (y := yiX10_arrives) dX10_arrives_35 rfl ?_
    refine m_mmin (y := yiX10_arrives) dX10_arrives_36 q2143 q404 q141 q405 ⟨⟨by omega, by omega⟩, ⟨by omega, by omega⟩⟩ ⟨Nat.le_of_ble_eq_true rfl, by omega⟩ ?_
    refine j_iast (y := yiX10_arrives) dX10_arrives_39 hA (by omega) ⟨by omega, by omega⟩ (hp_put fun g2 g2H => ?_)
    have hq : g2.2.2 q = some (true, .inr (9, [(vi cut), (.ref wy), (.ref A), (.ref B), (.ref R), (vi chg), (.ref x)])) := (g2H.2.2.2 _ (by omega)).trans hq
    have fR : ∀ b, (b ≠ q ∧ b ≠ A) → g2.2.2 b = h.2.2 b := fun b hb => (g2H.2.2.2 b (by omega)).trans (fR b hb)
    have hA : g2.2.2 A = some (true, ia K 12 (upz fa s (if t < (fa s) then t else (fa s)))) := g2H.2.2.1
    have g21 := g2H.1
    have g22 := g2H.2.1
    subst hQ; exact j_vret (y := yiX10_arrives) dX10_arrives_40 rfl (⟨by first | (rw [if_pos (by omega)]; exact hq) | (rw [if_neg (by omega)]; exact hq), hA, by omega, by omega, fR⟩)
  · refine j_iconst (y := yiX10_arrives) dX10_arrives_15 ?_
    refine m_goto (y := yiX10_arrives) 20 dX10_arrives_16 (by decide) ?_
    refine j_ior1 (y := yiX10_arrives) dX10_arrives_20 (by omega) ?_
    refine m_putfS (y := yiX10_arrives) kc_9 5 (by decide) dX10_arrives_21 q2117 rfl hq rfl rfl (hp_put fun g3 g3H => ?_)
    have hA : g3.2.2 A = some (true, ia K 12 fa) := (g3H.2.2.2 _ (by omega)).trans hA
    have fR : ∀ b, (b ≠ q ∧ b ≠ A) → g3.2.2 b = h.2.2 b := fun b hb => (g3H.2.2.2 b (by omega)).trans (fR b hb)
    have hq : g3.2.2 q = some (true, .inr (9, [(vi cut), (.ref wy), (.ref A), (.ref B), (.ref R), (vi 1), (.ref x)])) := g3H.2.2.1
    have g31 := g3H.1
    have g32 := g3H.2.1
    refine m_aload_n (y := yiX10_arrives) dX10_arrives_24 rfl ?_
    refine m_getfS (y := yiX10_arrives) kc_9 2 (by decide) dX10_arrives_25 q2112 hq rfl ?_
    refine j_iload_n (y := yiX10_arrives) dX10_arrives_28 rfl ?_
    refine m_aload_n (y := yiX10_arrives) dX10_arrives_29 rfl ?_
    refine m_getfS (y := yiX10_arrives) kc_9 2 (by decide) dX10_arrives_30 q2112 hq rfl ?_
    refine j_iload_n (y := yiX10_arrives) dX10_arrives_33 rfl ?_
    refine j_iald (y := yiX10_arrives) dX10_arrives_34 hA (by omega) ⟨by omega, by omega⟩ ?_
    refine j_iload_n (y := yiX10_arrives) dX10_arrives_35 rfl ?_
    refine m_mmin (y := yiX10_arrives) dX10_arrives_36 q2143 q404 q141 q405 ⟨⟨by omega, by omega⟩, ⟨by omega, by omega⟩⟩ ⟨Nat.le_of_ble_eq_true rfl, by omega⟩ ?_
    refine j_iast (y := yiX10_arrives) dX10_arrives_39 hA (by omega) ⟨by omega, by omega⟩ (hp_put fun g4 g4H => ?_)
    have hq : g4.2.2 q = some (true, .inr (9, [(vi cut), (.ref wy), (.ref A), (.ref B), (.ref R), (vi 1), (.ref x)])) := (g4H.2.2.2 _ (by omega)).trans hq
    have fR : ∀ b, (b ≠ q ∧ b ≠ A) → g4.2.2 b = h.2.2 b := fun b hb => (g4H.2.2.2 b (by omega)).trans (fR b hb)
    have hA : g4.2.2 A = some (true, ia K 12 (upz fa s (if t < (fa s) then t else (fa s)))) := g4H.2.2.1
    have g41 := g4H.1
    have g42 := g4H.2.1
    subst hQ; exact j_vret (y := yiX10_arrives) dX10_arrives_40 rfl (⟨by first | (rw [if_pos (by omega)]; exact hq) | (rw [if_neg (by omega)]; exact hq), hA, by omega, by omega, fR⟩)
theorem c_X10_isReady (K : KT) (d : Nat) (h : MH) (x : Nat) (cut : Int) (wy q A B R : Nat) (chg : Int) (fa fb fr : Int → Int) (s t : Int) (hd : 1 ≤ d) (hL : LbC K h x cut wy q A B R chg fa fb fr) (hc : chg = 0 ∨ chg = 1) (hs : 0 ≤ s ∧ s < 12) (ht : In t ∧ In (fr s)) : Mt K yiX10_isReady d [.ref q, vi s, vi t] h (Rv fun h' => h'.2.2 q = some (true, .inr (9, [vi cut, .ref wy, .ref A, .ref B, .ref R, vi (if t < fr s then 1 else chg), .ref x])) ∧ h'.2.2 R = some (true, ia K 12 (upz fr s (mnz (fr s) t))) ∧ h'.1 = h.1 ∧ h'.2.1 = h.2.1 ∧ ∀ b, (b ≠ q ∧ b ≠ R) → h'.2.2 b = h.2.2 b) := by
  obtain ⟨hq, hA, hB, hR⟩ := hL
  obtain ⟨⟨t1, t2⟩, t3, t4⟩ := ht
  refine mt_ofQ (by decide) (Nat.le_of_ble_eq_true rfl) (fun Q hQ => ?_)
  show MW K yiX10_isReady d h 0 [some (.ref q), some (vi s), some (vi t)] [] Q
  refine mw_wf (fun hwf => ?_)
  have l_hq := hwf _ _ hq
  have l_hR := hwf _ _ hR
  have fR : ∀ b, (b ≠ q ∧ b ≠ R) → h.2.2 b = h.2.2 b := fun _ _ => rfl
  have : q ≠ R := ne_oa hq hR
  refine m_aload_n (y := yiX10_isReady) dX10_isReady_0 rfl ?_
  refine m_dup (y := yiX10_isReady) dX10_isReady_1 rfl ?_
  refine m_getfS (y := yiX10_isReady) kc_9 5 (by decide) dX10_isReady_2 q2117 hq rfl ?_
  refine j_iload_n (y := yiX10_isReady) dX10_isReady_5 rfl ?_
  refine m_aload_n (y := yiX10_isReady) dX10_isReady_6 rfl ?_
  refine m_getfS (y := yiX10_isReady) kc_9 4 (by decide) dX10_isReady_7 q2116 hq rfl ?_
  refine j_iload_n (y := yiX10_isReady) dX10_isReady_10 rfl ?_
  refine j_iald (y := yiX10_isReady) dX10_isReady_11 hR (by omega) ⟨by omega, by omega⟩ ?_
  refine j_icmp_ge (y := yiX10_isReady) 19 dX10_isReady_12 (by decide) ⟨⟨by omega, by omega⟩, ⟨by omega, by omega⟩⟩ (fun c12 => ?_) (fun c12 => ?_)
  · refine j_iconst (y := yiX10_isReady) dX10_isReady_19 ?_
    refine j_ior0 (y := yiX10_isReady) dX10_isReady_20 ?_
    refine m_putfS (y := yiX10_isReady) kc_9 5 (by decide) dX10_isReady_21 q2117 rfl hq (nz01 (by omega)) (fz01 (by omega)) (hp_put fun g1 g1H => ?_)
    have hR : g1.2.2 R = some (true, ia K 12 fr) := (g1H.2.2.2 _ (by omega)).trans hR
    have fR : ∀ b, (b ≠ q ∧ b ≠ R) → g1.2.2 b = h.2.2 b := fun b hb => (g1H.2.2.2 b (by omega)).trans (fR b hb)
    have hq : g1.2.2 q = some (true, .inr (9, [(vi cut), (.ref wy), (.ref A), (.ref B), (.ref R), (vi chg), (.ref x)])) := g1H.2.2.1
    have g11 := g1H.1
    have g12 := g1H.2.1
    refine m_aload_n (y := yiX10_isReady) dX10_isReady_24 rfl ?_
    refine m_getfS (y := yiX10_isReady) kc_9 4 (by decide) dX10_isReady_25 q2116 hq rfl ?_
    refine j_iload_n (y := yiX10_isReady) dX10_isReady_28 rfl ?_
    refine m_aload_n (y := yiX10_isReady) dX10_isReady_29 rfl ?_
    refine m_getfS (y := yiX10_isReady) kc_9 4 (by decide) dX10_isReady_30 q2116 hq rfl ?_
    refine j_iload_n (y := yiX10_isReady) dX10_isReady_33 rfl ?_
    refine j_iald (y := yiX10_isReady) dX10_isReady_34 hR (by omega) ⟨by omega, by omega⟩ ?_
    refine j_iload_n (y := yiX10_isReady) dX10_isReady_35 rfl ?_
    refine m_mmin (y := yiX10_isReady) dX10_isReady_36 q2143 q404 q141 q405 ⟨⟨by omega, by omega⟩, ⟨by omega, by omega⟩⟩ ⟨Nat.le_of_ble_eq_true rfl, by omega⟩ ?_
    refine j_iast (y := yiX10_isReady) dX10_isReady_39 hR (by omega) ⟨by omega, by omega⟩ (hp_put fun g2 g2H => ?_)
    have hq : g2.2.2 q = some (true, .inr (9, [(vi cut), (.ref wy), (.ref A), (.ref B), (.ref R), (vi chg), (.ref x)])) := (g2H.2.2.2 _ (by omega)).trans hq
    have fR : ∀ b, (b ≠ q ∧ b ≠ R) → g2.2.2 b = h.2.2 b := fun b hb => (g2H.2.2.2 b (by omega)).trans (fR b hb)
    have hR : g2.2.2 R = some (true, ia K 12 (upz fr s (if t < (fr s) then t else (fr s)))) := g2H.2.2.1
    have g21 := g2H.1
    have g22 := g2H.2.1
    subst hQ; exact j_vret (y := yiX10_isReady) dX10_isReady_40 rfl (⟨by first | (rw [if_pos (by omega)]; exact hq) | (rw [if_neg (by omega)]; exact hq), hR, by omega, by omega, fR⟩)
  · refine j_iconst (y := yiX10_isReady) dX10_isReady_15 ?_
    refine m_goto (y := yiX10_isReady) 20 dX10_isReady_16 (by decide) ?_
    refine j_ior1 (y := yiX10_isReady) dX10_isReady_20 (by omega) ?_
    refine m_putfS (y := yiX10_isReady) kc_9 5 (by decide) dX10_isReady_21 q2117 rfl hq rfl rfl (hp_put fun g3 g3H => ?_)
    have hR : g3.2.2 R = some (true, ia K 12 fr) := (g3H.2.2.2 _ (by omega)).trans hR
    have fR : ∀ b, (b ≠ q ∧ b ≠ R) → g3.2.2 b = h.2.2 b := fun b hb => (g3H.2.2.2 b (by omega)).trans (fR b hb)
    have hq : g3.2.2 q = some (true, .inr (9, [(vi cut), (.ref wy), (.ref A), (.ref B), (.ref R), (vi 1), (.ref x)])) := g3H.2.2.1
    have g31 := g3H.1
    have g32 := g3H.2.1
    refine m_aload_n (y := yiX10_isReady) dX10_isReady_24 rfl ?_
    refine m_getfS (y := yiX10_isReady) kc_9 4 (by decide) dX10_isReady_25 q2116 hq rfl ?_
    refine j_iload_n (y := yiX10_isReady) dX10_isReady_28 rfl ?_
    refine m_aload_n (y := yiX10_isReady) dX10_isReady_29 rfl ?_
    refine m_getfS (y := yiX10_isReady) kc_9 4 (by decide) dX10_isReady_30 q2116 hq rfl ?_
    refine j_iload_n (y := yiX10_isReady) dX10_isReady_33 rfl ?_
    refine j_iald (y := yiX10_isReady) dX10_isReady_34 hR (by omega) ⟨by omega, by omega⟩ ?_
    refine j_iload_n (y := yiX10_isReady) dX10_isReady_35 rfl ?_
    refine m_mmin (y := yiX10_isReady) dX10_isReady_36 q2143 q404 q141 q405 ⟨⟨by omega, by omega⟩, ⟨by omega, by omega⟩⟩ ⟨Nat.le_of_ble_eq_true rfl, by omega⟩ ?_
    refine j_iast (y := yiX10_isReady) dX10_isReady_39 hR (by omega) ⟨by omega, by omega⟩ (hp_put fun g4 g4H => ?_)
    have hq : g4.2.2 q = some (true, .inr (9, [(vi cut), (.ref wy), (.ref A), (.ref B), (.ref R), (vi 1), (.ref x)])) := (g4H.2.2.2 _ (by omega)).trans hq
    have fR : ∀ b, (b ≠ q ∧ b ≠ R) → g4.2.2 b = h.2.2 b := fun b hb => (g4H.2.2.2 b (by omega)).trans (fR b hb)
    have hR : g4.2.2 R = some (true, ia K 12 (upz fr s (if t < (fr s) then t else (fr s)))) := g4H.2.2.1
    have g41 := g4H.1
    have g42 := g4H.2.1
    subst hQ; exact j_vret (y := yiX10_isReady) dX10_isReady_40 rfl (⟨by first | (rw [if_pos (by omega)]; exact hq) | (rw [if_neg (by omega)]; exact hq), hR, by omega, by omega, fR⟩)
theorem c_X10_init (K : KT) (d : Nat) (h : MH) (x wy q : Nat) (cut : Int) (hd : 2 ≤ d) (hq : h.2.2 q = some (true, .inr (9, [vi 0, .null, .null, .null, .null, vi 0, .null]))) (hz : h.1 + 3 ≤ kC K ∧ h.2.1 + 36 ≤ kS K) : Mt K yiX10_init d [.ref q, .ref x, vi cut, .ref wy] h (Rv fun h' => ∃ fa fb fr, LbC K h' x cut wy q h.1 (h.1 + 1) (h.1 + 2) 0 fa fb fr ∧ (∀ i, 0 ≤ i → i < 12 → fa i = 1000000 ∧ fb i = 1000000 ∧ fr i = 1000000) ∧ h'.1 = h.1 + 3 ∧ h'.2.1 = h.2.1 + 36 ∧ ∀ b, (b < h.1 ∧ b ≠ q) → h'.2.2 b = h.2.2 b) := by
  refine mt_ofQ (by decide) (Nat.le_of_ble_eq_true rfl) (fun Q hQ => ?_)
  show MW K yiX10_init d h 0 [some (.ref q), some (.ref x), some (vi cut), some (.ref wy)] [] Q
  refine mw_wf (fun hwf => ?_)
  have l_hq := hwf _ _ hq
  refine m_aload_n (y := yiX10_init) dX10_init_0 rfl ?_
  refine m_aload_n (y := yiX10_init) dX10_init_1 rfl ?_
  refine m_putfF (y := yiX10_init) kc_9 6 (by decide) dX10_init_2 q2119 rfl rfl rfl hq rfl rfl (hp_put fun g1 g1H => ?_)
  have hq : g1.2.2 q = some (true, .inr (9, [(vi 0), .null, .null, .null, .null, (vi 0), (.ref x)])) := g1H.2.2.1
  have g11 := g1H.1
  have g12 := g1H.2.1
  refine m_aload_n (y := yiX10_init) dX10_init_5 rfl ?_
  refine m_objInit (y := yiX10_init) dX10_init_6 q2105 q195 q196 ⟨Nat.le_of_ble_eq_true rfl, by omega⟩ ?_
  refine m_aload_n (y := yiX10_init) dX10_init_9 rfl ?_
  refine j_bipush (y := yiX10_init) dX10_init_10 (by decide) ?_
  refine h_newa0 (y := yiX10_init) dX10_init_12 q229 ⟨by omega, by omega⟩ ⟨by omega, by omega⟩ (hp_new fun g2 g2H => ?_)
  have hq : g2.2.2 q = some (true, .inr (9, [(vi 0), .null, .null, .null, .null, (vi 0), (.ref x)])) := (g2H.2.2.2 _ (by omega)).trans hq
  have fg2 : g2.2.2 g1.1 = some (true, ia K ((12 : Int).toNat) (fun _ => 0)) := g2H.2.2.1
  have g21 := g2H.1
  have g22 := g2H.2.1
  refine m_putfF (y := yiX10_init) kc_9 2 (by decide) dX10_init_14 q2112 rfl rfl rfl hq rfl rfl (hp_put fun g3 g3H => ?_)
  have fg2 : g3.2.2 g1.1 = some (true, ia K ((12 : Int).toNat) (fun _ => 0)) := (g3H.2.2.2 _ (by omega)).trans fg2
  have hq : g3.2.2 q = some (true, .inr (9, [(vi 0), .null, (.ref g1.1), .null, .null, (vi 0), (.ref x)])) := g3H.2.2.1
  have g31 := g3H.1
  have g32 := g3H.2.1
  refine m_aload_n (y := yiX10_init) dX10_init_17 rfl ?_
  refine j_bipush (y := yiX10_init) dX10_init_18 (by decide) ?_
  refine h_newa0 (y := yiX10_init) dX10_init_20 q229 ⟨by omega, by omega⟩ ⟨by omega, by omega⟩ (hp_new fun g4 g4H => ?_)
  have hq : g4.2.2 q = some (true, .inr (9, [(vi 0), .null, (.ref g1.1), .null, .null, (vi 0), (.ref x)])) := (g4H.2.2.2 _ (by omega)).trans hq
  have fg2 : g4.2.2 g1.1 = some (true, ia K ((12 : Int).toNat) (fun _ => 0)) := (g4H.2.2.2 _ (by omega)).trans fg2
  have fg4 : g4.2.2 g3.1 = some (true, ia K ((12 : Int).toNat) (fun _ => 0)) := g4H.2.2.1
  have g41 := g4H.1
  have g42 := g4H.2.1
  refine m_putfF (y := yiX10_init) kc_9 3 (by decide) dX10_init_22 q2114 rfl rfl rfl hq rfl rfl (hp_put fun g5 g5H => ?_)
  have fg2 : g5.2.2 g1.1 = some (true, ia K ((12 : Int).toNat) (fun _ => 0)) := (g5H.2.2.2 _ (by omega)).trans fg2
  have fg4 : g5.2.2 g3.1 = some (true, ia K ((12 : Int).toNat) (fun _ => 0)) := (g5H.2.2.2 _ (by omega)).trans fg4
  have hq : g5.2.2 q = some (true, .inr (9, [(vi 0), .null, (.ref g1.1), (.ref g3.1), .null, (vi 0), (.ref x)])) := g5H.2.2.1
  have g51 := g5H.1
  have g52 := g5H.2.1
  refine m_aload_n (y := yiX10_init) dX10_init_25 rfl ?_
  refine j_bipush (y := yiX10_init) dX10_init_26 (by decide) ?_
  refine h_newa0 (y := yiX10_init) dX10_init_28 q229 ⟨by omega, by omega⟩ ⟨by omega, by omega⟩ (hp_new fun g6 g6H => ?_)
  have hq : g6.2.2 q = some (true, .inr (9, [(vi 0), .null, (.ref g1.1), (.ref g3.1), .null, (vi 0), (.ref x)])) := (g6H.2.2.2 _ (by omega)).trans hq
  have fg2 : g6.2.2 g1.1 = some (true, ia K ((12 : Int).toNat) (fun _ => 0)) := (g6H.2.2.2 _ (by omega)).trans fg2
  have fg4 : g6.2.2 g3.1 = some (true, ia K ((12 : Int).toNat) (fun _ => 0)) := (g6H.2.2.2 _ (by omega)).trans fg4
  have fg6 : g6.2.2 g5.1 = some (true, ia K ((12 : Int).toNat) (fun _ => 0)) := g6H.2.2.1
  have g61 := g6H.1
  have g62 := g6H.2.1
  refine m_putfF (y := yiX10_init) kc_9 4 (by decide) dX10_init_30 q2116 rfl rfl rfl hq rfl rfl (hp_put fun g7 g7H => ?_)
  have fg2 : g7.2.2 g1.1 = some (true, ia K ((12 : Int).toNat) (fun _ => 0)) := (g7H.2.2.2 _ (by omega)).trans fg2
  have fg4 : g7.2.2 g3.1 = some (true, ia K ((12 : Int).toNat) (fun _ => 0)) := (g7H.2.2.2 _ (by omega)).trans fg4
  have fg6 : g7.2.2 g5.1 = some (true, ia K ((12 : Int).toNat) (fun _ => 0)) := (g7H.2.2.2 _ (by omega)).trans fg6
  have hq : g7.2.2 q = some (true, .inr (9, [(vi 0), .null, (.ref g1.1), (.ref g3.1), (.ref g5.1), (vi 0), (.ref x)])) := g7H.2.2.1
  have g71 := g7H.1
  have g72 := g7H.2.1
  refine m_aload_n (y := yiX10_init) dX10_init_33 rfl ?_
  refine j_iload_n (y := yiX10_init) dX10_init_34 rfl ?_
  refine m_putfF (y := yiX10_init) kc_9 0 (by decide) dX10_init_35 q2110 rfl rfl rfl hq rfl rfl (hp_put fun g8 g8H => ?_)
  have fg2 : g8.2.2 g1.1 = some (true, ia K ((12 : Int).toNat) (fun _ => 0)) := (g8H.2.2.2 _ (by omega)).trans fg2
  have fg4 : g8.2.2 g3.1 = some (true, ia K ((12 : Int).toNat) (fun _ => 0)) := (g8H.2.2.2 _ (by omega)).trans fg4
  have fg6 : g8.2.2 g5.1 = some (true, ia K ((12 : Int).toNat) (fun _ => 0)) := (g8H.2.2.2 _ (by omega)).trans fg6
  have hq : g8.2.2 q = some (true, .inr (9, [(vi cut), .null, (.ref g1.1), (.ref g3.1), (.ref g5.1), (vi 0), (.ref x)])) := g8H.2.2.1
  have g81 := g8H.1
  have g82 := g8H.2.1
  refine m_aload_n (y := yiX10_init) dX10_init_38 rfl ?_
  refine m_aload_n (y := yiX10_init) dX10_init_39 rfl ?_
  refine m_putfF (y := yiX10_init) kc_9 1 (by decide) dX10_init_40 q2111 rfl rfl rfl hq rfl rfl (hp_put fun g9 g9H => ?_)
  have fg2 : g9.2.2 g1.1 = some (true, ia K ((12 : Int).toNat) (fun _ => 0)) := (g9H.2.2.2 _ (by omega)).trans fg2
  have fg4 : g9.2.2 g3.1 = some (true, ia K ((12 : Int).toNat) (fun _ => 0)) := (g9H.2.2.2 _ (by omega)).trans fg4
  have fg6 : g9.2.2 g5.1 = some (true, ia K ((12 : Int).toNat) (fun _ => 0)) := (g9H.2.2.2 _ (by omega)).trans fg6
  have hq : g9.2.2 q = some (true, .inr (9, [(vi cut), (.ref wy), (.ref g1.1), (.ref g3.1), (.ref g5.1), (vi 0), (.ref x)])) := g9H.2.2.1
  have g91 := g9H.1
  have g92 := g9H.2.1
  refine m_aload_n (y := yiX10_init) dX10_init_43 rfl ?_
  refine m_getfS (y := yiX10_init) kc_9 2 (by decide) dX10_init_44 q2112 hq rfl ?_
  refine j_ldc (y := yiX10_init) (1000000) dX10_init_47 q2106 (by decide) ?_
  refine m_invS (y := yiX10_init) [(.ref g1.1), (vi 1000000)] dX10_init_49 q2107 q2108 q145 q2109 (c_J20_fill_2 K 1 g9 g1.1 _ _ 1000000 fg2 (by omega)) pdJ20_fill_2 ⟨Nat.le_of_ble_eq_true rfl, by decide, by omega⟩ (kk_v fun h49 q49 => ?_) kx_v
  obtain ⟨fa, q49, i49⟩ := q49
  have y49 := q49.1
  have z49 := q49.2.1
  have fg2 := q49.2.2.1
  have hq : h49.2.2 q = some (true, .inr (9, [(vi cut), (.ref wy), (.ref g1.1), (.ref g3.1), (.ref g5.1), (vi 0), (.ref x)])) := (q49.2.2.2 _ (by omega)).trans hq
  have fg4 : h49.2.2 g3.1 = some (true, ia K ((12 : Int).toNat) (fun _ => 0)) := (q49.2.2.2 _ (by omega)).trans fg4
  have fg6 : h49.2.2 g5.1 = some (true, ia K ((12 : Int).toNat) (fun _ => 0)) := (q49.2.2.2 _ (by omega)).trans fg6
  refine mw_wf (fun hwf49 => ?_)
  have l_fg249 := hwf49 _ _ fg2
  refine m_aload_n (y := yiX10_init) dX10_init_52 rfl ?_
  refine m_getfS (y := yiX10_init) kc_9 3 (by decide) dX10_init_53 q2114 hq rfl ?_
  refine j_ldc (y := yiX10_init) (1000000) dX10_init_56 q2106 (by decide) ?_
  refine m_invS (y := yiX10_init) [(.ref g3.1), (vi 1000000)] dX10_init_58 q2107 q2108 q145 q2109 (c_J20_fill_2 K 1 h49 g3.1 _ _ 1000000 fg4 (by omega)) pdJ20_fill_2 ⟨Nat.le_of_ble_eq_true rfl, by decide, by omega⟩ (kk_v fun h58 q58 => ?_) kx_v
  obtain ⟨fb, q58, i58⟩ := q58
  have y58 := q58.1
  have z58 := q58.2.1
  have fg4 := q58.2.2.1
  have hq : h58.2.2 q = some (true, .inr (9, [(vi cut), (.ref wy), (.ref g1.1), (.ref g3.1), (.ref g5.1), (vi 0), (.ref x)])) := (q58.2.2.2 _ (by omega)).trans hq
  have fg2 : h58.2.2 g1.1 = some (true, ia K 12 fa) := (q58.2.2.2 _ (by omega)).trans fg2
  have fg6 : h58.2.2 g5.1 = some (true, ia K ((12 : Int).toNat) (fun _ => 0)) := (q58.2.2.2 _ (by omega)).trans fg6
  refine mw_wf (fun hwf58 => ?_)
  have l_fg458 := hwf58 _ _ fg4
  refine m_aload_n (y := yiX10_init) dX10_init_61 rfl ?_
  refine m_getfS (y := yiX10_init) kc_9 4 (by decide) dX10_init_62 q2116 hq rfl ?_
  refine j_ldc (y := yiX10_init) (1000000) dX10_init_65 q2106 (by decide) ?_
  refine m_invS (y := yiX10_init) [(.ref g5.1), (vi 1000000)] dX10_init_67 q2107 q2108 q145 q2109 (c_J20_fill_2 K 1 h58 g5.1 _ _ 1000000 fg6 (by omega)) pdJ20_fill_2 ⟨Nat.le_of_ble_eq_true rfl, by decide, by omega⟩ (kk_v fun h67 q67 => ?_) kx_v
  obtain ⟨fr, q67, i67⟩ := q67
  have y67 := q67.1
  have z67 := q67.2.1
  have fg6 := q67.2.2.1
  have hq : h67.2.2 q = some (true, .inr (9, [(vi cut), (.ref wy), (.ref g1.1), (.ref g3.1), (.ref g5.1), (vi 0), (.ref x)])) := (q67.2.2.2 _ (by omega)).trans hq
  have fg2 : h67.2.2 g1.1 = some (true, ia K 12 fa) := (q67.2.2.2 _ (by omega)).trans fg2
  have fg4 : h67.2.2 g3.1 = some (true, ia K 12 fb) := (q67.2.2.2 _ (by omega)).trans fg4
  refine mw_wf (fun hwf67 => ?_)
  have l_fg667 := hwf67 _ _ fg6
  subst hQ; exact j_vret (y := yiX10_init) dX10_init_70 rfl (⟨fa, fb, fr, ⟨by { rw [show h.1 = g1.1 by omega, show g1.1 + 1 = g3.1 by omega, show g1.1 + 2 = g5.1 by omega]; exact hq }, by { rw [show h.1 = g1.1 by omega]; exact fg2 }, by { rw [show h.1 + 1 = g3.1 by omega]; exact fg4 }, by { rw [show h.1 + 2 = g5.1 by omega]; exact fg6 }⟩, fun i a b => ⟨i49 i a b, i58 i a b, i67 i a b⟩, by omega, by omega, fun b hb => by { have e1 := g1H.2.2.2 b (by omega); have e2 := g2H.2.2.2 b (by omega); have e3 := g3H.2.2.2 b (by omega); have e4 := g4H.2.2.2 b (by omega); have e5 := g5H.2.2.2 b (by omega); have e6 := g6H.2.2.2 b (by omega); have e7 := g7H.2.2.2 b (by omega); have e8 := g8H.2.2.2 b (by omega); have e9 := g9H.2.2.2 b (by omega); have f1 := q49.2.2.2 b (by omega); have f2 := q58.2.2.2 b (by omega); have f3 := q67.2.2.2 b (by omega); rw [f3, f2, f1, e9, e8, e7, e6, e5, e4, e3, e2, e1] }⟩)
/-- what reaching stop s at minute t tells of the stops below k: v says how long they take, w whether there is a walk -/
def rcF (cut s t : Int) (w v : Int → Int) (f : Int → Int) (k : Int) : Int → Int := fun j => if 0 ≤ j ∧ j < k ∧ s ≠ cut ∧ w j < 1000000 then mnz (f j) (t + v j) else f j
theorem upz_same {f : Int → Int} {k : Int} : upz f k (f k) = f := by
  funext j; unfold upz; by_cases e : j = k
  · rw [if_pos e, e]
  · rw [if_neg e]
theorem rcF_0 {cut s t : Int} {w v f : Int → Int} : rcF cut s t w v f 0 = f := by
  funext j; unfold rcF; rw [if_neg (by omega)]
theorem rcF_c {s t : Int} {w v f : Int → Int} {k : Int} : rcF s s t w v f k = f := by
  funext j; unfold rcF; rw [if_neg (by omega)]
theorem rcF_s {cut s t x : Int} {w v f : Int → Int} {k : Int} (h0 : 0 ≤ k) (hs : s ≠ cut) (hw : w k < 1000000) (hx : x = t + v k) : upz (rcF cut s t w v f k) k (mnz (rcF cut s t w v f k k) x) = rcF cut s t w v f (k + 1) := by
  subst hx
  funext j
  unfold upz
  by_cases e : j = k
  · subst e
    rw [if_pos rfl]
    unfold rcF
    rw [if_neg (by omega), if_pos (by omega)]
  · rw [if_neg e]
    unfold rcF
    by_cases e2 : 0 ≤ j ∧ j < k ∧ s ≠ cut ∧ w j < 1000000
    · rw [if_pos e2, if_pos (by omega)]
    · rw [if_neg e2, if_neg (by omega)]
theorem rcF_e {cut s t x : Int} {w v f : Int → Int} {k : Int} (h0 : 0 ≤ k) (hs : s ≠ cut) (hw : w k < 1000000) (hx : x = t + v k) (hn : ¬ x < rcF cut s t w v f k k) : rcF cut s t w v f (k + 1) = rcF cut s t w v f k := by
  rw [← rcF_s h0 hs hw hx]
  unfold mnz
  rw [if_neg hn, upz_same]
theorem rcF_n {cut s t : Int} {w v f : Int → Int} {k : Int} (h : s = cut ∨ 1000000 ≤ w k) : rcF cut s t w v f k = rcF cut s t w v f (k + 1) := by
  funext j
  unfold rcF
  by_cases e2 : 0 ≤ j ∧ j < k ∧ s ≠ cut ∧ w j < 1000000
  · rw [if_pos e2, if_pos (by omega)]
  · rw [if_neg e2, if_neg (fun h9 => e2 ⟨h9.1, by
      by_cases e : j = k
      · subst e; omega
      · omega, h9.2.2.1, h9.2.2.2⟩)]
theorem rcF_b {cut s t : Int} {w v f : Int → Int} {k : Int} (hf : ∀ j, 0 ≤ j → j < 12 → -10000 ≤ f j ∧ f j ≤ 2000000) (ht : -5000 ≤ t ∧ t ≤ 10000) (hv : ∀ j, 0 ≤ j → j < 12 → 0 ≤ v j ∧ v j ≤ 1000000) : ∀ j, 0 ≤ j → j < 12 → -10000 ≤ rcF cut s t w v f k j ∧ rcF cut s t w v f k j ≤ 2000000 := by
  intro j j0 j1
  have := hf j j0 j1
  have := hv j j0 j1
  unfold rcF mnz
  split
  · split <;> omega
  · omega
/-- to stay at s takes o -/
def vsO (s o : Int) (w : Int → Int) : Int → Int := fun j => if j = s then o else w j
theorem vsO_b {s o : Int} {w : Int → Int} (ho : 0 ≤ o ∧ o ≤ 30) (hw : ∀ j, 0 ≤ j → j < 12 → 0 ≤ w j ∧ w j ≤ 1000000) : ∀ j, 0 ≤ j → j < 12 → 0 ≤ vsO s o w j ∧ vsO s o w j ≤ 1000000 := by
  intro j j0 j1
  have := hw j j0 j1
  unfold vsO; split <;> omega
theorem c_X10_begins (K : KT) (d : Nat) (h : MH) (x : Nat) (cut : Int) (wy q A B R : Nat) (chg : Int) (fa fb fr : Int → Int) (W : Int → Int → Int) (lo hi z ch wk sv tr lt ws tx : Nat) (n fl : Int) (kp : Value) (s t : Int) (hd : 2 ≤ d) (hL : LbC K h x cut wy q A B R chg fa fb fr) (hc : chg = 0 ∨ chg = 1) (hW : WyC K (rs lo hi h) wy W) (hlh : hi ≤ q ∨ (q < lo ∧ hi ≤ A)) (hN : z ≤ q ∧ q < A ∧ A < B ∧ B < R) (hx : (rs 0 z h).2.2 x = some (true, .inr (0, [.ref ch, .ref wk, vi n, .ref sv, .ref tr, .ref lt, .ref ws, .ref tx, vi fl, kp]))) (hn : 0 ≤ n ∧ n ≤ 12) (hs : 0 ≤ s ∧ s < 12) (ht : 0 ≤ t ∧ t ≤ 10000) (hcu : -1 ≤ cut ∧ cut ≤ 11) (hb : bW W) (hfa : ∀ j, 0 ≤ j → j < 12 → -10000 ≤ fa j ∧ fa j ≤ 2000000) (hfr : ∀ j, 0 ≤ j → j < 12 → -10000 ≤ fr j ∧ fr j ≤ 2000000) : Mt K yiX10_begins d [.ref q, vi s, vi t] h (Rv fun h' => ∃ chg', (chg' = 0 ∨ chg' = 1) ∧ LbC K h' x cut wy q A B R chg' (rcF cut s t (W s) (W s) fa n) fb (rcF cut s t (W s) (W s) fr n) ∧ h'.1 = h.1 ∧ h'.2.1 = h.2.1 ∧ ∀ b, (b ≠ q ∧ b ≠ A ∧ b ≠ R) → h'.2.2 b = h.2.2 b) := by
  obtain ⟨hq, hA, hB, hR⟩ := hL
  obtain ⟨wr, f, hwy0, hwr⟩ := hW
  obtain ⟨hf2, hrow0⟩ := hwr s hs.1 hs.2
  obtain ⟨hx, -, hxz⟩ := rs_at hx
  obtain ⟨hwy, hwz0, hwz⟩ := rs_at hwy0
  obtain ⟨hrow, hrz0, hrz⟩ := rs_at hrow0
  have hws := fun j a b => hb s j hs.1 hs.2 a b
  rw [← rcF_0 (cut := cut) (s := s) (t := t) (w := W s) (v := W s) (f := fa)] at hA
  rw [← rcF_0 (cut := cut) (s := s) (t := t) (w := W s) (v := W s) (f := fr)] at hR
  refine mt_ofQ (by decide) (Nat.le_of_ble_eq_true rfl) (fun Q hQ => ?_)
  show MW K yiX10_begins d h 0 [some (.ref q), some (vi s), some (vi t), none] [] Q
  refine mw_wf (fun hwf => ?_)
  have l_hq := hwf _ _ hq
  have l_hA := hwf _ _ hA
  have l_hB := hwf _ _ hB
  have l_hR := hwf _ _ hR
  have l_hx := hwf _ _ hx
  have l_hwy := hwf _ _ hwy
  have l_hrow := hwf _ _ hrow
  have fR : ∀ b, (b ≠ q ∧ b ≠ A ∧ b ≠ R) → h.2.2 b = h.2.2 b := fun _ _ => rfl
  refine j_iconst (y := yiX10_begins) dX10_begins_0 ?_
  refine j_istore_n (y := yiX10_begins) [some (.ref q), some (vi s), some (vi t), some (vi 0)] dX10_begins_1 (by decide) rfl rfl ?_
  have L2 : ∀ (N : Nat) (k : Int) (chg' : Int) (g : MH), (n - k).toNat = N → (g.2.2 q = some (true, .inr (9, [(vi cut), (.ref wy), (.ref A), (.ref B), (.ref R), (vi chg'), (.ref x)]))) → (g.2.2 A = some (true, ia K 12 (rcF cut s t (W s) (W s) fa k))) → (g.2.2 B = some (true, ia K 12 fb)) → (g.2.2 R = some (true, ia K 12 (rcF cut s t (W s) (W s) fr k))) → (g.2.2 x = some (true, .inr (0, [(.ref ch), (.ref wk), (vi n), (.ref sv), (.ref tr), (.ref lt), (.ref ws), (.ref tx), (vi fl), kp]))) → (g.2.2 wy = some (true, aaE K 12 f)) → (g.2.2 (wr s) = some (true, ia K 12 (W s))) → (∀ b, (b ≠ q ∧ b ≠ A ∧ b ≠ R) → g.2.2 b = h.2.2 b) → (0 ≤ k ∧ k ≤ n) → (chg' = 0 ∨ chg' = 1) → (g.1 = h.1 ∧ g.2.1 = h.2.1) → MW K yiX10_begins d g 2 [some (.ref q), some (vi s), some (vi t), some (vi k)] [] Q := by
    intro N
    induction N using Nat.strongRecOn with
    | _ N ih2 =>
    intro k chg' g hN2 hq hA hB hR hx hwy hrow fR hk hc hsz
    refine mw_wf (fun hwf2 => ?_)
    have l_hq2 := hwf2 _ _ hq
    have l_hA2 := hwf2 _ _ hA
    have l_hB2 := hwf2 _ _ hB
    have l_hR2 := hwf2 _ _ hR
    have l_hx2 := hwf2 _ _ hx
    have l_hwy2 := hwf2 _ _ hwy
    have l_hrow2 := hwf2 _ _ hrow
    refine j_iload_n (y := yiX10_begins) dX10_begins_2 rfl ?_
    refine m_aload_n (y := yiX10_begins) dX10_begins_3 rfl ?_
    refine m_getfS (y := yiX10_begins) kc_9 6 (by decide) dX10_begins_4 q2119 hq rfl ?_
    refine m_getfN (y := yiX10_begins) kc_0 2 (by decide) dX10_begins_7 q299 hx rfl ?_
    refine j_icmp_ge (y := yiX10_begins) 70 dX10_begins_10 (by decide) ⟨⟨by omega, by omega⟩, ⟨by omega, by omega⟩⟩ (fun c10 => ?_) (fun c10 => ?_)
    · subst hQ; exact j_vret (y := yiX10_begins) dX10_begins_70 rfl (⟨chg', hc, ⟨hq, by { rw [show n = k by omega]; exact hA }, hB, by { rw [show n = k by omega]; exact hR }⟩, by omega, by omega, fR⟩)
    · have hwk := hws k (by omega) (by omega)
      have hak := rcF_b (cut := cut) (s := s) (k := k) (f := fa) hfa (by omega : -5000 ≤ t ∧ t ≤ 10000) hws (w := W s) k (by omega) (by omega)
      have hrk := rcF_b (cut := cut) (s := s) (k := k) (f := fr) hfr (by omega : -5000 ≤ t ∧ t ≤ 10000) hws (w := W s) k (by omega) (by omega)
      refine j_iload_n (y := yiX10_begins) dX10_begins_13 rfl ?_
      refine m_aload_n (y := yiX10_begins) dX10_begins_14 rfl ?_
      refine m_getfS (y := yiX10_begins) kc_9 0 (by decide) dX10_begins_15 q2110 hq rfl ?_
      refine j_icmp_eq (y := yiX10_begins) 64 dX10_begins_18 (by decide) ⟨⟨by omega, by omega⟩, ⟨by omega, by omega⟩⟩ (fun c18 => ?_) (fun c18 => ?_)
      · have hA : g.2.2 A = some (true, ia K 12 (rcF cut s t (W s) (W s) fa (k + 1))) := by first | exact hA | (rw [← rcF_n (Or.inl c18)]; exact hA) | (rw [← rcF_n (Or.inr c31)]; exact hA)
        have l_hA := hwf2 _ _ hA
        have hR : g.2.2 R = some (true, ia K 12 (rcF cut s t (W s) (W s) fr (k + 1))) := by first | exact hR | (rw [← rcF_n (Or.inl c18)]; exact hR) | (rw [← rcF_n (Or.inr c31)]; exact hR)
        have l_hR := hwf2 _ _ hR
        refine j_iinc (y := yiX10_begins) [some (.ref q), some (vi s), some (vi t), some (vi (k + 1))] dX10_begins_64 rfl (by decide) rfl rfl ?_
        refine m_goto (y := yiX10_begins) 2 dX10_begins_67 (by decide) ?_
        exact ih2 _ (by omega) _ _ _ rfl hq hA hB hR hx hwy hrow fR (by omega) (by first | omega | (split <;> omega)) (by omega)
      · refine m_aload_n (y := yiX10_begins) dX10_begins_21 rfl ?_
        refine m_getfS (y := yiX10_begins) kc_9 1 (by decide) dX10_begins_22 q2111 hq rfl ?_
        refine j_iload_n (y := yiX10_begins) dX10_begins_25 rfl ?_
        refine h_aald6 (y := yiX10_begins) dX10_begins_26 hwy ⟨by omega, by omega⟩ (by omega) ?_
        rw [hf2]
        show MW K yiX10_begins d g 27 [some (.ref q), some (vi s), some (vi t), some (vi k)] [(.ref (wr s))] Q
        refine j_iload_n (y := yiX10_begins) dX10_begins_27 rfl ?_
        refine j_iald (y := yiX10_begins) dX10_begins_28 hrow (by omega) ⟨by omega, by omega⟩ ?_
        refine j_ldc (y := yiX10_begins) (1000000) dX10_begins_29 q2106 (by decide) ?_
        refine j_icmp_ge (y := yiX10_begins) 64 dX10_begins_31 (by decide) ⟨⟨by omega, by omega⟩, ⟨by omega, by omega⟩⟩ (fun c31 => ?_) (fun c31 => ?_)
        · have hA : g.2.2 A = some (true, ia K 12 (rcF cut s t (W s) (W s) fa (k + 1))) := by first | exact hA | (rw [← rcF_n (Or.inl c18)]; exact hA) | (rw [← rcF_n (Or.inr c31)]; exact hA)
          have l_hA := hwf2 _ _ hA
          have hR : g.2.2 R = some (true, ia K 12 (rcF cut s t (W s) (W s) fr (k + 1))) := by first | exact hR | (rw [← rcF_n (Or.inl c18)]; exact hR) | (rw [← rcF_n (Or.inr c31)]; exact hR)
          have l_hR := hwf2 _ _ hR
          refine j_iinc (y := yiX10_begins) [some (.ref q), some (vi s), some (vi t), some (vi (k + 1))] dX10_begins_64 rfl (by decide) rfl rfl ?_
          refine m_goto (y := yiX10_begins) 2 dX10_begins_67 (by decide) ?_
          exact ih2 _ (by omega) _ _ _ rfl hq hA hB hR hx hwy hrow fR (by omega) (by first | omega | (split <;> omega)) (by omega)
        · refine m_aload_n (y := yiX10_begins) dX10_begins_34 rfl ?_
          refine j_iload_n (y := yiX10_begins) dX10_begins_35 rfl ?_
          refine j_iload_n (y := yiX10_begins) dX10_begins_36 rfl ?_
          refine m_aload_n (y := yiX10_begins) dX10_begins_37 rfl ?_
          refine m_getfS (y := yiX10_begins) kc_9 1 (by decide) dX10_begins_38 q2111 hq rfl ?_
          refine j_iload_n (y := yiX10_begins) dX10_begins_41 rfl ?_
          refine h_aald6 (y := yiX10_begins) dX10_begins_42 hwy ⟨by omega, by omega⟩ (by omega) ?_
          rw [hf2]
          show MW K yiX10_begins d g 43 [some (.ref q), some (vi s), some (vi t), some (vi k)] [(.ref (wr s)), (vi t), (vi k), (.ref q)] Q
          refine j_iload_n (y := yiX10_begins) dX10_begins_43 rfl ?_
          refine j_iald (y := yiX10_begins) dX10_begins_44 hrow (by omega) ⟨by omega, by omega⟩ ?_
          refine j_iadd (y := yiX10_begins) dX10_begins_45 ?_
          refine m_invV (y := yiX10_begins) (rB := (RX10, TX10, 7)) [(vi k), (vi (t + ((W s) k)))] dX10_begins_46 hq rfl q2139 q2141 qs44 q175 q2142 rfl (c_X10_arrives K 1 g x cut wy q A B R chg' _ _ _ k (t + W s k) (by omega) ⟨hq, hA, hB, hR⟩ hc (by omega) ⟨⟨by omega, by omega⟩, by omega, by omega⟩) pdX10_arrives ⟨Nat.le_of_ble_eq_true rfl, by decide, by omega⟩ (kk_v fun h46 q46 => ?_) kx_v
          obtain ⟨q46a, q46b, y46, z46, f46⟩ := q46
          have hA := (by rw [rcF_s (by omega) c18 c31 rfl] at q46b; exact q46b : h46.2.2 A = some (true, ia K 12 (rcF cut s t (W s) (W s) fa (k + 1))))
          have hB : h46.2.2 B = some (true, ia K 12 fb) := (f46 _ (by omega)).trans hB
          have hR : h46.2.2 R = some (true, ia K 12 (rcF cut s t (W s) (W s) fr k)) := (f46 _ (by omega)).trans hR
          have hx : h46.2.2 x = some (true, .inr (0, [(.ref ch), (.ref wk), (vi n), (.ref sv), (.ref tr), (.ref lt), (.ref ws), (.ref tx), (vi fl), kp])) := (f46 _ (by omega)).trans hx
          have hwy : h46.2.2 wy = some (true, aaE K 12 f) := (f46 _ (by omega)).trans hwy
          have hrow : h46.2.2 (wr s) = some (true, ia K 12 (W s)) := (f46 _ (by omega)).trans hrow
          have fR : ∀ b, (b ≠ q ∧ b ≠ A ∧ b ≠ R) → h46.2.2 b = h.2.2 b := fun b hb => (f46 b (by omega)).trans (fR b hb)
          refine mw_wf (fun hwf46 => ?_)
          have l_q46a46 := hwf46 _ _ q46a
          have l_hA46 := hwf46 _ _ hA
          have hc46 : (if t + W s k < rcF cut s t (W s) (W s) fa k k then 1 else chg') = 0 ∨ (if t + W s k < rcF cut s t (W s) (W s) fa k k then 1 else chg') = 1 := by { split <;> omega }
          generalize (if t + W s k < rcF cut s t (W s) (W s) fa k k then 1 else chg') = cg at hc46 q46a ⊢
          have q46a : h46.2.2 q = some (true, .inr (9, [(vi cut), (.ref wy), (.ref A), (.ref B), (.ref R), (vi cg), (.ref x)])) := q46a
          have l_q46a := hwf46 _ _ q46a
          refine m_aload_n (y := yiX10_begins) dX10_begins_49 rfl ?_
          refine j_iload_n (y := yiX10_begins) dX10_begins_50 rfl ?_
          refine j_iload_n (y := yiX10_begins) dX10_begins_51 rfl ?_
          refine m_aload_n (y := yiX10_begins) dX10_begins_52 rfl ?_
          refine m_getfS (y := yiX10_begins) kc_9 1 (by decide) dX10_begins_53 q2111 q46a rfl ?_
          refine j_iload_n (y := yiX10_begins) dX10_begins_56 rfl ?_
          refine h_aald6 (y := yiX10_begins) dX10_begins_57 hwy ⟨by omega, by omega⟩ (by omega) ?_
          rw [hf2]
          show MW K yiX10_begins d h46 58 [some (.ref q), some (vi s), some (vi t), some (vi k)] [(.ref (wr s)), (vi t), (vi k), (.ref q)] Q
          refine j_iload_n (y := yiX10_begins) dX10_begins_58 rfl ?_
          refine j_iald (y := yiX10_begins) dX10_begins_59 hrow (by omega) ⟨by omega, by omega⟩ ?_
          refine j_iadd (y := yiX10_begins) dX10_begins_60 ?_
          refine m_invV (y := yiX10_begins) (rB := (RX10, TX10, 7)) [(vi k), (vi (t + ((W s) k)))] dX10_begins_61 q46a rfl q2144 q2146 qs45 q175 q2147 rfl (c_X10_isReady K 1 h46 x cut wy q A B R cg _ _ _ k (t + W s k) (by omega) ⟨q46a, hA, hB, hR⟩ hc46 (by omega) ⟨⟨by omega, by omega⟩, by omega, by omega⟩) pdX10_isReady ⟨Nat.le_of_ble_eq_true rfl, by decide, by omega⟩ (kk_v fun h61 q61 => ?_) kx_v
          obtain ⟨q61a, q61b, y61, z61, f61⟩ := q61
          have hR := (by rw [rcF_s (by omega) c18 c31 rfl] at q61b; exact q61b : h61.2.2 R = some (true, ia K 12 (rcF cut s t (W s) (W s) fr (k + 1))))
          have hA : h61.2.2 A = some (true, ia K 12 (rcF cut s t (W s) (W s) fa (k + 1))) := (f61 _ (by omega)).trans hA
          have hB : h61.2.2 B = some (true, ia K 12 fb) := (f61 _ (by omega)).trans hB
          have hx : h61.2.2 x = some (true, .inr (0, [(.ref ch), (.ref wk), (vi n), (.ref sv), (.ref tr), (.ref lt), (.ref ws), (.ref tx), (vi fl), kp])) := (f61 _ (by omega)).trans hx
          have hwy : h61.2.2 wy = some (true, aaE K 12 f) := (f61 _ (by omega)).trans hwy
          have hrow : h61.2.2 (wr s) = some (true, ia K 12 (W s)) := (f61 _ (by omega)).trans hrow
          have fR : ∀ b, (b ≠ q ∧ b ≠ A ∧ b ≠ R) → h61.2.2 b = h.2.2 b := fun b hb => (f61 b (by omega)).trans (fR b hb)
          refine mw_wf (fun hwf61 => ?_)
          have l_q61a61 := hwf61 _ _ q61a
          have l_hR61 := hwf61 _ _ hR
          have hA : h61.2.2 A = some (true, ia K 12 (rcF cut s t (W s) (W s) fa (k + 1))) := by first | exact hA | (rw [← rcF_n (Or.inl c18)]; exact hA) | (rw [← rcF_n (Or.inr c31)]; exact hA)
          have l_hA := hwf61 _ _ hA
          have hR : h61.2.2 R = some (true, ia K 12 (rcF cut s t (W s) (W s) fr (k + 1))) := by first | exact hR | (rw [← rcF_n (Or.inl c18)]; exact hR) | (rw [← rcF_n (Or.inr c31)]; exact hR)
          have l_hR := hwf61 _ _ hR
          refine j_iinc (y := yiX10_begins) [some (.ref q), some (vi s), some (vi t), some (vi (k + 1))] dX10_begins_64 rfl (by decide) rfl rfl ?_
          refine m_goto (y := yiX10_begins) 2 dX10_begins_67 (by decide) ?_
          exact ih2 _ (by omega) _ _ _ rfl q61a hA hB hR hx hwy hrow fR (by omega) (by first | omega | (split <;> omega)) (by omega)
  exact L2 _ _ _ _ rfl hq hA hB hR hx hwy hrow fR (by omega) (by omega) (by omega)
theorem c_X10_canGetOn (K : KT) (d : Nat) (h : MH) (x : Nat) (cut : Int) (wy q A B R : Nat) (chg : Int) (fa fb fr : Int → Int) (ru : Nat) (num tr sh : Int) (n : Nat) (fs ga gd : Int → Int) (c : Int) (hd : 2 ≤ d) (hL : LbC K h x cut wy q A B R chg fa fb fr) (hU : RunC K h num tr sh n fs ga gd ru) (hc : 0 ≤ c ∧ c < n) (hn : n ≤ 8) (hs : 0 ≤ fs c ∧ fs c < 12) (ht : -10000 ≤ gd c ∧ gd c ≤ 10000) (hcu : -1 ≤ cut ∧ cut ≤ 11) (hfr : In (fr (fs c))) : Mt K yiX10_canGetOn d [.ref q, .ref ru, vi c] h (Rz fun v h' => h = h' ∧ bz (fs c ≠ cut ∧ (c < (n : Int) - 1 ∧ 0 ≤ gd c) ∧ fr (fs c) ≤ gd c) = v) := by
  have hU' := hU
  obtain ⟨hq, hA, hB, hR⟩ := hL
  obtain ⟨sa, aa, da, hu, hs2, ha2, hd2⟩ := hU
  have r1 := hfr.1
  have r2 := hfr.2
  refine mt_ofQ (by decide) (Nat.le_of_ble_eq_true rfl) (fun Q hQ => ?_)
  show MW K yiX10_canGetOn d h 0 [some (.ref q), some (.ref ru), some (vi c), none] [] Q
  refine mw_wf (fun hwf => ?_)
  have l_hq := hwf _ _ hq
  have l_hR := hwf _ _ hR
  have l_hu := hwf _ _ hu
  have l_hs2 := hwf _ _ hs2
  have l_hd2 := hwf _ _ hd2
  refine m_aload_n (y := yiX10_canGetOn) dX10_canGetOn_0 rfl ?_
  refine m_getfN (y := yiX10_canGetOn) kc_7 3 (by decide) dX10_canGetOn_1 q1905 hu rfl ?_
  refine j_iload_n (y := yiX10_canGetOn) dX10_canGetOn_4 rfl ?_
  refine j_iald (y := yiX10_canGetOn) dX10_canGetOn_5 hs2 (by omega) ⟨by omega, by omega⟩ ?_
  refine j_istore_n (y := yiX10_canGetOn) [some (.ref q), some (.ref ru), some (vi c), some (vi (fs c))] dX10_canGetOn_6 (by decide) rfl rfl ?_
  refine j_iload_n (y := yiX10_canGetOn) dX10_canGetOn_7 rfl ?_
  refine m_aload_n (y := yiX10_canGetOn) dX10_canGetOn_8 rfl ?_
  refine m_getfS (y := yiX10_canGetOn) kc_9 0 (by decide) dX10_canGetOn_9 q2110 hq rfl ?_
  refine j_icmp_eq (y := yiX10_canGetOn) 42 dX10_canGetOn_12 (by decide) ⟨⟨by omega, by omega⟩, ⟨by omega, by omega⟩⟩ (fun c12 => ?_) (fun c12 => ?_)
  · refine j_iconst (y := yiX10_canGetOn) dX10_canGetOn_42 ?_
    subst hQ; exact j_zret (y := yiX10_canGetOn) dX10_canGetOn_43 rfl (by omega) (⟨rfl, by { unfold bz; split <;> omega }⟩)
  · refine m_aload_n (y := yiX10_canGetOn) dX10_canGetOn_15 rfl ?_
    refine j_iload_n (y := yiX10_canGetOn) dX10_canGetOn_16 rfl ?_
    refine m_invV (y := yiX10_canGetOn) (rB := (RX8, TX8, 6)) [(vi c)] dX10_canGetOn_17 hu rfl q2156 q1944 q1945 q167 q1946 rfl (c_X8_canGetOn K 1 h ru num tr sh n fs ga gd c (by omega) hU' hc hn ht) pdX8_canGetOn ⟨Nat.le_of_ble_eq_true rfl, by decide, by omega⟩ (kk_z fun r17 h17 q17 => ?_) kx_z
    obtain ⟨rfl, rfl⟩ := q17
    refine mw_top (x' := bz (c < (n : Int) - 1 ∧ 0 ≤ gd c)) rfl ?_
    refine j_bz_eq (y := yiX10_canGetOn) 42 dX10_canGetOn_20 (by decide) (fun c20 => ?_) (fun c20 => ?_)
    · refine j_iconst (y := yiX10_canGetOn) dX10_canGetOn_42 ?_
      subst hQ; exact j_zret (y := yiX10_canGetOn) dX10_canGetOn_43 rfl (by omega) (⟨rfl, by { unfold bz; split <;> omega }⟩)
    · refine m_aload_n (y := yiX10_canGetOn) dX10_canGetOn_23 rfl ?_
      refine m_getfS (y := yiX10_canGetOn) kc_9 4 (by decide) dX10_canGetOn_24 q2116 hq rfl ?_
      refine j_iload_n (y := yiX10_canGetOn) dX10_canGetOn_27 rfl ?_
      refine j_iald (y := yiX10_canGetOn) dX10_canGetOn_28 hR (by omega) ⟨by omega, by omega⟩ ?_
      refine m_aload_n (y := yiX10_canGetOn) dX10_canGetOn_29 rfl ?_
      refine m_getfN (y := yiX10_canGetOn) kc_7 5 (by decide) dX10_canGetOn_30 q1913 hu rfl ?_
      refine j_iload_n (y := yiX10_canGetOn) dX10_canGetOn_33 rfl ?_
      refine j_iald (y := yiX10_canGetOn) dX10_canGetOn_34 hd2 (by omega) ⟨by omega, by omega⟩ ?_
      refine j_icmp_gt (y := yiX10_canGetOn) 42 dX10_canGetOn_35 (by decide) ⟨⟨by omega, by omega⟩, ⟨by omega, by omega⟩⟩ (fun c35 => ?_) (fun c35 => ?_)
      · refine j_iconst (y := yiX10_canGetOn) dX10_canGetOn_42 ?_
        subst hQ; exact j_zret (y := yiX10_canGetOn) dX10_canGetOn_43 rfl (by omega) (⟨rfl, by { unfold bz; split <;> omega }⟩)
      · refine j_iconst (y := yiX10_canGetOn) dX10_canGetOn_38 ?_
        refine m_goto (y := yiX10_canGetOn) 43 dX10_canGetOn_39 (by decide) ?_
        subst hQ; exact j_zret (y := yiX10_canGetOn) dX10_canGetOn_43 rfl (by omega) (⟨rfl, by { unfold bz; split <;> omega }⟩)
/-- something that reaching stop s at minute t makes less -/
def NewL (cut s t : Int) (w v fa fr : Int → Int) (k : Int) : Prop := s ≠ cut ∧ ∃ j, 0 ≤ j ∧ j < k ∧ w j < 1000000 ∧ (t + w j < fa j ∨ t + v j < fr j)
theorem NewL.s {cut s t : Int} {w v fa fr : Int → Int} {k : Int} (h : NewL cut s t w v fa fr k) : NewL cut s t w v fa fr (k + 1) := by
  obtain ⟨j0, j, j1, j2, j3⟩ := h
  exact ⟨j0, j, j1, by omega, j3⟩
theorem rcF_k {cut s t : Int} {w v f : Int → Int} {k : Int} : rcF cut s t w v f k k = f k := by
  unfold rcF; rw [if_neg (by omega)]
theorem c_X10_comes (K : KT) (d : Nat) (h : MH) (x : Nat) (cut : Int) (wy q A B R : Nat) (chg : Int) (fa fb fr : Int → Int) (W : Int → Int → Int) (lo hi z ch wk sv tt lt ws tx : Nat) (n fl : Int) (kp : Value) (cs : Int → Int) (ru : Nat) (num tr sh : Int) (m : Nat) (fs ga gd : Int → Int) (c : Int) (hd : 2 ≤ d) (hL : LbC K h x cut wy q A B R chg fa fb fr) (hc : chg = 0 ∨ chg = 1) (hW : WyC K (rs lo hi h) wy W) (hlh : hi ≤ q ∨ (q < lo ∧ hi ≤ A)) (hN : z ≤ q ∧ q < A ∧ A < B ∧ B < R) (hx : (rs 0 z h).2.2 x = some (true, .inr (0, [.ref ch, .ref wk, vi n, .ref sv, .ref tt, .ref lt, .ref ws, .ref tx, vi fl, kp]))) (hch : (rs 0 z h).2.2 ch = some (true, ia K 12 cs)) (hU : RunC K (rs 0 z h) num tr sh m fs ga gd ru) (hcm : 0 ≤ c ∧ c < m) (hm : m ≤ 8) (hn : 0 ≤ n ∧ n ≤ 12) (hs : 0 ≤ fs c ∧ fs c < 12) (ht : -5000 ≤ ga c ∧ ga c ≤ 10000) (hcu : -1 ≤ cut ∧ cut ≤ 11) (hb : bW W) (hcs : ∀ j, 0 ≤ j → j < 12 → 0 ≤ cs j ∧ cs j ≤ 30) (hfa : ∀ j, 0 ≤ j → j < 12 → -10000 ≤ fa j ∧ fa j ≤ 2000000) (hfb : ∀ j, 0 ≤ j → j < 12 → -10000 ≤ fb j ∧ fb j ≤ 2000000) (hfr : ∀ j, 0 ≤ j → j < 12 → -10000 ≤ fr j ∧ fr j ≤ 2000000) : Mt K yiX10_comes d [.ref q, .ref ru, vi c] h (Rv fun h' => ∃ chg' fa' fb' fr', (chg' = 0 ∨ chg' = 1) ∧ LbC K h' x cut wy q A B R chg' fa' fb' fr' ∧ fa' = rcF cut (fs c) (ga c) (W (fs c)) (W (fs c)) fa n ∧ fb' = rcF cut (fs c) (ga c) (W (fs c)) (W (fs c)) fb n ∧ fr' = rcF cut (fs c) (ga c) (W (fs c)) (vsO (fs c) (cs (fs c)) (W (fs c))) fr n ∧ (chg = 1 → chg' = 1) ∧ (chg' = 0 → fa' = fa ∧ fr' = fr) ∧ (chg' = 1 → chg = 1 ∨ NewL cut (fs c) (ga c) (W (fs c)) (vsO (fs c) (cs (fs c)) (W (fs c))) fa fr n) ∧ h'.1 = h.1 ∧ h'.2.1 = h.2.1 ∧ ∀ b, (b ≠ q ∧ b ≠ A ∧ b ≠ B ∧ b ≠ R) → h'.2.2 b = h.2.2 b) := by
  obtain ⟨hq, hA, hB, hR⟩ := hL
  obtain ⟨wr, f, hwy0, hwr⟩ := hW
  obtain ⟨hf2, hrow0⟩ := hwr (fs c) hs.1 hs.2
  obtain ⟨hx, -, hxz⟩ := rs_at hx
  obtain ⟨hch, -, hchz⟩ := rs_at hch
  obtain ⟨hwy, hwz0, hwz⟩ := rs_at hwy0
  obtain ⟨hrow, hrz0, hrz⟩ := rs_at hrow0
  obtain ⟨sa, aa, da, hu0, hs20, ha20, hd20⟩ := hU
  obtain ⟨hu, -, huz⟩ := rs_at hu0
  obtain ⟨hs2, -, hsz⟩ := rs_at hs20
  obtain ⟨ha2, -, haz⟩ := rs_at ha20
  have hws := fun j a b => hb (fs c) j hs.1 hs.2 a b
  have hcb := hcs (fs c) hs.1 hs.2
  have hvs := vsO_b (s := fs c) hcb hws
  by_cases hcut : fs c = cut
  · subst hcut
    refine mt_ofQ (by decide) (Nat.le_of_ble_eq_true rfl) (fun Q hQ => ?_)
    show MW K yiX10_comes d h 0 [some (.ref q), some (.ref ru), some (vi c), none, none, none] [] Q
    refine mw_wf (fun hwf => ?_)
    have l_hq := hwf _ _ hq
    have l_hu := hwf _ _ hu
    have l_hs2 := hwf _ _ hs2
    have l_ha2 := hwf _ _ ha2
    refine m_aload_n (y := yiX10_comes) dX10_comes_0 rfl ?_
    refine m_getfN (y := yiX10_comes) kc_7 3 (by decide) dX10_comes_1 q1905 hu rfl ?_
    refine j_iload_n (y := yiX10_comes) dX10_comes_4 rfl ?_
    refine j_iald (y := yiX10_comes) dX10_comes_5 hs2 (by omega) ⟨by omega, by omega⟩ ?_
    refine j_istore_n (y := yiX10_comes) [some (.ref q), some (.ref ru), some (vi c), some (vi (fs c)), none, none] dX10_comes_6 (by decide) rfl rfl ?_
    refine m_aload_n (y := yiX10_comes) dX10_comes_7 rfl ?_
    refine m_getfN (y := yiX10_comes) kc_7 4 (by decide) dX10_comes_8 q1909 hu rfl ?_
    refine j_iload_n (y := yiX10_comes) dX10_comes_11 rfl ?_
    refine j_iald (y := yiX10_comes) dX10_comes_12 ha2 (by omega) ⟨by omega, by omega⟩ ?_
    refine j_istore (y := yiX10_comes) [some (.ref q), some (.ref ru), some (vi c), some (vi (fs c)), some (vi (ga c)), none] dX10_comes_13 (by decide) rfl rfl ?_
    refine j_iload_n (y := yiX10_comes) dX10_comes_15 rfl ?_
    refine m_aload_n (y := yiX10_comes) dX10_comes_16 rfl ?_
    refine m_getfS (y := yiX10_comes) kc_9 0 (by decide) dX10_comes_17 q2110 hq rfl ?_
    refine m_icmp_ne (y := yiX10_comes) 24 dX10_comes_20 (by decide) (fun c => absurd rfl c) (fun _ => ?_)
    subst hQ; exact j_vret (y := yiX10_comes) dX10_comes_23 rfl (⟨chg, fa, fb, fr, hc, ⟨hq, hA, hB, hR⟩, rcF_c.symm, rcF_c.symm, rcF_c.symm, id, fun _ => ⟨rfl, rfl⟩, Or.inl, rfl, rfl, fun _ _ => rfl⟩)
  · rw [← rcF_0 (cut := cut) (s := fs c) (t := ga c) (w := W (fs c)) (v := W (fs c)) (f := fa)] at hA
    rw [← rcF_0 (cut := cut) (s := fs c) (t := ga c) (w := W (fs c)) (v := W (fs c)) (f := fb)] at hB
    rw [← rcF_0 (cut := cut) (s := fs c) (t := ga c) (w := W (fs c)) (v := vsO (fs c) (cs (fs c)) (W (fs c))) (f := fr)] at hR
    refine mt_ofQ (by decide) (Nat.le_of_ble_eq_true rfl) (fun Q hQ => ?_)
    show MW K yiX10_comes d h 0 [some (.ref q), some (.ref ru), some (vi c), none, none, none] [] Q
    refine mw_wf (fun hwf => ?_)
    have l_hq := hwf _ _ hq
    have l_hA := hwf _ _ hA
    have l_hB := hwf _ _ hB
    have l_hR := hwf _ _ hR
    have l_hx := hwf _ _ hx
    have l_hch := hwf _ _ hch
    have l_hwy := hwf _ _ hwy
    have l_hrow := hwf _ _ hrow
    have l_hu := hwf _ _ hu
    have l_hs2 := hwf _ _ hs2
    have l_ha2 := hwf _ _ ha2
    have fR : ∀ b, (b ≠ q ∧ b ≠ A ∧ b ≠ B ∧ b ≠ R) → h.2.2 b = h.2.2 b := fun _ _ => rfl
    refine m_aload_n (y := yiX10_comes) dX10_comes_0 rfl ?_
    refine m_getfN (y := yiX10_comes) kc_7 3 (by decide) dX10_comes_1 q1905 hu rfl ?_
    refine j_iload_n (y := yiX10_comes) dX10_comes_4 rfl ?_
    refine j_iald (y := yiX10_comes) dX10_comes_5 hs2 (by omega) ⟨by omega, by omega⟩ ?_
    refine j_istore_n (y := yiX10_comes) [some (.ref q), some (.ref ru), some (vi c), some (vi (fs c)), none, none] dX10_comes_6 (by decide) rfl rfl ?_
    refine m_aload_n (y := yiX10_comes) dX10_comes_7 rfl ?_
    refine m_getfN (y := yiX10_comes) kc_7 4 (by decide) dX10_comes_8 q1909 hu rfl ?_
    refine j_iload_n (y := yiX10_comes) dX10_comes_11 rfl ?_
    refine j_iald (y := yiX10_comes) dX10_comes_12 ha2 (by omega) ⟨by omega, by omega⟩ ?_
    refine j_istore (y := yiX10_comes) [some (.ref q), some (.ref ru), some (vi c), some (vi (fs c)), some (vi (ga c)), none] dX10_comes_13 (by decide) rfl rfl ?_
    refine j_iload_n (y := yiX10_comes) dX10_comes_15 rfl ?_
    refine m_aload_n (y := yiX10_comes) dX10_comes_16 rfl ?_
    refine m_getfS (y := yiX10_comes) kc_9 0 (by decide) dX10_comes_17 q2110 hq rfl ?_
    refine j_icmp_ne (y := yiX10_comes) 24 dX10_comes_20 (by decide) ⟨⟨by omega, by omega⟩, ⟨by omega, by omega⟩⟩ (fun c20 => ?_) (fun c20 => False.elim (by omega))
    refine j_iconst (y := yiX10_comes) dX10_comes_24 ?_
    refine j_istore (y := yiX10_comes) [some (.ref q), some (.ref ru), some (vi c), some (vi (fs c)), some (vi (ga c)), some (vi 0)] dX10_comes_25 (by decide) rfl rfl ?_
    have L27 : ∀ (N : Nat) (k : Int) (chg' : Int) (g : MH), (n - k).toNat = N → (g.2.2 q = some (true, .inr (9, [(vi cut), (.ref wy), (.ref A), (.ref B), (.ref R), (vi chg'), (.ref x)]))) → (g.2.2 A = some (true, ia K 12 (rcF cut (fs c) (ga c) (W (fs c)) (W (fs c)) fa k))) → (g.2.2 B = some (true, ia K 12 (rcF cut (fs c) (ga c) (W (fs c)) (W (fs c)) fb k))) → (g.2.2 R = some (true, ia K 12 (rcF cut (fs c) (ga c) (W (fs c)) (vsO (fs c) (cs (fs c)) (W (fs c))) fr k))) → (g.2.2 x = some (true, .inr (0, [(.ref ch), (.ref wk), (vi n), (.ref sv), (.ref tt), (.ref lt), (.ref ws), (.ref tx), (vi fl), kp]))) → (g.2.2 ch = some (true, ia K 12 cs)) → (g.2.2 wy = some (true, aaE K 12 f)) → (g.2.2 (wr (fs c)) = some (true, ia K 12 (W (fs c)))) → (∀ b, (b ≠ q ∧ b ≠ A ∧ b ≠ B ∧ b ≠ R) → g.2.2 b = h.2.2 b) → (0 ≤ k ∧ k ≤ n) → (chg' = 0 ∨ chg' = 1) → (chg = 1 → chg' = 1) → (chg' = 0 → rcF cut (fs c) (ga c) (W (fs c)) (W (fs c)) fa k = fa ∧ rcF cut (fs c) (ga c) (W (fs c)) (vsO (fs c) (cs (fs c)) (W (fs c))) fr k = fr) → (chg' = 1 → chg = 1 ∨ NewL cut (fs c) (ga c) (W (fs c)) (vsO (fs c) (cs (fs c)) (W (fs c))) fa fr k) → (g.1 = h.1 ∧ g.2.1 = h.2.1) → MW K yiX10_comes d g 27 [some (.ref q), some (.ref ru), some (vi c), some (vi (fs c)), some (vi (ga c)), some (vi k)] [] Q := by
      intro N
      induction N using Nat.strongRecOn with
      | _ N ih27 =>
      intro k chg' g hN27 hq hA hB hR hx hch hwy hrow fR hk hcg h1 h0 h2 hsz
      refine mw_wf (fun hwf27 => ?_)
      have l_hq27 := hwf27 _ _ hq
      have l_hA27 := hwf27 _ _ hA
      have l_hB27 := hwf27 _ _ hB
      have l_hR27 := hwf27 _ _ hR
      have l_hx27 := hwf27 _ _ hx
      have l_hch27 := hwf27 _ _ hch
      have l_hwy27 := hwf27 _ _ hwy
      have l_hrow27 := hwf27 _ _ hrow
      refine j_iload (y := yiX10_comes) dX10_comes_27 rfl ?_
      refine m_aload_n (y := yiX10_comes) dX10_comes_29 rfl ?_
      refine m_getfS (y := yiX10_comes) kc_9 6 (by decide) dX10_comes_30 q2119 hq rfl ?_
      refine m_getfN (y := yiX10_comes) kc_0 2 (by decide) dX10_comes_33 q299 hx rfl ?_
      refine j_icmp_ge (y := yiX10_comes) 142 dX10_comes_36 (by decide) ⟨⟨by omega, by omega⟩, ⟨by omega, by omega⟩⟩ (fun c36 => ?_) (fun c36 => ?_)
      · subst hQ; exact j_vret (y := yiX10_comes) dX10_comes_142 rfl (⟨chg', _, _, _, hcg, ⟨hq, hA, hB, hR⟩, by rw [show n = k by omega], by rw [show n = k by omega], by rw [show n = k by omega], h1, h0, (by rw [show n = k by omega]; exact h2), hsz.1, hsz.2, fR⟩)
      · have hwk := hws k (by omega) (by omega)
        have hvk := hvs k (by omega) (by omega)
        have hak := rcF_b (cut := cut) (s := fs c) (k := k) (w := W (fs c)) hfa ht hws k (by omega) (by omega)
        have hbk := rcF_b (cut := cut) (s := fs c) (k := k) (w := W (fs c)) hfb ht hws k (by omega) (by omega)
        have hrk := rcF_b (cut := cut) (s := fs c) (k := k) (w := W (fs c)) hfr ht hvs k (by omega) (by omega)
        refine m_aload_n (y := yiX10_comes) dX10_comes_39 rfl ?_
        refine m_getfS (y := yiX10_comes) kc_9 1 (by decide) dX10_comes_40 q2111 hq rfl ?_
        refine j_iload_n (y := yiX10_comes) dX10_comes_43 rfl ?_
        refine h_aald6 (y := yiX10_comes) dX10_comes_44 hwy ⟨by omega, by omega⟩ (by omega) ?_
        rw [hf2]
        show MW K yiX10_comes d g 45 [some (.ref q), some (.ref ru), some (vi c), some (vi (fs c)), some (vi (ga c)), some (vi k)] [(.ref (wr (fs c)))] Q
        refine j_iload (y := yiX10_comes) dX10_comes_45 rfl ?_
        refine j_iald (y := yiX10_comes) dX10_comes_47 hrow (by omega) ⟨by omega, by omega⟩ ?_
        refine j_ldc (y := yiX10_comes) (1000000) dX10_comes_48 q2106 (by decide) ?_
        refine j_icmp_ge (y := yiX10_comes) 136 dX10_comes_50 (by decide) ⟨⟨by omega, by omega⟩, ⟨by omega, by omega⟩⟩ (fun c50 => ?_) (fun c50 => ?_)
        · have hA : g.2.2 A = some (true, ia K 12 (rcF cut (fs c) (ga c) (W (fs c)) (W (fs c)) fa (k + 1))) := by first | exact hA | (rw [← rcF_n (Or.inr c50)]; exact hA)
          have l_hA := hwf27 _ _ hA
          have hB : g.2.2 B = some (true, ia K 12 (rcF cut (fs c) (ga c) (W (fs c)) (W (fs c)) fb (k + 1))) := by first | exact hB | (rw [← rcF_n (Or.inr c50)]; exact hB)
          have l_hB := hwf27 _ _ hB
          have hR : g.2.2 R = some (true, ia K 12 (rcF cut (fs c) (ga c) (W (fs c)) (vsO (fs c) (cs (fs c)) (W (fs c))) fr (k + 1))) := by first | exact hR | (rw [← rcF_n (Or.inr c50)]; exact hR)
          have l_hR := hwf27 _ _ hR
          refine j_iinc (y := yiX10_comes) [some (.ref q), some (.ref ru), some (vi c), some (vi (fs c)), some (vi (ga c)), some (vi (k + 1))] dX10_comes_136 rfl (by decide) rfl rfl ?_
          refine m_goto (y := yiX10_comes) 27 dX10_comes_139 (by decide) ?_
          exact ih27 _ (by omega) _ _ _ rfl hq hA hB hR hx hch hwy hrow fR (by omega) (by first | omega | (split <;> omega)) (fun e => by { have := h1 e; first | omega | (have e2 : cg = 1 := by { rw [← hcg68]; split <;> omega }; rw [e2]; split <;> rfl) }) (by first | (intro e; rw [← rcF_n (Or.inr c50), ← rcF_n (Or.inr c50)]; exact h0 e) | (intro e; have e2 : cg = 0 ∧ ¬ (ga c + o < rcF cut (fs c) (ga c) (W (fs c)) (vsO (fs c) (cs (fs c)) (W (fs c))) fr k k) := by { split at e <;> omega }; have e3 : chg' = 0 ∧ ¬ (ga c + W (fs c) k < rcF cut (fs c) (ga c) (W (fs c)) (W (fs c)) fa k k) := by { rw [e2.1] at hcg68; split at hcg68 <;> omega }; have e4 := h0 e3.1; rw [rcF_e (by omega) hcut c50 rfl e3.2, rcF_e (by omega) hcut c50 (by omega) e2.2]; exact e4)) (by first | exact fun e => (h2 e).imp id NewL.s | (intro e; by_cases e1 : ga c + o < rcF cut (fs c) (ga c) (W (fs c)) (vsO (fs c) (cs (fs c)) (W (fs c))) fr k k; (rw [rcF_k, ho] at e1; exact Or.inr ⟨hcut, k, by omega, by omega, c50, Or.inr e1⟩); (rw [if_neg e1] at e; by_cases e2 : ga c + W (fs c) k < rcF cut (fs c) (ga c) (W (fs c)) (W (fs c)) fa k k; (rw [rcF_k] at e2; exact Or.inr ⟨hcut, k, by omega, by omega, c50, Or.inl e2⟩); (rw [if_neg e2] at hcg68; exact (h2 (by omega)).imp id NewL.s)))) (by omega)
        · refine m_aload_n (y := yiX10_comes) dX10_comes_53 rfl ?_
          refine j_iload (y := yiX10_comes) dX10_comes_54 rfl ?_
          refine j_iload (y := yiX10_comes) dX10_comes_56 rfl ?_
          refine m_aload_n (y := yiX10_comes) dX10_comes_58 rfl ?_
          refine m_getfS (y := yiX10_comes) kc_9 1 (by decide) dX10_comes_59 q2111 hq rfl ?_
          refine j_iload_n (y := yiX10_comes) dX10_comes_62 rfl ?_
          refine h_aald6 (y := yiX10_comes) dX10_comes_63 hwy ⟨by omega, by omega⟩ (by omega) ?_
          rw [hf2]
          show MW K yiX10_comes d g 64 [some (.ref q), some (.ref ru), some (vi c), some (vi (fs c)), some (vi (ga c)), some (vi k)] [(.ref (wr (fs c))), (vi (ga c)), (vi k), (.ref q)] Q
          refine j_iload (y := yiX10_comes) dX10_comes_64 rfl ?_
          refine j_iald (y := yiX10_comes) dX10_comes_66 hrow (by omega) ⟨by omega, by omega⟩ ?_
          refine j_iadd (y := yiX10_comes) dX10_comes_67 ?_
          refine m_invV (y := yiX10_comes) (rB := (RX10, TX10, 7)) [(vi k), (vi ((ga c) + ((W (fs c)) k)))] dX10_comes_68 hq rfl q2139 q2141 qs44 q175 q2142 rfl (c_X10_arrives K 1 g x cut wy q A B R chg' _ _ _ k (ga c + W (fs c) k) (by omega) ⟨hq, hA, hB, hR⟩ hcg (by omega) ⟨⟨by omega, by omega⟩, by omega, by omega⟩) pdX10_arrives ⟨Nat.le_of_ble_eq_true rfl, by decide, by omega⟩ (kk_v fun h68 q68 => ?_) kx_v
          obtain ⟨q68a, q68b, y68, z68, f68⟩ := q68
          have hA := (by rw [rcF_s (by omega) hcut c50 rfl] at q68b; exact q68b : h68.2.2 A = some (true, ia K 12 (rcF cut (fs c) (ga c) (W (fs c)) (W (fs c)) fa (k + 1))))
          have hB : h68.2.2 B = some (true, ia K 12 (rcF cut (fs c) (ga c) (W (fs c)) (W (fs c)) fb k)) := (f68 _ (by omega)).trans hB
          have hR : h68.2.2 R = some (true, ia K 12 (rcF cut (fs c) (ga c) (W (fs c)) (vsO (fs c) (cs (fs c)) (W (fs c))) fr k)) := (f68 _ (by omega)).trans hR
          have hx : h68.2.2 x = some (true, .inr (0, [(.ref ch), (.ref wk), (vi n), (.ref sv), (.ref tt), (.ref lt), (.ref ws), (.ref tx), (vi fl), kp])) := (f68 _ (by omega)).trans hx
          have hch : h68.2.2 ch = some (true, ia K 12 cs) := (f68 _ (by omega)).trans hch
          have hwy : h68.2.2 wy = some (true, aaE K 12 f) := (f68 _ (by omega)).trans hwy
          have hrow : h68.2.2 (wr (fs c)) = some (true, ia K 12 (W (fs c))) := (f68 _ (by omega)).trans hrow
          have fR : ∀ b, (b ≠ q ∧ b ≠ A ∧ b ≠ B ∧ b ≠ R) → h68.2.2 b = h.2.2 b := fun b hb => (f68 b (by omega)).trans (fR b hb)
          refine mw_wf (fun hwf68 => ?_)
          have l_q68a68 := hwf68 _ _ q68a
          have l_hA68 := hwf68 _ _ hA
          have hc68 : (if ga c + W (fs c) k < rcF cut (fs c) (ga c) (W (fs c)) (W (fs c)) fa k k then 1 else chg') = 0 ∨ (if ga c + W (fs c) k < rcF cut (fs c) (ga c) (W (fs c)) (W (fs c)) fa k k then 1 else chg') = 1 := by { split <;> omega }
          generalize hcg68 : (if ga c + W (fs c) k < rcF cut (fs c) (ga c) (W (fs c)) (W (fs c)) fa k k then 1 else chg') = cg at hc68 q68a ⊢
          have q68a : h68.2.2 q = some (true, .inr (9, [(vi cut), (.ref wy), (.ref A), (.ref B), (.ref R), (vi cg), (.ref x)])) := q68a
          have l_q68a := hwf68 _ _ q68a
          refine m_aload_n (y := yiX10_comes) dX10_comes_71 rfl ?_
          refine m_getfS (y := yiX10_comes) kc_9 3 (by decide) dX10_comes_72 q2114 q68a rfl ?_
          refine j_iload (y := yiX10_comes) dX10_comes_75 rfl ?_
          refine m_aload_n (y := yiX10_comes) dX10_comes_77 rfl ?_
          refine m_getfS (y := yiX10_comes) kc_9 3 (by decide) dX10_comes_78 q2114 q68a rfl ?_
          refine j_iload (y := yiX10_comes) dX10_comes_81 rfl ?_
          refine j_iald (y := yiX10_comes) dX10_comes_83 hB (by omega) ⟨by omega, by omega⟩ ?_
          refine j_iload (y := yiX10_comes) dX10_comes_84 rfl ?_
          refine m_aload_n (y := yiX10_comes) dX10_comes_86 rfl ?_
          refine m_getfS (y := yiX10_comes) kc_9 1 (by decide) dX10_comes_87 q2111 q68a rfl ?_
          refine j_iload_n (y := yiX10_comes) dX10_comes_90 rfl ?_
          refine h_aald6 (y := yiX10_comes) dX10_comes_91 hwy ⟨by omega, by omega⟩ (by omega) ?_
          rw [hf2]
          show MW K yiX10_comes d h68 92 [some (.ref q), some (.ref ru), some (vi c), some (vi (fs c)), some (vi (ga c)), some (vi k)] [(.ref (wr (fs c))), (vi (ga c)), (vi ((rcF cut (fs c) (ga c) (W (fs c)) (W (fs c)) fb k) k)), (vi k), (.ref B)] Q
          refine j_iload (y := yiX10_comes) dX10_comes_92 rfl ?_
          refine j_iald (y := yiX10_comes) dX10_comes_94 hrow (by omega) ⟨by omega, by omega⟩ ?_
          refine j_iadd (y := yiX10_comes) dX10_comes_95 ?_
          refine m_mmin (y := yiX10_comes) dX10_comes_96 q2143 q404 q141 q405 ⟨⟨by omega, by omega⟩, ⟨by omega, by omega⟩⟩ ⟨Nat.le_of_ble_eq_true rfl, by omega⟩ ?_
          refine j_iast (y := yiX10_comes) dX10_comes_99 hB (by omega) ⟨by omega, by omega⟩ (hp_put fun g1 g1H => ?_)
          have q68a : g1.2.2 q = some (true, .inr (9, [(vi cut), (.ref wy), (.ref A), (.ref B), (.ref R), (vi cg), (.ref x)])) := (g1H.2.2.2 _ (by omega)).trans q68a
          have hA : g1.2.2 A = some (true, ia K 12 (rcF cut (fs c) (ga c) (W (fs c)) (W (fs c)) fa (k + 1))) := (g1H.2.2.2 _ (by omega)).trans hA
          have hR : g1.2.2 R = some (true, ia K 12 (rcF cut (fs c) (ga c) (W (fs c)) (vsO (fs c) (cs (fs c)) (W (fs c))) fr k)) := (g1H.2.2.2 _ (by omega)).trans hR
          have hx : g1.2.2 x = some (true, .inr (0, [(.ref ch), (.ref wk), (vi n), (.ref sv), (.ref tt), (.ref lt), (.ref ws), (.ref tx), (vi fl), kp])) := (g1H.2.2.2 _ (by omega)).trans hx
          have hch : g1.2.2 ch = some (true, ia K 12 cs) := (g1H.2.2.2 _ (by omega)).trans hch
          have hwy : g1.2.2 wy = some (true, aaE K 12 f) := (g1H.2.2.2 _ (by omega)).trans hwy
          have hrow : g1.2.2 (wr (fs c)) = some (true, ia K 12 (W (fs c))) := (g1H.2.2.2 _ (by omega)).trans hrow
          have fR : ∀ b, (b ≠ q ∧ b ≠ A ∧ b ≠ B ∧ b ≠ R) → g1.2.2 b = h.2.2 b := fun b hb => (g1H.2.2.2 b (by omega)).trans (fR b hb)
          have hB : g1.2.2 B = some (true, ia K 12 (upz (rcF cut (fs c) (ga c) (W (fs c)) (W (fs c)) fb k) k (if ((ga c) + ((W (fs c)) k)) < ((rcF cut (fs c) (ga c) (W (fs c)) (W (fs c)) fb k) k) then ((ga c) + ((W (fs c)) k)) else ((rcF cut (fs c) (ga c) (W (fs c)) (W (fs c)) fb k) k)))) := g1H.2.2.1
          have g11 := g1H.1
          have g12 := g1H.2.1
          have hB : g1.2.2 B = some (true, ia K 12 (rcF cut (fs c) (ga c) (W (fs c)) (W (fs c)) fb (k + 1))) := by { have e9 := hB; first | (rw [← rcF_s (f := fb) (by omega) hcut c50 rfl]; exact e9) | exact e9 }
          refine mw_wf (fun hwfk2 => ?_)
          have l_hB := hwfk2 _ _ hB
          refine m_aload_n (y := yiX10_comes) dX10_comes_100 rfl ?_
          refine j_iload (y := yiX10_comes) dX10_comes_101 rfl ?_
          refine j_iload (y := yiX10_comes) dX10_comes_103 rfl ?_
          have J132 : ∀ (o : Int), (o = vsO (fs c) (cs (fs c)) (W (fs c)) k) → MW K yiX10_comes d g1 132 [some (.ref q), some (.ref ru), some (vi c), some (vi (fs c)), some (vi (ga c)), some (vi k)] [(vi o), (vi (ga c)), (vi k), (.ref q)] Q := by
            intro o ho
            refine j_iadd (y := yiX10_comes) dX10_comes_132 ?_
            refine m_invV (y := yiX10_comes) (rB := (RX10, TX10, 7)) [(vi k), (vi ((ga c) + o))] dX10_comes_133 q68a rfl q2144 q2146 qs45 q175 q2147 rfl (c_X10_isReady K 1 g1 x cut wy q A B R cg _ _ _ k (ga c + o) (by omega) ⟨q68a, hA, hB, hR⟩ hc68 (by omega) ⟨⟨by omega, by omega⟩, by omega, by omega⟩) pdX10_isReady ⟨Nat.le_of_ble_eq_true rfl, by decide, by omega⟩ (kk_v fun h133 q133 => ?_) kx_v
            obtain ⟨q133a, q133b, y133, z133, f133⟩ := q133
            have hR := (by rw [rcF_s (by omega) hcut c50 (by omega)] at q133b; exact q133b : h133.2.2 R = some (true, ia K 12 (rcF cut (fs c) (ga c) (W (fs c)) (vsO (fs c) (cs (fs c)) (W (fs c))) fr (k + 1))))
            have hA : h133.2.2 A = some (true, ia K 12 (rcF cut (fs c) (ga c) (W (fs c)) (W (fs c)) fa (k + 1))) := (f133 _ (by omega)).trans hA
            have hB : h133.2.2 B = some (true, ia K 12 (rcF cut (fs c) (ga c) (W (fs c)) (W (fs c)) fb (k + 1))) := (f133 _ (by omega)).trans hB
            have hx : h133.2.2 x = some (true, .inr (0, [(.ref ch), (.ref wk), (vi n), (.ref sv), (.ref tt), (.ref lt), (.ref ws), (.ref tx), (vi fl), kp])) := (f133 _ (by omega)).trans hx
            have hch : h133.2.2 ch = some (true, ia K 12 cs) := (f133 _ (by omega)).trans hch
            have hwy : h133.2.2 wy = some (true, aaE K 12 f) := (f133 _ (by omega)).trans hwy
            have hrow : h133.2.2 (wr (fs c)) = some (true, ia K 12 (W (fs c))) := (f133 _ (by omega)).trans hrow
            have fR : ∀ b, (b ≠ q ∧ b ≠ A ∧ b ≠ B ∧ b ≠ R) → h133.2.2 b = h.2.2 b := fun b hb => (f133 b (by omega)).trans (fR b hb)
            refine mw_wf (fun hwf133 => ?_)
            have l_q133a133 := hwf133 _ _ q133a
            have l_hR133 := hwf133 _ _ hR
            have hA : h133.2.2 A = some (true, ia K 12 (rcF cut (fs c) (ga c) (W (fs c)) (W (fs c)) fa (k + 1))) := by first | exact hA | (rw [← rcF_n (Or.inr c50)]; exact hA)
            have l_hA := hwf133 _ _ hA
            have hB : h133.2.2 B = some (true, ia K 12 (rcF cut (fs c) (ga c) (W (fs c)) (W (fs c)) fb (k + 1))) := by first | exact hB | (rw [← rcF_n (Or.inr c50)]; exact hB)
            have l_hB := hwf133 _ _ hB
            have hR : h133.2.2 R = some (true, ia K 12 (rcF cut (fs c) (ga c) (W (fs c)) (vsO (fs c) (cs (fs c)) (W (fs c))) fr (k + 1))) := by first | exact hR | (rw [← rcF_n (Or.inr c50)]; exact hR)
            have l_hR := hwf133 _ _ hR
            refine j_iinc (y := yiX10_comes) [some (.ref q), some (.ref ru), some (vi c), some (vi (fs c)), some (vi (ga c)), some (vi (k + 1))] dX10_comes_136 rfl (by decide) rfl rfl ?_
            refine m_goto (y := yiX10_comes) 27 dX10_comes_139 (by decide) ?_
            exact ih27 _ (by omega) _ _ _ rfl q133a hA hB hR hx hch hwy hrow fR (by omega) (by first | omega | (split <;> omega)) (fun e => by { have := h1 e; first | omega | (have e2 : cg = 1 := by { rw [← hcg68]; split <;> omega }; rw [e2]; split <;> rfl) }) (by first | (intro e; rw [← rcF_n (Or.inr c50), ← rcF_n (Or.inr c50)]; exact h0 e) | (intro e; have e2 : cg = 0 ∧ ¬ (ga c + o < rcF cut (fs c) (ga c) (W (fs c)) (vsO (fs c) (cs (fs c)) (W (fs c))) fr k k) := by { split at e <;> omega }; have e3 : chg' = 0 ∧ ¬ (ga c + W (fs c) k < rcF cut (fs c) (ga c) (W (fs c)) (W (fs c)) fa k k) := by { rw [e2.1] at hcg68; split at hcg68 <;> omega }; have e4 := h0 e3.1; rw [rcF_e (by omega) hcut c50 rfl e3.2, rcF_e (by omega) hcut c50 (by omega) e2.2]; exact e4)) (by first | exact fun e => (h2 e).imp id NewL.s | (intro e; by_cases e1 : ga c + o < rcF cut (fs c) (ga c) (W (fs c)) (vsO (fs c) (cs (fs c)) (W (fs c))) fr k k; (rw [rcF_k, ho] at e1; exact Or.inr ⟨hcut, k, by omega, by omega, c50, Or.inr e1⟩); (rw [if_neg e1] at e; by_cases e2 : ga c + W (fs c) k < rcF cut (fs c) (ga c) (W (fs c)) (W (fs c)) fa k k; (rw [rcF_k] at e2; exact Or.inr ⟨hcut, k, by omega, by omega, c50, Or.inl e2⟩); (rw [if_neg e2] at hcg68; exact (h2 (by omega)).imp id NewL.s)))) (by omega)
          refine j_iload (y := yiX10_comes) dX10_comes_105 rfl ?_
          refine j_iload_n (y := yiX10_comes) dX10_comes_107 rfl ?_
          refine j_icmp_ne (y := yiX10_comes) 123 dX10_comes_108 (by decide) ⟨⟨by omega, by omega⟩, ⟨by omega, by omega⟩⟩ (fun c108 => ?_) (fun c108 => ?_)
          · refine m_aload_n (y := yiX10_comes) dX10_comes_123 rfl ?_
            refine m_getfS (y := yiX10_comes) kc_9 1 (by decide) dX10_comes_124 q2111 q68a rfl ?_
            refine j_iload_n (y := yiX10_comes) dX10_comes_127 rfl ?_
            refine h_aald6 (y := yiX10_comes) dX10_comes_128 hwy ⟨by omega, by omega⟩ (by omega) ?_
            rw [hf2]
            show MW K yiX10_comes d g1 129 [some (.ref q), some (.ref ru), some (vi c), some (vi (fs c)), some (vi (ga c)), some (vi k)] [(.ref (wr (fs c))), (vi (ga c)), (vi k), (.ref q)] Q
            refine j_iload (y := yiX10_comes) dX10_comes_129 rfl ?_
            refine j_iald (y := yiX10_comes) dX10_comes_131 hrow (by omega) ⟨by omega, by omega⟩ ?_
            exact J132 _ (by unfold vsO; split <;> first | rfl | (exfalso; omega))
          · refine m_aload_n (y := yiX10_comes) dX10_comes_111 rfl ?_
            refine m_getfS (y := yiX10_comes) kc_9 6 (by decide) dX10_comes_112 q2119 q68a rfl ?_
            refine m_getfN (y := yiX10_comes) kc_0 0 (by decide) dX10_comes_115 q297 hx rfl ?_
            refine j_iload_n (y := yiX10_comes) dX10_comes_118 rfl ?_
            refine j_iald (y := yiX10_comes) dX10_comes_119 hch (by omega) ⟨by omega, by omega⟩ ?_
            refine m_goto (y := yiX10_comes) 132 dX10_comes_120 (by decide) ?_
            exact J132 _ (by unfold vsO; split <;> first | rfl | (exfalso; omega))
    exact L27 _ _ _ _ rfl hq hA hB hR hx hch hwy hrow fR (by omega) hc id (fun _ => ⟨rcF_0, rcF_0⟩) Or.inl (⟨rfl, rfl⟩)
