/-! java.util.BitSet -/
abbrev bt (x : Int64) (k : Int) : Prop := x.toBitVec.getLsbD k.toNat = true
theorem bt_or (x y : Int64) (k : Int) : bt (x ||| y) k ↔ bt x k ∨ bt y k := by
  unfold bt; rw [Int64.toBitVec_or, BitVec.getLsbD_or]; simp
theorem bt_and (x y : Int64) (k : Int) : bt (x &&& y) k ↔ bt x k ∧ bt y k := by
  unfold bt; rw [Int64.toBitVec_and, BitVec.getLsbD_and]; simp
theorem bt_xor (x y : Int64) (k : Int) : bt (x ^^^ y) k ↔ (bt x k ↔ ¬ bt y k) := by
  unfold bt; rw [Int64.toBitVec_xor, BitVec.getLsbD_xor]
  cases x.toBitVec.getLsbD k.toNat <;> cases y.toBitVec.getLsbD k.toNat <;> simp
theorem bt_0 (k : Int) : ¬ bt 0 k := by
  unfold bt; show ¬ ((0 : BitVec 64).getLsbD k.toNat = true); simp
theorem bt_ext {x y : Int64} (h : ∀ k : Int, 0 ≤ k → k < 64 → (bt x k ↔ bt y k)) : x = y := by
  apply Int64.toBitVec_inj.mp
  apply BitVec.eq_of_getLsbD_eq
  intro i hi
  have := h (i : Int) (by omega) (by omega)
  unfold bt at this
  rw [Int.toNat_natCast] at this
  cases e1 : x.toBitVec.getLsbD i <;> cases e2 : y.toBitVec.getLsbD i <;> simp_all
theorem sh1_lt : ∀ i : Nat, i < 640 → (sh1 (i : Int)).toBitVec = BitVec.twoPow 64 (i % 64) := by decide +kernel
theorem bt_sh1 {i k : Int} (hi : 0 ≤ i ∧ i < 640) (hk : 0 ≤ k) : bt (sh1 i) k ↔ k = i % 64 := by
  obtain ⟨j, rfl⟩ := Int.eq_ofNat_of_zero_le hi.1
  obtain ⟨q, rfl⟩ := Int.eq_ofNat_of_zero_le hk
  unfold bt
  rw [sh1_lt j (by omega), BitVec.getLsbD_twoPow, Int.toNat_natCast]
  simp only [Bool.and_eq_true, decide_eq_true_eq]
  omega
theorem and_sh1 {x : Int64} {i : Int} (hi : 0 ≤ i ∧ i < 640) : x &&& sh1 i = 0 ↔ ¬ bt x (i % 64) := by
  constructor
  · intro h hb
    have : bt (x &&& sh1 i) (i % 64) := (bt_and _ _ _).mpr ⟨hb, (bt_sh1 hi (by omega)).mpr rfl⟩
    rw [h] at this
    exact bt_0 _ this
  · intro hb
    refine bt_ext fun k k0 k1 => ?_
    constructor
    · intro h
      have h2 := (bt_and _ _ _).mp h
      have := (bt_sh1 hi k0).mp h2.2
      subst this
      exact absurd h2.1 hb
    · intro h; exact absurd h (bt_0 _)
theorem bt_not (x : Int64) {k : Int} (hk : 0 ≤ k ∧ k < 64) : bt (x ^^^ (-1)) k ↔ ¬ bt x k := by
  rw [bt_xor]
  have : bt (-1) k := by
    unfold bt
    show (BitVec.allOnes 64).getLsbD k.toNat = true
    rw [BitVec.getLsbD_allOnes]
    simp; omega
  constructor
  · intro h h2; exact (h.mp h2) this
  · intro h; exact ⟨fun h2 => absurd h2 h, fun h2 => absurd this h2⟩
theorem laE_cg {K : KT} {n : Nat} {f g : Int → Int64} (h : ∀ i : Int, 0 ≤ i → f i = g i) : laE K n f = laE K n g := by
  have : lqn f = lqn g := by funext j; exact h (j : Int) (by omega)
  unfold laE; rw [this]
def BsA (K : KT) (h : MH) (a w : Nat) (n : Int) (len : Nat) (f : Int → Int64) : Prop := h.2.2 a = some (true, .inr (16, [.ref w, vi n, vi 0])) ∧ h.2.2 w = some (true, laE K len f) ∧ a ≠ w ∧ (0 ≤ n ∧ n ≤ (len : Int) ∧ 1 ≤ len ∧ len ≤ 20) ∧ ∀ i, n ≤ i → f i = 0
/-- i is in the set -/
def inB (f : Int → Int64) (i : Int) : Prop := bt (f (i / 64)) (i % 64)
theorem c_J18_wordIndex (K : KT) (d : Nat) (h : MH) (i : Int) (hi : 0 ≤ i ∧ i < 100000) : Mt K yiJ18_wordIndex d [vi i] h (Rz fun v h' => h = h' ∧ i / 64 = v) := by
  refine mt_ofQ (by decide) (Nat.le_of_ble_eq_true rfl) (fun Q hQ => ?_)
  show MW K yiJ18_wordIndex d h 0 [some (vi i)] [] Q
  refine mw_wf (fun hwf => ?_)
  refine j_iload_n (y := yiJ18_wordIndex) dJ18_wordIndex_0 rfl ?_
  refine j_bipush (y := yiJ18_wordIndex) dJ18_wordIndex_1 (by decide) ?_
  refine j_ishr (y := yiJ18_wordIndex) dJ18_wordIndex_3 ⟨by omega, by omega⟩ ⟨by omega, by omega⟩ ?_
  subst hQ; exact j_iret (y := yiJ18_wordIndex) dJ18_wordIndex_4 rfl (⟨rfl, rfl⟩)
theorem c_J18_checkInvariants (K : KT) (d : Nat) (h : MH) (a w : Nat) (n : Int) (len : Nat) (f : Int → Int64) (hB : kV K 8 = vi 1) (hA : BsA K h a w n len f) : Mt K yiJ18_checkInvariants d [.ref a] h (Rv fun h' => h = h') := by
  obtain ⟨ha, hw, hne, hn, hf⟩ := hA
  refine mt_ofQ (by decide) (Nat.le_of_ble_eq_true rfl) (fun Q hQ => ?_)
  show MW K yiJ18_checkInvariants d h 0 [some (.ref a)] [] Q
  refine mw_wf (fun hwf => ?_)
  have l_ha := hwf _ _ ha
  have l_hw := hwf _ _ hw
  refine m_gets (y := yiJ18_checkInvariants) (ref := "") 8 rfl dJ18_checkInvariants_0 q836 hB ?_
  refine j_if_ne (y := yiJ18_checkInvariants) 37 dJ18_checkInvariants_3 (by decide) ⟨by decide, by decide⟩ (fun _ => ?_) (fun c => absurd c (by decide))
  refine m_gets (y := yiJ18_checkInvariants) (ref := "") 8 rfl dJ18_checkInvariants_37 q836 hB ?_
  refine j_if_ne (y := yiJ18_checkInvariants) 70 dJ18_checkInvariants_40 (by decide) ⟨by decide, by decide⟩ (fun _ => ?_) (fun c => absurd c (by decide))
  refine m_gets (y := yiJ18_checkInvariants) (ref := "") 8 rfl dJ18_checkInvariants_70 q836 hB ?_
  refine j_if_ne (y := yiJ18_checkInvariants) 110 dJ18_checkInvariants_73 (by decide) ⟨by decide, by decide⟩ (fun _ => ?_) (fun c => absurd c (by decide))
  subst hQ; exact j_vret (y := yiJ18_checkInvariants) dJ18_checkInvariants_110 rfl rfl
theorem c_J20_copyOf_4 (K : KT) (d : Nat) (h : MH) (e cap : Nat) (w : Bool) (f : Int → Int64) (m : Int) (hd : 1 ≤ d) (he : h.2.2 e = some (w, laE K cap f)) (hm : (cap : Int) < m ∧ m ≤ 100000) (hz : h.1 + 1 ≤ kC K ∧ h.2.1 + m.toNat ≤ kS K) : Mt K yiJ20_copyOf_4 d [.ref e, vi m] h (Rr fun v h' => h.1 = v ∧ Hp h h' h.1 (true, laE K m.toNat (cpq f (fun _ => 0) 0 0 (cap : Int))) 1 m.toNat) := by
  refine mt_ofQ (by decide) (Nat.le_of_ble_eq_true rfl) (fun Q hQ => ?_)
  show MW K yiJ20_copyOf_4 d h 0 [some (.ref e), some (vi m), none] [] Q
  refine mw_wf (fun hwf => ?_)
  have l_he := hwf _ _ he
  refine j_iload_n (y := yiJ20_copyOf_4) dJ20_copyOf_4_0 rfl ?_
  refine m_aload_n (y := yiJ20_copyOf_4) dJ20_copyOf_4_1 rfl ?_
  refine h_alen (y := yiJ20_copyOf_4) 1 (by decide) dJ20_copyOf_4_2 he ?_
  refine j_icmp_ne (y := yiJ20_copyOf_4) 14 dJ20_copyOf_4_3 (by decide) ⟨⟨by omega, by omega⟩, ⟨by omega, by omega⟩⟩ (fun c3 => ?_) (fun c3 => False.elim (by omega))
  refine j_iload_n (y := yiJ20_copyOf_4) dJ20_copyOf_4_14 rfl ?_
  refine h_newa1 (y := yiJ20_copyOf_4) dJ20_copyOf_4_15 q952 ⟨by omega, by omega⟩ ⟨by omega, by omega⟩ (hp_new fun g1 g1H => ?_)
  have he : g1.2.2 e = some (w, laE K cap f) := (g1H.2.2.2 _ (by omega)).trans he
  have fg1 : g1.2.2 h.1 = some (true, laE K ((m : Int).toNat) (fun _ => 0)) := g1H.2.2.1
  have g11 := g1H.1
  have g12 := g1H.2.1
  refine m_astore_n (y := yiJ20_copyOf_4) dJ20_copyOf_4_17 (by decide) rfl ?_
  show MW K yiJ20_copyOf_4 d g1 18 [some (.ref e), some (vi m), some (.ref h.1)] [] Q
  refine m_aload_n (y := yiJ20_copyOf_4) dJ20_copyOf_4_18 rfl ?_
  refine j_iconst (y := yiJ20_copyOf_4) dJ20_copyOf_4_19 ?_
  refine m_aload_n (y := yiJ20_copyOf_4) dJ20_copyOf_4_20 rfl ?_
  refine j_iconst (y := yiJ20_copyOf_4) dJ20_copyOf_4_21 ?_
  refine m_aload_n (y := yiJ20_copyOf_4) dJ20_copyOf_4_22 rfl ?_
  refine h_alen (y := yiJ20_copyOf_4) 1 (by decide) dJ20_copyOf_4_23 he ?_
  refine j_iload_n (y := yiJ20_copyOf_4) dJ20_copyOf_4_24 rfl ?_
  refine m_mmin (y := yiJ20_copyOf_4) dJ20_copyOf_4_25 q403 q404 q141 q405 ⟨⟨by omega, by omega⟩, ⟨by omega, by omega⟩⟩ ⟨Nat.le_of_ble_eq_true rfl, by omega⟩ ?_
  have hmin : (if m < (cap : Int) then m else (cap : Int)) = (cap : Int) := if_neg (by omega)
  refine h_copyl (y := yiJ20_copyOf_4) dJ20_copyOf_4_28 q406 he fg1 ⟨by omega, by omega⟩ ⟨by omega, by omega, by omega⟩ (by omega) (by omega) ⟨Nat.le_of_ble_eq_true rfl, by omega⟩ (hp_put fun g2 g2H => ?_)
  have he : g2.2.2 e = some (w, laE K cap f) := (g2H.2.2.2 _ (by omega)).trans he
  have fg1 : g2.2.2 h.1 = some (true, laE K ((m : Int).toNat) (cpq f (fun _ => 0) 0 0 (if m < ((cap : Nat) : Int) then m else ((cap : Nat) : Int)))) := g2H.2.2.1
  have g21 := g2H.1
  have g22 := g2H.2.1
  refine m_aload_n (y := yiJ20_copyOf_4) dJ20_copyOf_4_31 rfl ?_
  subst hQ; exact m_aret (y := yiJ20_copyOf_4) (x := (some h.1)) dJ20_copyOf_4_32 rfl (Or.inr ⟨_, rfl⟩) ⟨h.1, rfl, ⟨rfl, by { rw [hmin] at fg1; exact ⟨by omega, by omega, fg1, fun b hb => (g2H.2.2.2 b (by omega)).trans (g1H.2.2.2 b (by omega))⟩ }⟩⟩
theorem c_J18_ensureCapacity (K : KT) (d : Nat) (h : MH) (a w : Nat) (n r : Int) (len : Nat) (f : Int → Int64) (hd : 2 ≤ d) (hA : BsA K h a w n len f) (hr : 0 ≤ r ∧ r ≤ 10) (hz : h.1 + 1 ≤ kC K ∧ h.2.1 + 20 ≤ kS K) : Mt K yiJ18_ensureCapacity d [.ref a, vi r] h (Rv fun h' => ∃ w' len', (w' = w ∨ h.1 ≤ w') ∧ BsA K h' a w' n len' f ∧ r ≤ (len' : Int) ∧ (len ≤ len' ∧ (r ≤ 2 → len ≤ 2 → len' ≤ 2)) ∧ (h.1 ≤ h'.1 ∧ h'.1 + len ≤ h.1 + len') ∧ (h.2.1 ≤ h'.2.1 ∧ h'.2.1 + 2 * len ≤ h.2.1 + 2 * len') ∧ ∀ b, (b < h.1 ∧ b ≠ a ∧ b ≠ w) → h'.2.2 b = h.2.2 b) := by
  obtain ⟨ha, hw, hne, hn, hf⟩ := hA
  by_cases hc : r ≤ (len : Int)
  · refine mt_ofQ (by decide) (Nat.le_of_ble_eq_true rfl) (fun Q hQ => ?_)
    show MW K yiJ18_ensureCapacity d h 0 [some (.ref a), some (vi r), none] [] Q
    refine mw_wf (fun hwf => ?_)
    have l_ha := hwf _ _ ha
    have l_hw := hwf _ _ hw
    refine m_aload_n (y := yiJ18_ensureCapacity) dJ18_ensureCapacity_0 rfl ?_
    refine m_getfS (y := yiJ18_ensureCapacity) kc_16 0 (by decide) dJ18_ensureCapacity_1 q942 ha rfl ?_
    refine h_alen (y := yiJ18_ensureCapacity) 1 (by decide) dJ18_ensureCapacity_4 hw ?_
    refine j_iload_n (y := yiJ18_ensureCapacity) dJ18_ensureCapacity_5 rfl ?_
    refine j_icmp_ge (y := yiJ18_ensureCapacity) 38 dJ18_ensureCapacity_6 (by decide) ⟨⟨by omega, by omega⟩, ⟨by omega, by omega⟩⟩ (fun c6 => ?_) (fun c6 => False.elim (by omega))
    subst hQ; exact j_vret (y := yiJ18_ensureCapacity) dJ18_ensureCapacity_38 rfl (⟨w, len, Or.inl rfl, ⟨ha, hw, hne, hn, hf⟩, hc, ⟨Nat.le_refl _, fun _ h9 => h9⟩, by omega, by omega, fun b hb => rfl⟩)
  · refine mt_ofQ (by decide) (Nat.le_of_ble_eq_true rfl) (fun Q hQ => ?_)
    show MW K yiJ18_ensureCapacity d h 0 [some (.ref a), some (vi r), none] [] Q
    refine mw_wf (fun hwf => ?_)
    have l_ha := hwf _ _ ha
    have l_hw := hwf _ _ hw
    refine m_aload_n (y := yiJ18_ensureCapacity) dJ18_ensureCapacity_0 rfl ?_
    refine m_getfS (y := yiJ18_ensureCapacity) kc_16 0 (by decide) dJ18_ensureCapacity_1 q942 ha rfl ?_
    refine h_alen (y := yiJ18_ensureCapacity) 1 (by decide) dJ18_ensureCapacity_4 hw ?_
    refine j_iload_n (y := yiJ18_ensureCapacity) dJ18_ensureCapacity_5 rfl ?_
    refine j_icmp_ge (y := yiJ18_ensureCapacity) 38 dJ18_ensureCapacity_6 (by decide) ⟨⟨by omega, by omega⟩, ⟨by omega, by omega⟩⟩ (fun c6 => False.elim (by omega)) (fun c6 => ?_)
    refine j_iconst (y := yiJ18_ensureCapacity) dJ18_ensureCapacity_9 ?_
    refine m_aload_n (y := yiJ18_ensureCapacity) dJ18_ensureCapacity_10 rfl ?_
    refine m_getfS (y := yiJ18_ensureCapacity) kc_16 0 (by decide) dJ18_ensureCapacity_11 q942 ha rfl ?_
    refine h_alen (y := yiJ18_ensureCapacity) 1 (by decide) dJ18_ensureCapacity_14 hw ?_
    refine j_imul (y := yiJ18_ensureCapacity) dJ18_ensureCapacity_15 ?_
    refine j_iload_n (y := yiJ18_ensureCapacity) dJ18_ensureCapacity_16 rfl ?_
    refine m_mmax (y := yiJ18_ensureCapacity) dJ18_ensureCapacity_17 q1064 q386 q141 q387 ⟨⟨by omega, by omega⟩, ⟨by omega, by omega⟩⟩ ⟨Nat.le_of_ble_eq_true rfl, by omega⟩ ?_
    generalize hmm : (if (2 * ((len : Nat) : Int)) < r then r else (2 * ((len : Nat) : Int))) = mm
    have hm1 : (2 * (len : Int)) ≤ mm ∧ r ≤ mm ∧ mm ≤ 20 ∧ (mm = 2 * (len : Int) ∨ mm = r) := by { rw [← hmm]; split <;> omega }
    refine j_istore_n (y := yiJ18_ensureCapacity) [some (.ref a), some (vi r), some (vi mm)] dJ18_ensureCapacity_20 (by decide) rfl rfl ?_
    refine m_aload_n (y := yiJ18_ensureCapacity) dJ18_ensureCapacity_21 rfl ?_
    refine m_aload_n (y := yiJ18_ensureCapacity) dJ18_ensureCapacity_22 rfl ?_
    refine m_getfS (y := yiJ18_ensureCapacity) kc_16 0 (by decide) dJ18_ensureCapacity_23 q942 ha rfl ?_
    refine j_iload_n (y := yiJ18_ensureCapacity) dJ18_ensureCapacity_26 rfl ?_
    refine m_invS (y := yiJ18_ensureCapacity) [(.ref w), (vi mm)] dJ18_ensureCapacity_27 q1065 q1066 q145 q1067 (c_J20_copyOf_4 K 1 h w len true f mm (by omega) hw ⟨by omega, by omega⟩ ⟨by omega, by omega⟩) pdJ20_copyOf_4 ⟨Nat.le_of_ble_eq_true rfl, by decide, by omega⟩ (kk_r fun r27 h27 q27 => ?_) kx_r
    obtain ⟨rfl, q27⟩ := q27
    have fn := q27.2.2.1
    have y27 := q27.1
    have z27 := q27.2.1
    have ha : h27.2.2 a = some (true, .inr (16, [(.ref w), (vi n), (vi 0)])) := (q27.2.2.2 _ (by omega)).trans ha
    have hw : h27.2.2 w = some (true, laE K len f) := (q27.2.2.2 _ (by omega)).trans hw
    refine mw_wf (fun hwf27 => ?_)
    have l_fn27 := hwf27 _ _ fn
    refine m_putfS (y := yiJ18_ensureCapacity) kc_16 0 (by decide) dJ18_ensureCapacity_30 q942 rfl ha rfl rfl (hp_put fun g1 g1H => ?_)
    have hw : g1.2.2 w = some (true, laE K len f) := (g1H.2.2.2 _ (by omega)).trans hw
    have fn : g1.2.2 h.1 = some (true, laE K mm.toNat (cpq f (fun _ => 0) 0 0 (len : Int))) := (g1H.2.2.2 _ (by omega)).trans fn
    have ha : g1.2.2 a = some (true, .inr (16, [(.ref h.1), (vi n), (vi 0)])) := g1H.2.2.1
    have g11 := g1H.1
    have g12 := g1H.2.1
    refine m_aload_n (y := yiJ18_ensureCapacity) dJ18_ensureCapacity_33 rfl ?_
    refine j_iconst (y := yiJ18_ensureCapacity) dJ18_ensureCapacity_34 ?_
    refine m_putfS (y := yiJ18_ensureCapacity) kc_16 2 (by decide) dJ18_ensureCapacity_35 q944 rfl ha rfl rfl (hp_put fun g2 g2H => ?_)
    have hw : g2.2.2 w = some (true, laE K len f) := (g2H.2.2.2 _ (by omega)).trans hw
    have fn : g2.2.2 h.1 = some (true, laE K mm.toNat (cpq f (fun _ => 0) 0 0 (len : Int))) := (g2H.2.2.2 _ (by omega)).trans fn
    have ha : g2.2.2 a = some (true, .inr (16, [(.ref h.1), (vi n), (vi 0)])) := g2H.2.2.1
    have g21 := g2H.1
    have g22 := g2H.2.1
    subst hQ; exact j_vret (y := yiJ18_ensureCapacity) dJ18_ensureCapacity_38 rfl (⟨h.1, mm.toNat, Or.inr (Nat.le_refl _), ⟨ha, by { rw [fn]; rw [laE_cg (g := f)]; intro i hi; unfold cpq; by_cases e : 0 ≤ i ∧ i < 0 + (len : Int); { rw [if_pos e]; congr 1; omega }; { rw [if_neg e]; exact (hf i (by omega)).symm } }, by omega, by omega, hf⟩, by omega, ⟨by omega, fun _ _ => by omega⟩, by omega, by omega, fun b hb => (g2H.2.2.2 b (by omega)).trans ((g1H.2.2.2 b (by omega)).trans (q27.2.2.2 b (by omega)))⟩)
theorem c_J18_expandTo (K : KT) (d : Nat) (h : MH) (a w : Nat) (n i : Int) (len : Nat) (f : Int → Int64) (hd : 3 ≤ d) (hA : BsA K h a w n len f) (hi : 0 ≤ i ∧ i ≤ 9) (hz : h.1 + 1 ≤ kC K ∧ h.2.1 + 20 ≤ kS K) : Mt K yiJ18_expandTo d [.ref a, vi i] h (Rv fun h' => ∃ w' len' n', (w' = w ∨ h.1 ≤ w') ∧ BsA K h' a w' n' len' f ∧ i < n' ∧ (len ≤ len' ∧ (i < 2 → len ≤ 2 → len' ≤ 2)) ∧ (h.1 ≤ h'.1 ∧ h'.1 + len ≤ h.1 + len') ∧ (h.2.1 ≤ h'.2.1 ∧ h'.2.1 + 2 * len ≤ h.2.1 + 2 * len') ∧ ∀ b, (b < h.1 ∧ b ≠ a ∧ b ≠ w) → h'.2.2 b = h.2.2 b) := by
  have hA' := hA
  obtain ⟨ha, hw, hne, hn, hf⟩ := hA
  refine mt_ofQ (by decide) (Nat.le_of_ble_eq_true rfl) (fun Q hQ => ?_)
  show MW K yiJ18_expandTo d h 0 [some (.ref a), some (vi i), none] [] Q
  refine mw_wf (fun hwf => ?_)
  have l_ha := hwf _ _ ha
  have l_hw := hwf _ _ hw
  refine j_iload_n (y := yiJ18_expandTo) dJ18_expandTo_0 rfl ?_
  refine j_iconst (y := yiJ18_expandTo) dJ18_expandTo_1 ?_
  refine j_iadd (y := yiJ18_expandTo) dJ18_expandTo_2 ?_
  refine j_istore_n (y := yiJ18_expandTo) [some (.ref a), some (vi i), some (vi (i + 1))] dJ18_expandTo_3 (by decide) rfl rfl ?_
  refine m_aload_n (y := yiJ18_expandTo) dJ18_expandTo_4 rfl ?_
  refine m_getfS (y := yiJ18_expandTo) kc_16 1 (by decide) dJ18_expandTo_5 q943 ha rfl ?_
  refine j_iload_n (y := yiJ18_expandTo) dJ18_expandTo_8 rfl ?_
  refine j_icmp_ge (y := yiJ18_expandTo) 22 dJ18_expandTo_9 (by decide) ⟨⟨by omega, by omega⟩, ⟨by omega, by omega⟩⟩ (fun c9 => ?_) (fun c9 => ?_)
  · subst hQ; exact j_vret (y := yiJ18_expandTo) dJ18_expandTo_22 rfl (by first | exact ⟨w2, len2, i + 1, p1, ⟨ha2, hw2, hne2, by omega, fun j hj => hf j (by omega)⟩, by omega, ⟨p4.1, fun x y => p4.2 (by omega) y⟩, by omega, by omega, fun b hb => (g1H.2.2.2 b (by omega)).trans (p7 b hb)⟩ | exact ⟨w, len, n, Or.inl rfl, hA', by omega, ⟨Nat.le_refl _, fun _ h9 => h9⟩, by omega, by omega, fun b hb => rfl⟩)
  · refine m_aload_n (y := yiJ18_expandTo) dJ18_expandTo_12 rfl ?_
    refine j_iload_n (y := yiJ18_expandTo) dJ18_expandTo_13 rfl ?_
    refine m_invV (y := yiJ18_expandTo) (rB := (RJ18, TJ18, 3)) [(vi (i + 1))] dJ18_expandTo_14 ha rfl q1060 q1062 qs10 q143 q1063 rfl (c_J18_ensureCapacity K 2 h a w n (i + 1) len f (by omega) hA' ⟨by omega, by omega⟩ hz) pdJ18_ensureCapacity ⟨Nat.le_of_ble_eq_true rfl, by decide, by omega⟩ (kk_v fun h14 q14 => ?_) kx_v
    obtain ⟨w2, len2, p1, ⟨ha2, hw2, hne2, hn2, hf2⟩, p3, p4, p5, p6, p7⟩ := q14
    refine mw_wf (fun hwf14 => ?_)
    have l_ha214 := hwf14 _ _ ha2
    have l_hw214 := hwf14 _ _ hw2
    refine m_aload_n (y := yiJ18_expandTo) dJ18_expandTo_17 rfl ?_
    refine j_iload_n (y := yiJ18_expandTo) dJ18_expandTo_18 rfl ?_
    refine m_putfS (y := yiJ18_expandTo) kc_16 1 (by decide) dJ18_expandTo_19 q943 rfl ha2 rfl rfl (hp_put fun g1 g1H => ?_)
    have hw2 : g1.2.2 w2 = some (true, laE K len2 f) := (g1H.2.2.2 _ (by omega)).trans hw2
    have ha2 : g1.2.2 a = some (true, .inr (16, [(.ref w2), (vi (i + 1)), (vi 0)])) := g1H.2.2.1
    have g11 := g1H.1
    have g12 := g1H.2.1
    subst hQ; exact j_vret (y := yiJ18_expandTo) dJ18_expandTo_22 rfl (by first | exact ⟨w2, len2, i + 1, p1, ⟨ha2, hw2, hne2, by omega, fun j hj => hf j (by omega)⟩, by omega, ⟨p4.1, fun x y => p4.2 (by omega) y⟩, by omega, by omega, fun b hb => (g1H.2.2.2 b (by omega)).trans (p7 b hb)⟩ | exact ⟨w, len, n, Or.inl rfl, hA', by omega, ⟨Nat.le_refl _, fun _ h9 => h9⟩, by omega, by omega, fun b hb => rfl⟩)
/-- what a change of one word leaves -/
def BsQ (K : KT) (h h' : MH) (a w len : Nat) (i : Int) (P : (Int → Int64) → Prop) : Prop := ∃ w' len' n' f', (w' = w ∨ h.1 ≤ w') ∧ BsA K h' a w' n' len' f' ∧ P f' ∧ (len ≤ len' ∧ (i < 128 → len ≤ 2 → len' ≤ 2)) ∧ (h.1 ≤ h'.1 ∧ h'.1 + len ≤ h.1 + len') ∧ (h.2.1 ≤ h'.2.1 ∧ h'.2.1 + 2 * len ≤ h.2.1 + 2 * len') ∧ ∀ b, (b < h.1 ∧ b ≠ a ∧ b ≠ w) → h'.2.2 b = h.2.2 b
theorem inB_up {f : Int → Int64} {i : Int} {v : Int64} {j : Int} : inB (upl f (i / 64) v) j ↔ (if j / 64 = i / 64 then bt v (j % 64) else inB f j) := by
  unfold inB upl
  by_cases e : j / 64 = i / 64
  · rw [if_pos e, if_pos e]
  · rw [if_neg e, if_neg e]
theorem inB_or {f : Int → Int64} {i j : Int} (hi : 0 ≤ i ∧ i < 640) (hj : 0 ≤ j) : inB (upl f (i / 64) (f (i / 64) ||| sh1 i)) j ↔ j = i ∨ inB f j := by
  rw [inB_up]
  by_cases e : j / 64 = i / 64
  · rw [if_pos e, bt_or, bt_sh1 hi (by omega)]
    unfold inB
    rw [e]
    constructor
    · rintro (h | h)
      · exact Or.inr h
      · exact Or.inl (by omega)
    · rintro (h | h)
      · exact Or.inr (by omega)
      · exact Or.inl h
  · rw [if_neg e]
    constructor
    · exact Or.inr
    · rintro (h | h)
      · subst h; exact absurd rfl e
      · exact h
theorem inB_xor {f : Int → Int64} {i j : Int} (hi : 0 ≤ i ∧ i < 640) (hj : 0 ≤ j) : inB (upl f (i / 64) (f (i / 64) ^^^ sh1 i)) j ↔ (if j = i then ¬ inB f j else inB f j) := by
  rw [inB_up]
  by_cases e : j / 64 = i / 64
  · rw [if_pos e, bt_xor, bt_sh1 hi (by omega)]
    unfold inB
    rw [e]
    by_cases e2 : j = i
    · rw [if_pos e2]
      constructor
      · intro h h2; exact (h.mp h2) (by omega)
      · intro h; exact ⟨fun h2 => absurd h2 h, fun h2 => absurd (by omega) h2⟩
    · rw [if_neg e2]
      constructor
      · intro h; exact h.mpr (by omega)
      · intro h; exact ⟨fun _ => by omega, fun _ => h⟩
  · rw [if_neg e, if_neg (fun h => e (by rw [h]))]
theorem inB_clr {f : Int → Int64} {i j : Int} (hi : 0 ≤ i ∧ i < 640) (hj : 0 ≤ j) : inB (upl f (i / 64) (f (i / 64) &&& (sh1 i ^^^ (-1)))) j ↔ j ≠ i ∧ inB f j := by
  rw [inB_up]
  by_cases e : j / 64 = i / 64
  · rw [if_pos e, bt_and, bt_not _ (by omega), bt_sh1 hi (by omega)]
    unfold inB
    rw [e]
    constructor
    · rintro ⟨h1, h2⟩; exact ⟨fun h3 => h2 (by omega), h1⟩
    · rintro ⟨h1, h2⟩; exact ⟨h2, fun h3 => h1 (by omega)⟩
  · rw [if_neg e]
    constructor
    · intro h; exact ⟨fun h2 => e (by rw [h2]), h⟩
    · exact fun h => h.2
theorem c_J18_set (K : KT) (d : Nat) (h : MH) (a w : Nat) (n i : Int) (len : Nat) (f : Int → Int64) (hd : 4 ≤ d) (hB : kV K 8 = vi 1) (hA : BsA K h a w n len f) (hi : 0 ≤ i ∧ i < 640) (hz : h.1 + 1 ≤ kC K ∧ h.2.1 + 20 ≤ kS K) : Mt K yiJ18_set d [.ref a, vi i] h (Rv fun h' => BsQ K h h' a w len i (fun f' => ∀ j, 0 ≤ j → (inB f' j ↔ j = i ∨ inB f j))) := by
  have hA' := hA
  obtain ⟨ha, hw, hne, hn, hf⟩ := hA
  refine mt_ofQ (by decide) (Nat.le_of_ble_eq_true rfl) (fun Q hQ => ?_)
  show MW K yiJ18_set d h 0 [some (.ref a), some (vi i), none] [] Q
  refine mw_wf (fun hwf => ?_)
  have l_ha := hwf _ _ ha
  have l_hw := hwf _ _ hw
  refine j_iload_n (y := yiJ18_set) dJ18_set_0 rfl ?_
  refine j_if_ge (y := yiJ18_set) 31 dJ18_set_1 (by decide) ⟨by omega, by omega⟩ (fun c1 => ?_) (fun c1 => False.elim (by omega))
  refine j_iload_n (y := yiJ18_set) dJ18_set_31 rfl ?_
  refine m_invS (y := yiJ18_set) [(vi i)] dJ18_set_32 q838 q839 q143 q840 (c_J18_wordIndex K 3 h i (by omega)) pdJ18_wordIndex ⟨Nat.le_of_ble_eq_true rfl, by decide, by omega⟩ (kk_z fun r32 h32 q32 => ?_) kx_z
  obtain ⟨rfl, rfl⟩ := q32
  refine mw_top (x' := i / 64) rfl ?_
  refine j_istore_n (y := yiJ18_set) [some (.ref a), some (vi i), some (vi (i / 64))] dJ18_set_35 (by decide) rfl rfl ?_
  refine m_aload_n (y := yiJ18_set) dJ18_set_36 rfl ?_
  refine j_iload_n (y := yiJ18_set) dJ18_set_37 rfl ?_
  refine m_invV (y := yiJ18_set) (rB := (RJ18, TJ18, 3)) [(vi (i / 64))] dJ18_set_38 ha rfl q1056 q1058 qs9 q143 q1059 rfl (c_J18_expandTo K 3 h a w n (i / 64) len f (by omega) hA' (by omega) hz) pdJ18_expandTo ⟨Nat.le_of_ble_eq_true rfl, by decide, by omega⟩ (kk_v fun h38 q38 => ?_) kx_v
  obtain ⟨w2, len2, n2, p1, ⟨ha2, hw2, hne2, hn2, hf2⟩, p3, p4, p5, p6, p7⟩ := q38
  refine mw_wf (fun hwf38 => ?_)
  have l_ha238 := hwf38 _ _ ha2
  have l_hw238 := hwf38 _ _ hw2
  refine m_aload_n (y := yiJ18_set) dJ18_set_41 rfl ?_
  refine m_getfS (y := yiJ18_set) kc_16 0 (by decide) dJ18_set_42 q942 ha2 rfl ?_
  refine j_iload_n (y := yiJ18_set) dJ18_set_45 rfl ?_
  refine m_dup2 (y := yiJ18_set) dJ18_set_46 rfl rfl ?_
  refine h_lald (y := yiJ18_set) dJ18_set_47 hw2 ⟨by omega, by omega⟩ (by omega) ?_
  refine m_lconst (y := yiJ18_set) (v := 1) dJ18_set_48 rfl ?_
  refine j_iload_n (y := yiJ18_set) dJ18_set_49 rfl ?_
  refine m_lshl (y := yiJ18_set) (v := sh1 i) dJ18_set_50 rfl ?_
  refine m_lor (y := yiJ18_set) dJ18_set_51 ?_
  refine h_last (y := yiJ18_set) dJ18_set_52 hw2 ⟨by omega, by omega⟩ (by omega) (hp_put fun g1 g1H => ?_)
  have ha2 : g1.2.2 a = some (true, .inr (16, [(.ref w2), (vi n2), (vi 0)])) := (g1H.2.2.2 _ (by omega)).trans ha2
  have hw2 : g1.2.2 w2 = some (true, laE K len2 (upl f (i / 64) ((f (i / 64)) ||| (sh1 i)))) := g1H.2.2.1
  have g11 := g1H.1
  have g12 := g1H.2.1
  have hA3 : BsA K g1 a w2 n2 len2 (upl f (i / 64) (f (i / 64) ||| sh1 i)) := ⟨ha2, hw2, hne2, hn2, fun j hj => by { unfold upl; rw [if_neg (by omega)]; exact hf2 j hj }⟩
  refine m_aload_n (y := yiJ18_set) dJ18_set_53 rfl ?_
  refine m_invV (y := yiJ18_set) (rB := (RJ18, TJ18, 3)) [] dJ18_set_54 ha2 rfl q831 q833 qs1 q143 q835 rfl (c_J18_checkInvariants K 3 g1 a w2 n2 len2 _ hB hA3) pdJ18_checkInvariants ⟨Nat.le_of_ble_eq_true rfl, by decide, by omega⟩ (kk_v fun h54 q54 => ?_) kx_v
  obtain rfl := q54
  subst hQ; exact j_vret (y := yiJ18_set) dJ18_set_57 rfl (⟨w2, len2, n2, _, p1, hA3, fun j hj => inB_or hi hj, ⟨p4.1, fun x y => p4.2 (by omega) y⟩, by omega, by omega, fun b hb => (g1H.2.2.2 b (by omega)).trans (p7 b hb)⟩)
theorem c_J18_get (K : KT) (d : Nat) (h : MH) (a w : Nat) (n i : Int) (len : Nat) (f : Int → Int64) (hd : 1 ≤ d) (hB : kV K 8 = vi 1) (hA : BsA K h a w n len f) (hi : 0 ≤ i ∧ i < 640) : Mt K yiJ18_get d [.ref a, vi i] h (Rz fun v h' => h = h' ∧ (v = 0 ∨ v = 1) ∧ (v = 1 ↔ inB f i)) := by
  have hA' := hA
  obtain ⟨ha, hw, hne, hn, hf⟩ := hA
  refine mt_ofQ (by decide) (Nat.le_of_ble_eq_true rfl) (fun Q hQ => ?_)
  show MW K yiJ18_get d h 0 [some (.ref a), some (vi i), none] [] Q
  refine mw_wf (fun hwf => ?_)
  have l_ha := hwf _ _ ha
  have l_hw := hwf _ _ hw
  refine j_iload_n (y := yiJ18_get) dJ18_get_0 rfl ?_
  refine j_if_ge (y := yiJ18_get) 31 dJ18_get_1 (by decide) ⟨by omega, by omega⟩ (fun c1 => ?_) (fun c1 => False.elim (by omega))
  refine m_aload_n (y := yiJ18_get) dJ18_get_31 rfl ?_
  refine m_invV (y := yiJ18_get) (rB := (RJ18, TJ18, 3)) [] dJ18_get_32 ha rfl q831 q833 qs1 q143 q835 rfl (c_J18_checkInvariants K 0 h a w n len f hB hA') pdJ18_checkInvariants ⟨Nat.le_of_ble_eq_true rfl, by decide, by omega⟩ (kk_v fun h32 q32 => ?_) kx_v
  obtain rfl := q32
  refine j_iload_n (y := yiJ18_get) dJ18_get_35 rfl ?_
  refine m_invS (y := yiJ18_get) [(vi i)] dJ18_get_36 q838 q839 q143 q840 (c_J18_wordIndex K 0 h i (by omega)) pdJ18_wordIndex ⟨Nat.le_of_ble_eq_true rfl, by decide, by omega⟩ (kk_z fun r36 h36 q36 => ?_) kx_z
  obtain ⟨rfl, rfl⟩ := q36
  refine mw_top (x' := i / 64) rfl ?_
  refine j_istore_n (y := yiJ18_get) [some (.ref a), some (vi i), some (vi (i / 64))] dJ18_get_39 (by decide) rfl rfl ?_
  refine j_iload_n (y := yiJ18_get) dJ18_get_40 rfl ?_
  refine m_aload_n (y := yiJ18_get) dJ18_get_41 rfl ?_
  refine m_getfS (y := yiJ18_get) kc_16 1 (by decide) dJ18_get_42 q943 ha rfl ?_
  refine j_icmp_ge (y := yiJ18_get) 67 dJ18_get_45 (by decide) ⟨⟨by omega, by omega⟩, ⟨by omega, by omega⟩⟩ (fun c45 => ?_) (fun c45 => ?_)
  · refine j_iconst (y := yiJ18_get) dJ18_get_67 ?_
    subst hQ; exact j_zret (y := yiJ18_get) dJ18_get_68 rfl (by omega) (⟨rfl, by omega, by first | exact ⟨fun _ => Classical.byContradiction (fun h9 => c59 ((and_sh1 hi).mpr h9)), fun _ => rfl⟩ | exact ⟨fun h9 => absurd h9 (by decide), fun h9 => absurd h9 ((and_sh1 hi).mp c59)⟩ | exact ⟨fun h9 => absurd h9 (by decide), fun h9 => by { unfold inB at h9; rw [hf (i / 64) (by omega)] at h9; exact absurd h9 (bt_0 _) }⟩⟩)
  · refine m_aload_n (y := yiJ18_get) dJ18_get_48 rfl ?_
    refine m_getfS (y := yiJ18_get) kc_16 0 (by decide) dJ18_get_49 q942 ha rfl ?_
    refine j_iload_n (y := yiJ18_get) dJ18_get_52 rfl ?_
    refine h_lald (y := yiJ18_get) dJ18_get_53 hw ⟨by omega, by omega⟩ (by omega) ?_
    refine m_lconst (y := yiJ18_get) (v := 1) dJ18_get_54 rfl ?_
    refine j_iload_n (y := yiJ18_get) dJ18_get_55 rfl ?_
    refine m_lshl (y := yiJ18_get) (v := sh1 i) dJ18_get_56 rfl ?_
    refine m_land (y := yiJ18_get) dJ18_get_57 ?_
    refine m_lconst (y := yiJ18_get) (v := 0) dJ18_get_58 rfl ?_
    refine m_lcEq (y := yiJ18_get) 67 dJ18_get_59 dJ18_get_60 (by decide) (fun c59 => ?_) (fun c59 => ?_)
    · refine j_iconst (y := yiJ18_get) dJ18_get_67 ?_
      subst hQ; exact j_zret (y := yiJ18_get) dJ18_get_68 rfl (by omega) (⟨rfl, by omega, by first | exact ⟨fun _ => Classical.byContradiction (fun h9 => c59 ((and_sh1 hi).mpr h9)), fun _ => rfl⟩ | exact ⟨fun h9 => absurd h9 (by decide), fun h9 => absurd h9 ((and_sh1 hi).mp c59)⟩ | exact ⟨fun h9 => absurd h9 (by decide), fun h9 => by { unfold inB at h9; rw [hf (i / 64) (by omega)] at h9; exact absurd h9 (bt_0 _) }⟩⟩)
    · refine j_iconst (y := yiJ18_get) dJ18_get_63 ?_
      refine m_goto (y := yiJ18_get) 68 dJ18_get_64 (by decide) ?_
      subst hQ; exact j_zret (y := yiJ18_get) dJ18_get_68 rfl (by omega) (⟨rfl, by omega, by first | exact ⟨fun _ => Classical.byContradiction (fun h9 => c59 ((and_sh1 hi).mpr h9)), fun _ => rfl⟩ | exact ⟨fun h9 => absurd h9 (by decide), fun h9 => absurd h9 ((and_sh1 hi).mp c59)⟩ | exact ⟨fun h9 => absurd h9 (by decide), fun h9 => by { unfold inB at h9; rw [hf (i / 64) (by omega)] at h9; exact absurd h9 (bt_0 _) }⟩⟩)
theorem c_J18_recalculateWordsInUse (K : KT) (d : Nat) (h : MH) (a w : Nat) (n : Int) (len : Nat) (f : Int → Int64) (hA : BsA K h a w n len f) : Mt K yiJ18_recalculateWordsInUse d [.ref a] h (Rv fun h' => ∃ n', BsA K h' a w n' len f ∧ n' ≤ n ∧ h'.1 = h.1 ∧ h'.2.1 = h.2.1 ∧ ∀ b, b ≠ a → h'.2.2 b = h.2.2 b) := by
  obtain ⟨ha, hw, hne, hn, hf⟩ := hA
  refine mt_ofQ (by decide) (Nat.le_of_ble_eq_true rfl) (fun Q hQ => ?_)
  show MW K yiJ18_recalculateWordsInUse d h 0 [some (.ref a), none] [] Q
  refine mw_wf (fun hwf => ?_)
  have l_ha := hwf _ _ ha
  have l_hw := hwf _ _ hw
  refine m_aload_n (y := yiJ18_recalculateWordsInUse) dJ18_recalculateWordsInUse_0 rfl ?_
  refine m_getfS (y := yiJ18_recalculateWordsInUse) kc_16 1 (by decide) dJ18_recalculateWordsInUse_1 q943 ha rfl ?_
  refine j_iconst (y := yiJ18_recalculateWordsInUse) dJ18_recalculateWordsInUse_4 ?_
  refine j_isub (y := yiJ18_recalculateWordsInUse) dJ18_recalculateWordsInUse_5 ?_
  refine j_istore_n (y := yiJ18_recalculateWordsInUse) [some (.ref a), some (vi (n - 1))] dJ18_recalculateWordsInUse_6 (by decide) rfl rfl ?_
  have L7 : ∀ (N : Nat) (i : Int), (i + 1).toNat = N → (-1 ≤ i ∧ i < n) → (∀ j, i < j → f j = 0) → MW K yiJ18_recalculateWordsInUse d h 7 [some (.ref a), some (vi i)] [] Q := by
    intro N
    induction N using Nat.strongRecOn with
    | _ N ih7 =>
    intro i hN7 hi hz
    refine j_iload_n (y := yiJ18_recalculateWordsInUse) dJ18_recalculateWordsInUse_7 rfl ?_
    refine j_if_lt (y := yiJ18_recalculateWordsInUse) 31 dJ18_recalculateWordsInUse_8 (by decide) ⟨by omega, by omega⟩ (fun c8 => ?_) (fun c8 => ?_)
    · refine m_aload_n (y := yiJ18_recalculateWordsInUse) dJ18_recalculateWordsInUse_31 rfl ?_
      refine j_iload_n (y := yiJ18_recalculateWordsInUse) dJ18_recalculateWordsInUse_32 rfl ?_
      refine j_iconst (y := yiJ18_recalculateWordsInUse) dJ18_recalculateWordsInUse_33 ?_
      refine j_iadd (y := yiJ18_recalculateWordsInUse) dJ18_recalculateWordsInUse_34 ?_
      refine m_putfS (y := yiJ18_recalculateWordsInUse) kc_16 1 (by decide) dJ18_recalculateWordsInUse_35 q943 rfl ha rfl rfl (hp_put fun g1 g1H => ?_)
      have hw : g1.2.2 w = some (true, laE K len f) := (g1H.2.2.2 _ (by omega)).trans hw
      have ha : g1.2.2 a = some (true, .inr (16, [(.ref w), (vi (i + 1)), (vi 0)])) := g1H.2.2.1
      have g11 := g1H.1
      have g12 := g1H.2.1
      subst hQ; exact j_vret (y := yiJ18_recalculateWordsInUse) dJ18_recalculateWordsInUse_38 rfl (⟨i + 1, ⟨ha, hw, hne, by omega, fun j hj => hz j (by omega)⟩, by omega, g1H.1, g1H.2.1, g1H.2.2.2⟩)
    · refine m_aload_n (y := yiJ18_recalculateWordsInUse) dJ18_recalculateWordsInUse_11 rfl ?_
      refine m_getfS (y := yiJ18_recalculateWordsInUse) kc_16 0 (by decide) dJ18_recalculateWordsInUse_12 q942 ha rfl ?_
      refine j_iload_n (y := yiJ18_recalculateWordsInUse) dJ18_recalculateWordsInUse_15 rfl ?_
      refine h_lald (y := yiJ18_recalculateWordsInUse) dJ18_recalculateWordsInUse_16 hw ⟨by omega, by omega⟩ (by omega) ?_
      refine m_lconst (y := yiJ18_recalculateWordsInUse) (v := 0) dJ18_recalculateWordsInUse_17 rfl ?_
      refine m_lcEq (y := yiJ18_recalculateWordsInUse) 25 dJ18_recalculateWordsInUse_18 dJ18_recalculateWordsInUse_19 (by decide) (fun c18 => ?_) (fun c18 => ?_)
      · refine j_iinc (y := yiJ18_recalculateWordsInUse) [some (.ref a), some (vi (i + (-1)))] dJ18_recalculateWordsInUse_25 rfl (by decide) rfl rfl ?_
        refine m_goto (y := yiJ18_recalculateWordsInUse) 7 dJ18_recalculateWordsInUse_28 (by decide) ?_
        exact ih7 _ (by omega) _ rfl (by omega) (fun j hj => by { by_cases e9 : j = i; { subst e9; exact c18 }; { exact hz j (by omega) } })
      · refine m_goto (y := yiJ18_recalculateWordsInUse) 31 dJ18_recalculateWordsInUse_22 (by decide) ?_
        refine m_aload_n (y := yiJ18_recalculateWordsInUse) dJ18_recalculateWordsInUse_31 rfl ?_
        refine j_iload_n (y := yiJ18_recalculateWordsInUse) dJ18_recalculateWordsInUse_32 rfl ?_
        refine j_iconst (y := yiJ18_recalculateWordsInUse) dJ18_recalculateWordsInUse_33 ?_
        refine j_iadd (y := yiJ18_recalculateWordsInUse) dJ18_recalculateWordsInUse_34 ?_
        refine m_putfS (y := yiJ18_recalculateWordsInUse) kc_16 1 (by decide) dJ18_recalculateWordsInUse_35 q943 rfl ha rfl rfl (hp_put fun g2 g2H => ?_)
        have hw : g2.2.2 w = some (true, laE K len f) := (g2H.2.2.2 _ (by omega)).trans hw
        have ha : g2.2.2 a = some (true, .inr (16, [(.ref w), (vi (i + 1)), (vi 0)])) := g2H.2.2.1
        have g21 := g2H.1
        have g22 := g2H.2.1
        subst hQ; exact j_vret (y := yiJ18_recalculateWordsInUse) dJ18_recalculateWordsInUse_38 rfl (⟨i + 1, ⟨ha, hw, hne, by omega, fun j hj => hz j (by omega)⟩, by omega, g2H.1, g2H.2.1, g2H.2.2.2⟩)
  exact L7 _ _ rfl (by omega) (fun j hj => hf j (by omega))
theorem c_J18_flip (K : KT) (d : Nat) (h : MH) (a w : Nat) (n i : Int) (len : Nat) (f : Int → Int64) (hd : 4 ≤ d) (hB : kV K 8 = vi 1) (hA : BsA K h a w n len f) (hi : 0 ≤ i ∧ i < 640) (hz : h.1 + 1 ≤ kC K ∧ h.2.1 + 20 ≤ kS K) : Mt K yiJ18_flip d [.ref a, vi i] h (Rv fun h' => BsQ K h h' a w len i (fun f' => ∀ j, 0 ≤ j → (inB f' j ↔ (if j = i then ¬ inB f j else inB f j)))) := by
  have hA' := hA
  obtain ⟨ha, hw, hne, hn, hf⟩ := hA
  refine mt_ofQ (by decide) (Nat.le_of_ble_eq_true rfl) (fun Q hQ => ?_)
  show MW K yiJ18_flip d h 0 [some (.ref a), some (vi i), none] [] Q
  refine mw_wf (fun hwf => ?_)
  have l_ha := hwf _ _ ha
  have l_hw := hwf _ _ hw
  refine j_iload_n (y := yiJ18_flip) dJ18_flip_0 rfl ?_
  refine j_if_ge (y := yiJ18_flip) 31 dJ18_flip_1 (by decide) ⟨by omega, by omega⟩ (fun c1 => ?_) (fun c1 => False.elim (by omega))
  refine j_iload_n (y := yiJ18_flip) dJ18_flip_31 rfl ?_
  refine m_invS (y := yiJ18_flip) [(vi i)] dJ18_flip_32 q838 q839 q143 q840 (c_J18_wordIndex K 3 h i (by omega)) pdJ18_wordIndex ⟨Nat.le_of_ble_eq_true rfl, by decide, by omega⟩ (kk_z fun r32 h32 q32 => ?_) kx_z
  obtain ⟨rfl, rfl⟩ := q32
  refine mw_top (x' := i / 64) rfl ?_
  refine j_istore_n (y := yiJ18_flip) [some (.ref a), some (vi i), some (vi (i / 64))] dJ18_flip_35 (by decide) rfl rfl ?_
  refine m_aload_n (y := yiJ18_flip) dJ18_flip_36 rfl ?_
  refine j_iload_n (y := yiJ18_flip) dJ18_flip_37 rfl ?_
  refine m_invV (y := yiJ18_flip) (rB := (RJ18, TJ18, 3)) [(vi (i / 64))] dJ18_flip_38 ha rfl q1056 q1058 qs9 q143 q1059 rfl (c_J18_expandTo K 3 h a w n (i / 64) len f (by omega) hA' (by omega) hz) pdJ18_expandTo ⟨Nat.le_of_ble_eq_true rfl, by decide, by omega⟩ (kk_v fun h38 q38 => ?_) kx_v
  obtain ⟨w2, len2, n2, p1, ⟨ha2, hw2, hne2, hn2, hf2⟩, p3, p4, p5, p6, p7⟩ := q38
  refine mw_wf (fun hwf38 => ?_)
  have l_ha238 := hwf38 _ _ ha2
  have l_hw238 := hwf38 _ _ hw2
  refine m_aload_n (y := yiJ18_flip) dJ18_flip_41 rfl ?_
  refine m_getfS (y := yiJ18_flip) kc_16 0 (by decide) dJ18_flip_42 q942 ha2 rfl ?_
  refine j_iload_n (y := yiJ18_flip) dJ18_flip_45 rfl ?_
  refine m_dup2 (y := yiJ18_flip) dJ18_flip_46 rfl rfl ?_
  refine h_lald (y := yiJ18_flip) dJ18_flip_47 hw2 ⟨by omega, by omega⟩ (by omega) ?_
  refine m_lconst (y := yiJ18_flip) (v := 1) dJ18_flip_48 rfl ?_
  refine j_iload_n (y := yiJ18_flip) dJ18_flip_49 rfl ?_
  refine m_lshl (y := yiJ18_flip) (v := sh1 i) dJ18_flip_50 rfl ?_
  refine m_lxor (y := yiJ18_flip) dJ18_flip_51 ?_
  refine h_last (y := yiJ18_flip) dJ18_flip_52 hw2 ⟨by omega, by omega⟩ (by omega) (hp_put fun g1 g1H => ?_)
  have ha2 : g1.2.2 a = some (true, .inr (16, [(.ref w2), (vi n2), (vi 0)])) := (g1H.2.2.2 _ (by omega)).trans ha2
  have hw2 : g1.2.2 w2 = some (true, laE K len2 (upl f (i / 64) ((f (i / 64)) ^^^ (sh1 i)))) := g1H.2.2.1
  have g11 := g1H.1
  have g12 := g1H.2.1
  have hA3 : BsA K g1 a w2 n2 len2 (upl f (i / 64) (f (i / 64) ^^^ sh1 i)) := ⟨ha2, hw2, hne2, hn2, fun j hj => by { unfold upl; rw [if_neg (by omega)]; exact hf2 j hj }⟩
  refine m_aload_n (y := yiJ18_flip) dJ18_flip_53 rfl ?_
  refine m_invV (y := yiJ18_flip) (rB := (RJ18, TJ18, 3)) [] dJ18_flip_54 ha2 rfl q1094 q1096 qs11 q143 q1097 rfl (c_J18_recalculateWordsInUse K 3 g1 a w2 n2 len2 _ hA3) pdJ18_recalculateWordsInUse ⟨Nat.le_of_ble_eq_true rfl, by decide, by omega⟩ (kk_v fun h54 q54 => ?_) kx_v
  obtain ⟨n4, ⟨ha4, hw4, hne4, hn4, hf4⟩, s1, s2, s3, s4⟩ := q54
  have hw2 : h54.2.2 w2 = some (true, laE K len2 (upl f (i / 64) ((f (i / 64)) ^^^ (sh1 i)))) := (s4 _ (by omega)).trans hw2
  refine mw_wf (fun hwf54 => ?_)
  have l_ha454 := hwf54 _ _ ha4
  refine m_aload_n (y := yiJ18_flip) dJ18_flip_57 rfl ?_
  refine m_invV (y := yiJ18_flip) (rB := (RJ18, TJ18, 3)) [] dJ18_flip_58 ha4 rfl q831 q833 qs1 q143 q835 rfl (c_J18_checkInvariants K 3 h54 a w2 n4 len2 _ hB ⟨ha4, hw4, hne4, hn4, hf4⟩) pdJ18_checkInvariants ⟨Nat.le_of_ble_eq_true rfl, by decide, by omega⟩ (kk_v fun h58 q58 => ?_) kx_v
  obtain rfl := q58
  subst hQ; exact j_vret (y := yiJ18_flip) dJ18_flip_61 rfl (⟨w2, len2, n4, _, p1, ⟨ha4, hw4, hne4, hn4, hf4⟩, fun j hj => inB_xor hi hj, ⟨p4.1, fun x y => p4.2 (by omega) y⟩, by omega, by omega, fun b hb => (s4 b (by omega)).trans ((g1H.2.2.2 b (by omega)).trans (p7 b hb))⟩)
theorem c_J18_clear (K : KT) (d : Nat) (h : MH) (a w : Nat) (n i : Int) (len : Nat) (f : Int → Int64) (hd : 4 ≤ d) (hB : kV K 8 = vi 1) (hA : BsA K h a w n len f) (hi : 0 ≤ i ∧ i < 640) : Mt K yiJ18_clear d [.ref a, vi i] h (Rv fun h' => ∃ n' f', BsA K h' a w n' len f' ∧ n' ≤ n ∧ (∀ j, 0 ≤ j → (inB f' j ↔ j ≠ i ∧ inB f j)) ∧ h'.1 = h.1 ∧ h'.2.1 = h.2.1 ∧ ∀ b, (b ≠ a ∧ b ≠ w) → h'.2.2 b = h.2.2 b) := by
  have hA' := hA
  obtain ⟨ha, hw, hne, hn, hf⟩ := hA
  refine mt_ofQ (by decide) (Nat.le_of_ble_eq_true rfl) (fun Q hQ => ?_)
  show MW K yiJ18_clear d h 0 [some (.ref a), some (vi i), none] [] Q
  refine mw_wf (fun hwf => ?_)
  have l_ha := hwf _ _ ha
  have l_hw := hwf _ _ hw
  refine j_iload_n (y := yiJ18_clear) dJ18_clear_0 rfl ?_
  refine j_if_ge (y := yiJ18_clear) 31 dJ18_clear_1 (by decide) ⟨by omega, by omega⟩ (fun c1 => ?_) (fun c1 => False.elim (by omega))
  refine j_iload_n (y := yiJ18_clear) dJ18_clear_31 rfl ?_
  refine m_invS (y := yiJ18_clear) [(vi i)] dJ18_clear_32 q838 q839 q143 q840 (c_J18_wordIndex K 3 h i (by omega)) pdJ18_wordIndex ⟨Nat.le_of_ble_eq_true rfl, by decide, by omega⟩ (kk_z fun r32 h32 q32 => ?_) kx_z
  obtain ⟨rfl, rfl⟩ := q32
  refine mw_top (x' := i / 64) rfl ?_
  refine j_istore_n (y := yiJ18_clear) [some (.ref a), some (vi i), some (vi (i / 64))] dJ18_clear_35 (by decide) rfl rfl ?_
  refine j_iload_n (y := yiJ18_clear) dJ18_clear_36 rfl ?_
  refine m_aload_n (y := yiJ18_clear) dJ18_clear_37 rfl ?_
  refine m_getfS (y := yiJ18_clear) kc_16 1 (by decide) dJ18_clear_38 q943 ha rfl ?_
  refine j_icmp_lt (y := yiJ18_clear) 45 dJ18_clear_41 (by decide) ⟨⟨by omega, by omega⟩, ⟨by omega, by omega⟩⟩ (fun c41 => ?_) (fun c41 => ?_)
  · refine m_aload_n (y := yiJ18_clear) dJ18_clear_45 rfl ?_
    refine m_getfS (y := yiJ18_clear) kc_16 0 (by decide) dJ18_clear_46 q942 ha rfl ?_
    refine j_iload_n (y := yiJ18_clear) dJ18_clear_49 rfl ?_
    refine m_dup2 (y := yiJ18_clear) dJ18_clear_50 rfl rfl ?_
    refine h_lald (y := yiJ18_clear) dJ18_clear_51 hw ⟨by omega, by omega⟩ (by omega) ?_
    refine m_lconst (y := yiJ18_clear) (v := 1) dJ18_clear_52 rfl ?_
    refine j_iload_n (y := yiJ18_clear) dJ18_clear_53 rfl ?_
    refine m_lshl (y := yiJ18_clear) (v := sh1 i) dJ18_clear_54 rfl ?_
    refine m_ldc2 (y := yiJ18_clear) (v := -1) dJ18_clear_55 q1117 ?_
    refine m_lxor (y := yiJ18_clear) dJ18_clear_58 ?_
    refine m_land (y := yiJ18_clear) dJ18_clear_59 ?_
    refine h_last (y := yiJ18_clear) dJ18_clear_60 hw ⟨by omega, by omega⟩ (by omega) (hp_put fun g1 g1H => ?_)
    have ha : g1.2.2 a = some (true, .inr (16, [(.ref w), (vi n), (vi 0)])) := (g1H.2.2.2 _ (by omega)).trans ha
    have hw : g1.2.2 w = some (true, laE K len (upl f (i / 64) ((f (i / 64)) &&& ((sh1 i) ^^^ (-1 : Int64))))) := g1H.2.2.1
    have g11 := g1H.1
    have g12 := g1H.2.1
    have hA3 : BsA K g1 a w n len (upl f (i / 64) (f (i / 64) &&& (sh1 i ^^^ (-1)))) := ⟨ha, hw, hne, hn, fun j hj => by { unfold upl; rw [if_neg (by omega)]; exact hf j hj }⟩
    refine m_aload_n (y := yiJ18_clear) dJ18_clear_61 rfl ?_
    refine m_invV (y := yiJ18_clear) (rB := (RJ18, TJ18, 3)) [] dJ18_clear_62 ha rfl q1094 q1096 qs11 q143 q1097 rfl (c_J18_recalculateWordsInUse K 3 g1 a w n len _ hA3) pdJ18_recalculateWordsInUse ⟨Nat.le_of_ble_eq_true rfl, by decide, by omega⟩ (kk_v fun h62 q62 => ?_) kx_v
    obtain ⟨n4, ⟨ha4, hw4, hne4, hn4, hf4⟩, s1, s2, s3, s4⟩ := q62
    have hw : h62.2.2 w = some (true, laE K len (upl f (i / 64) ((f (i / 64)) &&& ((sh1 i) ^^^ (-1 : Int64))))) := (s4 _ (by omega)).trans hw
    refine mw_wf (fun hwf62 => ?_)
    have l_ha462 := hwf62 _ _ ha4
    refine m_aload_n (y := yiJ18_clear) dJ18_clear_65 rfl ?_
    refine m_invV (y := yiJ18_clear) (rB := (RJ18, TJ18, 3)) [] dJ18_clear_66 ha4 rfl q831 q833 qs1 q143 q835 rfl (c_J18_checkInvariants K 3 h62 a w n4 len _ hB ⟨ha4, hw4, hne4, hn4, hf4⟩) pdJ18_checkInvariants ⟨Nat.le_of_ble_eq_true rfl, by decide, by omega⟩ (kk_v fun h66 q66 => ?_) kx_v
    obtain rfl := q66
    subst hQ; exact j_vret (y := yiJ18_clear) dJ18_clear_69 rfl (by first | exact ⟨n4, _, ⟨ha4, hw4, hne4, hn4, hf4⟩, by omega, fun j hj => inB_clr hi hj, by omega, by omega, fun b hb => (s4 b hb.1).trans (g1H.2.2.2 b hb.2)⟩ | exact ⟨n, f, hA', Int.le_refl _, fun j hj => ⟨fun h9 => ⟨fun h8 => by { subst h8; unfold inB at h9; rw [hf (j / 64) (by omega)] at h9; exact absurd h9 (bt_0 _) }, h9⟩, fun h9 => h9.2⟩, rfl, rfl, fun _ _ => rfl⟩)
  · subst hQ; exact j_vret (y := yiJ18_clear) dJ18_clear_44 rfl (by first | exact ⟨n4, _, ⟨ha4, hw4, hne4, hn4, hf4⟩, by omega, fun j hj => inB_clr hi hj, by omega, by omega, fun b hb => (s4 b hb.1).trans (g1H.2.2.2 b hb.2)⟩ | exact ⟨n, f, hA', Int.le_refl _, fun j hj => ⟨fun h9 => ⟨fun h8 => by { subst h8; unfold inB at h9; rw [hf (j / 64) (by omega)] at h9; exact absurd h9 (bt_0 _) }, h9⟩, fun h9 => h9.2⟩, rfl, rfl, fun _ _ => rfl⟩)
theorem c_J18_initWords (K : KT) (d : Nat) (h : MH) (a : Nat) (hd : 1 ≤ d) (ha : h.2.2 a = some (true, .inr (16, [.null, vi 0, vi 0]))) (hz : h.1 + 1 ≤ kC K ∧ h.2.1 + 1 ≤ kS K) : Mt K yiJ18_initWords d [.ref a, vi 64] h (Rv fun h' => h'.1 = h.1 + 1 ∧ h'.2.1 = h.2.1 + 1 ∧ h'.2.2 a = some (true, .inr (16, [.ref h.1, vi 0, vi 0])) ∧ h'.2.2 h.1 = some (true, laE K 1 (fun _ => 0)) ∧ ∀ b, (b ≠ a ∧ b ≠ h.1) → h'.2.2 b = h.2.2 b) := by
  refine mt_ofQ (by decide) (Nat.le_of_ble_eq_true rfl) (fun Q hQ => ?_)
  show MW K yiJ18_initWords d h 0 [some (.ref a), some (vi 64)] [] Q
  refine mw_wf (fun hwf => ?_)
  have l_ha := hwf _ _ ha
  refine m_aload_n (y := yiJ18_initWords) dJ18_initWords_0 rfl ?_
  refine j_iload_n (y := yiJ18_initWords) dJ18_initWords_1 rfl ?_
  refine j_iconst (y := yiJ18_initWords) dJ18_initWords_2 ?_
  refine j_isub (y := yiJ18_initWords) dJ18_initWords_3 ?_
  refine m_invS (y := yiJ18_initWords) [(vi (64 - 1))] dJ18_initWords_4 q838 q839 q143 q840 (c_J18_wordIndex K 0 h (64 - 1) (by omega)) pdJ18_wordIndex ⟨Nat.le_of_ble_eq_true rfl, by decide, by omega⟩ (kk_z fun r4 h4 q4 => ?_) kx_z
  obtain ⟨rfl, e4⟩ := q4
  refine mw_top (x' := 0) (by omega) ?_
  refine j_iconst (y := yiJ18_initWords) dJ18_initWords_7 ?_
  refine j_iadd (y := yiJ18_initWords) dJ18_initWords_8 ?_
  refine h_newa1 (y := yiJ18_initWords) dJ18_initWords_9 q952 ⟨by omega, by omega⟩ ⟨by omega, by omega⟩ (hp_new fun g1 g1H => ?_)
  have ha : g1.2.2 a = some (true, .inr (16, [.null, (vi 0), (vi 0)])) := (g1H.2.2.2 _ (by omega)).trans ha
  have fg1 : g1.2.2 h.1 = some (true, laE K (((0 + 1) : Int).toNat) (fun _ => 0)) := g1H.2.2.1
  have g11 := g1H.1
  have g12 := g1H.2.1
  refine m_putfS (y := yiJ18_initWords) kc_16 0 (by decide) dJ18_initWords_11 q942 rfl ha rfl rfl (hp_put fun g2 g2H => ?_)
  have fg1 : g2.2.2 h.1 = some (true, laE K (((0 + 1) : Int).toNat) (fun _ => 0)) := (g2H.2.2.2 _ (by omega)).trans fg1
  have ha : g2.2.2 a = some (true, .inr (16, [(.ref h.1), (vi 0), (vi 0)])) := g2H.2.2.1
  have g21 := g2H.1
  have g22 := g2H.2.1
  subst hQ; exact j_vret (y := yiJ18_initWords) dJ18_initWords_14 rfl (⟨by omega, by omega, ha, fg1, fun b hb => (g2H.2.2.2 b hb.1).trans (g1H.2.2.2 b hb.2)⟩)
theorem c_J18_init (K : KT) (d : Nat) (h : MH) (a : Nat) (hd : 3 ≤ d) (ha : h.2.2 a = some (true, .inr (16, [.null, vi 0, vi 0]))) (hz : h.1 + 1 ≤ kC K ∧ h.2.1 + 1 ≤ kS K) : Mt K yiJ18_init d [.ref a] h (Rv fun h' => BsA K h' a h.1 0 1 (fun _ => 0) ∧ h'.1 = h.1 + 1 ∧ h'.2.1 = h.2.1 + 1 ∧ ∀ b, (b ≠ a ∧ b ≠ h.1) → h'.2.2 b = h.2.2 b) := by
  refine mt_ofQ (by decide) (Nat.le_of_ble_eq_true rfl) (fun Q hQ => ?_)
  show MW K yiJ18_init d h 0 [some (.ref a)] [] Q
  refine mw_wf (fun hwf => ?_)
  have l_ha := hwf _ _ ha
  refine m_aload_n (y := yiJ18_init) dJ18_init_0 rfl ?_
  refine m_objInit (y := yiJ18_init) dJ18_init_1 q937 q195 q196 ⟨Nat.le_of_ble_eq_true rfl, by omega⟩ ?_
  refine m_aload_n (y := yiJ18_init) dJ18_init_4 rfl ?_
  refine j_iconst (y := yiJ18_init) dJ18_init_5 ?_
  refine m_putfS (y := yiJ18_init) kc_16 1 (by decide) dJ18_init_6 q943 rfl ha rfl rfl (hp_put fun g1 g1H => ?_)
  have ha : g1.2.2 a = some (true, .inr (16, [.null, (vi 0), (vi 0)])) := g1H.2.2.1
  have g11 := g1H.1
  have g12 := g1H.2.1
  refine m_aload_n (y := yiJ18_init) dJ18_init_9 rfl ?_
  refine j_iconst (y := yiJ18_init) dJ18_init_10 ?_
  refine m_putfS (y := yiJ18_init) kc_16 2 (by decide) dJ18_init_11 q944 rfl ha rfl rfl (hp_put fun g2 g2H => ?_)
  have ha : g2.2.2 a = some (true, .inr (16, [.null, (vi 0), (vi 0)])) := g2H.2.2.1
  have g21 := g2H.1
  have g22 := g2H.2.1
  refine m_aload_n (y := yiJ18_init) dJ18_init_14 rfl ?_
  refine j_bipush (y := yiJ18_init) dJ18_init_15 (by decide) ?_
  refine m_invV (y := yiJ18_init) (rB := (RJ18, TJ18, 3)) [(vi 64)] dJ18_init_17 ha rfl q938 q940 qs4 q143 q941 rfl (c_J18_initWords K 2 g2 a (by omega) ha ⟨by omega, by omega⟩) pdJ18_initWords ⟨Nat.le_of_ble_eq_true rfl, by decide, by omega⟩ (kk_v fun h17 q17 => ?_) kx_v
  obtain ⟨t1, t2, t3, t4, t5⟩ := q17
  refine mw_wf (fun hwf17 => ?_)
  have l_t317 := hwf17 _ _ t3
  have l_t417 := hwf17 _ _ t4
  refine m_aload_n (y := yiJ18_init) dJ18_init_20 rfl ?_
  refine j_iconst (y := yiJ18_init) dJ18_init_21 ?_
  refine m_putfS (y := yiJ18_init) kc_16 2 (by decide) dJ18_init_22 q944 rfl t3 rfl rfl (hp_put fun g3 g3H => ?_)
  have t4 : g3.2.2 g2.1 = some (true, laE K 1 (fun _ => 0)) := (g3H.2.2.2 _ (by omega)).trans t4
  have t3 : g3.2.2 a = some (true, .inr (16, [(.ref g2.1), (vi 0), (vi 0)])) := g3H.2.2.1
  have g31 := g3H.1
  have g32 := g3H.2.1
  subst hQ; exact j_vret (y := yiJ18_init) dJ18_init_25 rfl (⟨⟨by { rw [show h.1 = g2.1 by omega]; exact t3 }, by { rw [show h.1 = g2.1 by omega]; exact t4 }, by omega, by omega, fun _ _ => rfl⟩, by omega, by omega, fun b hb => (g3H.2.2.2 b hb.1).trans ((t5 b (by omega)).trans ((g2H.2.2.2 b hb.1).trans (g1H.2.2.2 b hb.1)))⟩)
