/-! a number's digits -/
section NUM
variable {K : KT} {d : Nat} {h : MH}
theorem vi_divN {x z : Int} (hx : 0 ≤ x ∧ x ≤ 100000) (hz : 0 < z ∧ z ≤ 100000) : Int32.ofInt (-x) / Int32.ofInt z = Int32.ofInt (-(x / z)) := by
  have i1 : In (-x) := ⟨by omega, by omega⟩
  have i2 : In z := ⟨by omega, by omega⟩
  have q1 := Int.ediv_nonneg hx.1 (by omega : 0 ≤ z)
  have q2 := Int.ediv_le_self z hx.1
  have i3 : In (-(x / z)) := ⟨by omega, by omega⟩
  rw [← Int32.toInt_inj, i3.ti, Int32.toInt_div_of_ne_right _ _ (fun h9 => by have := (In.eq i2 (⟨by decide, by decide⟩ : In (-1))).mp h9; omega), i1.ti, i2.ti, Int.neg_tdiv, Int.tdiv_eq_ediv_of_nonneg hx.1]
theorem j_idivN {y : YT} {pc : Nat} {ls : List (Option Value)} {st : List Value} {Q : OT → MH → Prop} {x z : Int} (hdg : decode y.2.1 pc = .ok (.idiv, 1)) (hx : 0 ≤ x ∧ x ≤ 100000) (hz : 0 < z ∧ z ≤ 100000) (k : MW K y d h (pc + 1) ls (vi (-(x / z)) :: st) Q) : MW K y d h pc ls (vi z :: vi (-x) :: st) Q := by
  refine m_idiv hdg (fun h9 => ?_) ?_
  · have := (In.eq (⟨by omega, by omega⟩ : In z) In0).mp h9; omega
  · rw [vi_divN hx hz]; exact k
theorem c_J25_stringSize (n : Int) (hn : 0 ≤ n ∧ n ≤ 9999) : Mt K yiJ25_stringSize d [vi n] h (Rz fun r h' => h = h' ∧ dgc n = r) := by
  refine mt_ofQ (by decide) (Nat.le_of_ble_eq_true rfl) (fun Q hQ => ?_)
  show MW K yiJ25_stringSize d h 0 [some (vi n), none, none, none] [] Q
  refine mw_wf (fun hwf => ?_)
  refine j_iconst (y := yiJ25_stringSize) dJ25_stringSize_0 ?_
  refine j_istore_n (y := yiJ25_stringSize) [some (vi n), some (vi 1), none, none] dJ25_stringSize_1 (by decide) rfl rfl ?_
  refine j_iload_n (y := yiJ25_stringSize) dJ25_stringSize_2 rfl ?_
  refine j_if_lt (y := yiJ25_stringSize) 11 dJ25_stringSize_3 (by decide) ⟨by omega, by omega⟩ (fun c3 => False.elim (by omega)) (fun c3 => ?_)
  refine j_iconst (y := yiJ25_stringSize) dJ25_stringSize_6 ?_
  refine j_istore_n (y := yiJ25_stringSize) [some (vi n), some (vi 0), none, none] dJ25_stringSize_7 (by decide) rfl rfl ?_
  refine j_iload_n (y := yiJ25_stringSize) dJ25_stringSize_8 rfl ?_
  refine j_ineg (y := yiJ25_stringSize) dJ25_stringSize_9 ?_
  refine j_istore_n (y := yiJ25_stringSize) [some (vi (-n)), some (vi 0), none, none] dJ25_stringSize_10 (by decide) rfl rfl ?_
  refine j_bipush (y := yiJ25_stringSize) dJ25_stringSize_11 (by decide) ?_
  refine j_istore_n (y := yiJ25_stringSize) [some (vi (-n)), some (vi 0), some (vi (-10)), none] dJ25_stringSize_13 (by decide) rfl rfl ?_
  refine j_iconst (y := yiJ25_stringSize) dJ25_stringSize_14 ?_
  refine j_istore_n (y := yiJ25_stringSize) [some (vi (-n)), some (vi 0), some (vi (-10)), some (vi 1)] dJ25_stringSize_15 (by decide) rfl rfl ?_
  have L16 : ∀ (N : Nat) (i p : Int), (10 - i).toNat = N → ((i = 1 ∧ p = -10) ∨ (i = 2 ∧ p = -100 ∧ 9 < n) ∨ (i = 3 ∧ p = -1000 ∧ 99 < n) ∨ (i = 4 ∧ p = -10000 ∧ 999 < n)) → MW K yiJ25_stringSize d h 16 [some (vi (-n)), some (vi 0), some (vi p), some (vi i)] [] Q := by
    intro N
    induction N using Nat.strongRecOn with
    | _ N ih16 =>
    intro i p hN16 hi
    refine j_iload_n (y := yiJ25_stringSize) dJ25_stringSize_16 rfl ?_
    refine j_bipush (y := yiJ25_stringSize) dJ25_stringSize_17 (by decide) ?_
    refine j_icmp_ge (y := yiJ25_stringSize) 42 dJ25_stringSize_19 (by decide) ⟨⟨by omega, by omega⟩, ⟨by omega, by omega⟩⟩ (fun c19 => False.elim (by omega)) (fun c19 => ?_)
    refine j_iload_n (y := yiJ25_stringSize) dJ25_stringSize_22 rfl ?_
    refine j_iload_n (y := yiJ25_stringSize) dJ25_stringSize_23 rfl ?_
    refine j_icmp_le (y := yiJ25_stringSize) 31 dJ25_stringSize_24 (by decide) ⟨⟨by omega, by omega⟩, ⟨by omega, by omega⟩⟩ (fun c24 => ?_) (fun c24 => ?_)
    · refine j_bipush (y := yiJ25_stringSize) dJ25_stringSize_31 (by decide) ?_
      refine j_iload_n (y := yiJ25_stringSize) dJ25_stringSize_33 rfl ?_
      refine j_imul (y := yiJ25_stringSize) dJ25_stringSize_34 ?_
      refine j_istore_n (y := yiJ25_stringSize) [some (vi (-n)), some (vi 0), some (vi (10 * p)), some (vi i)] dJ25_stringSize_35 (by decide) rfl rfl ?_
      refine j_iinc (y := yiJ25_stringSize) [some (vi (-n)), some (vi 0), some (vi (10 * p)), some (vi (i + 1))] dJ25_stringSize_36 rfl (by decide) rfl rfl ?_
      refine m_goto (y := yiJ25_stringSize) 16 dJ25_stringSize_39 (by decide) ?_
      exact ih16 _ (by omega) _ _ rfl (by omega)
    · refine j_iload_n (y := yiJ25_stringSize) dJ25_stringSize_27 rfl ?_
      refine j_iload_n (y := yiJ25_stringSize) dJ25_stringSize_28 rfl ?_
      refine j_iadd (y := yiJ25_stringSize) dJ25_stringSize_29 ?_
      subst hQ; exact j_iret (y := yiJ25_stringSize) dJ25_stringSize_30 rfl (⟨rfl, by unfold dgc; (repeat' split) <;> omega⟩)
  exact L16 _ _ _ rfl (Or.inl ⟨rfl, rfl⟩)
/-- the arrays of digits -/
def DgA (K : KT) (h : MH) : Prop := ∃ (d1 d2 : Nat) (g1 g2 : Int → Int), kV K 6 = .ref d1 ∧ kV K 7 = .ref d2 ∧ h.2.2 d1 = some (false, ba K 100 g1) ∧ h.2.2 d2 = some (false, ba K 100 g2) ∧ ∀ i, 0 ≤ i → i < 100 → g1 i = 48 + i % 10 ∧ g2 i = 48 + i / 10
theorem DgA.up {h h' : MH} (H : DgA K h) (e1 : ∀ b c, h.2.2 b = some (false, c) → h'.2.2 b = some (false, c)) : DgA K h' := by
  obtain ⟨d1, d2, g1, g2, r1, r2, r3, r4, r5⟩ := H
  exact ⟨d1, d2, g1, g2, r1, r2, e1 _ _ r3, e1 _ _ r4, r5⟩
/-- the digits of n, put ahead of the place x -/
def GcA (f : Int → Int) (x n : Int) : Int → Int := fun k => if k = x - 1 then 48 + n % 10 else if k = x - 2 ∧ 10 ≤ n then 48 + n / 10 % 10 else if k = x - 3 ∧ 100 ≤ n then 48 + n / 100 % 10 else if k = x - 4 ∧ 1000 ≤ n then 48 + n / 1000 % 10 else f k
theorem GcA_b {f : Int → Int} {x n : Int} (hf : ∀ i, -128 ≤ f i ∧ f i ≤ 127) : ∀ i, -128 ≤ GcA f x n i ∧ GcA f x n i ≤ 127 := fun i => by
  have := hf i
  unfold GcA
  (repeat' split) <;> omega
theorem GcA_tn {t : Int → Int} {s n : Int} (hn : 0 ≤ n ∧ n ≤ 9999) : ∀ i, tnA t s (dgc n) n (-1) i = GcA t (s + dgc n) n i := fun i => by
  have h4 : (dgc n = 1 ∧ n ≤ 9) ∨ (dgc n = 2 ∧ 9 < n ∧ n ≤ 99) ∨ (dgc n = 3 ∧ 99 < n ∧ n ≤ 999) ∨ (dgc n = 4 ∧ 999 < n) := by
    unfold dgc
    (repeat' split) <;> omega
  unfold tnA GcA
  generalize dgc n = z at h4 ⊢
  by_cases hin : s + (-1) < i ∧ i < s + z
  · rw [if_pos hin]
    have e : (s + z - 1 - i).toNat = 0 ∨ (s + z - 1 - i).toNat = 1 ∨ (s + z - 1 - i).toNat = 2 ∨ (s + z - 1 - i).toNat = 3 := by omega
    rcases e with e | e | e | e
    · rw [e, show ((10 : Int) ^ 0) = 1 from rfl, if_pos (by omega)]; omega
    · rw [e, show ((10 : Int) ^ 1) = 10 from rfl, if_neg (by omega), if_pos (by omega)]
    · rw [e, show ((10 : Int) ^ 2) = 100 from rfl, if_neg (by omega), if_neg (by omega), if_pos (by omega)]
    · rw [e, show ((10 : Int) ^ 3) = 1000 from rfl, if_neg (by omega), if_neg (by omega), if_neg (by omega), if_pos (by omega)]
  · rw [if_neg hin, if_neg (by omega), if_neg (by omega), if_neg (by omega), if_neg (by omega)]
theorem gc1 {f : Int → Int} {x n : Int} (h : 0 ≤ n ∧ n ≤ 9) : upz f (x + (-1)) (48 + n % 10) = GcA f x n := by
  funext k; unfold upz GcA; (repeat' split) <;> omega
theorem gc2 {f : Int → Int} {x n : Int} (h : 9 < n ∧ n ≤ 99) : upz (upz f (x + (-1)) (48 + n % 10)) ((x + (-1)) + (-1)) (48 + n / 10) = GcA f x n := by
  funext k; unfold upz GcA; (repeat' split) <;> omega
theorem gc3 {f : Int → Int} {x n : Int} (h : 99 < n ∧ n ≤ 999) : upz (upz (upz f (x - 1) (48 + n % 100 % 10)) (x - 2) (48 + n % 100 / 10)) (x - 2 + (-1)) (48 + n / 100 % 10) = GcA f x n := by
  funext k; unfold upz GcA; (repeat' split) <;> omega
theorem gc4 {f : Int → Int} {x n : Int} (h : 999 < n ∧ n ≤ 9999) : upz (upz (upz (upz f (x - 1) (48 + n % 100 % 10)) (x - 2) (48 + n % 100 / 10)) (x - 2 + (-1)) (48 + n / 100 % 10)) ((x - 2 + (-1)) + (-1)) (48 + n / 100 / 10) = GcA f x n := by
  funext k; unfold upz GcA; (repeat' split) <;> omega
theorem c_J25_getChars {e cap : Nat} {f : Int → Int} (n x : Int) (hD : DgA K h) (he : h.2.2 e = some (true, ba K cap f)) (hc : cap ≤ 100000) (hn : 0 ≤ n ∧ n ≤ 9999) (hx : dgc n ≤ x ∧ x ≤ (cap : Int)) : Mt K yiJ25_getChars d [vi n, vi x, .ref e] h (Rz fun r h' => x - dgc n = r ∧ Hp h h' e (true, ba K cap (GcA f x n)) 0 0) := by
  obtain ⟨d1, d2, dt1, dt2, k6, k7, hd1, hd2, hdg⟩ := hD
  have n1 : d1 ≠ e := ne_w hd1 he (by decide)
  have n2 : d2 ≠ e := ne_w hd2 he (by decide)
  have hdn : (n ≤ 9 → dgc n = 1) ∧ (9 < n → n ≤ 99 → dgc n = 2) ∧ (99 < n → n ≤ 999 → dgc n = 3) ∧ (999 < n → dgc n = 4) := by
    unfold dgc
    (repeat' split) <;> omega
  refine mt_ofQ (by decide) (Nat.le_of_ble_eq_true rfl) (fun Q hQ => ?_)
  show MW K yiJ25_getChars d h 0 [some (vi n), some (vi x), some (.ref e), none, none, none, none] [] Q
  refine mw_wf (fun hwf => ?_)
  have l_he := hwf _ _ he
  have l_hd1 := hwf _ _ hd1
  have l_hd2 := hwf _ _ hd2
  have fR : ∀ b, (b ≠ e) → h.2.2 b = h.2.2 b := fun _ _ => rfl
  refine j_iload_n (y := yiJ25_getChars) dJ25_getChars_0 rfl ?_
  refine j_istore (y := yiJ25_getChars) [some (vi n), some (vi x), some (.ref e), none, none, some (vi x), none] dJ25_getChars_1 (by decide) rfl rfl ?_
  refine j_iload_n (y := yiJ25_getChars) dJ25_getChars_3 rfl ?_
  refine j_if_ge (y := yiJ25_getChars) 11 dJ25_getChars_4 (by decide) ⟨by omega, by omega⟩ (fun c4 => ?_) (fun c4 => False.elim (by omega))
  refine j_iconst (y := yiJ25_getChars) dJ25_getChars_11 ?_
  refine j_istore (y := yiJ25_getChars) [some (vi n), some (vi x), some (.ref e), none, none, some (vi x), some (vi 0)] dJ25_getChars_12 (by decide) rfl rfl ?_
  refine j_iload (y := yiJ25_getChars) dJ25_getChars_14 rfl ?_
  refine j_if_ne (y := yiJ25_getChars) 22 dJ25_getChars_16 (by decide) ⟨by decide, by decide⟩ (fun c => absurd c (by decide)) (fun _ => ?_)
  refine j_iload_n (y := yiJ25_getChars) dJ25_getChars_19 rfl ?_
  refine j_ineg (y := yiJ25_getChars) dJ25_getChars_20 ?_
  refine j_istore_n (y := yiJ25_getChars) [some (vi (-n)), some (vi x), some (.ref e), none, none, some (vi x), some (vi 0)] dJ25_getChars_21 (by decide) rfl rfl ?_
  have L22 : ∀ (N : Nat) (m cp : Int) (f2 : Int → Int) (g : MH), m.toNat = N → (g.2.2 e = some (true, ba K cap f2)) → (g.2.2 d1 = some (false, ba K 100 dt1)) → (g.2.2 d2 = some (false, ba K 100 dt2)) → (∀ b, (b ≠ e) → g.2.2 b = h.2.2 b) → ((m = n ∧ cp = x ∧ f2 = f) ∨ (m = n / 100 ∧ 100 ≤ n ∧ cp = x - 2 ∧ f2 = upz (upz f (x - 1) (48 + n % 100 % 10)) (x - 2) (48 + n % 100 / 10))) → (g.1 = h.1 ∧ g.2.1 = h.2.1) → MW K yiJ25_getChars d g 22 [some (vi (-m)), some (vi x), some (.ref e), none, none, some (vi cp), some (vi 0)] [] Q := by
    intro N
    induction N using Nat.strongRecOn with
    | _ N ih22 =>
    intro m cp f2 g hN22 he hd1 hd2 fR hm hg
    refine mw_wf (fun hwf22 => ?_)
    have l_he22 := hwf22 _ _ he
    have l_hd122 := hwf22 _ _ hd1
    have l_hd222 := hwf22 _ _ hd2
    have hm9 : (m = n ∧ cp = x) ∨ (m = n / 100 ∧ 100 ≤ n ∧ cp = x - 2) := by { rcases hm with h9 | h9; { exact Or.inl ⟨h9.1, h9.2.1⟩ }; { exact Or.inr ⟨h9.1, h9.2.1, h9.2.2.1⟩ } }
    refine j_iload_n (y := yiJ25_getChars) dJ25_getChars_22 rfl ?_
    refine j_bipush (y := yiJ25_getChars) dJ25_getChars_23 (by decide) ?_
    refine j_icmp_gt (y := yiJ25_getChars) 72 dJ25_getChars_25 (by decide) ⟨⟨by omega, by omega⟩, ⟨by omega, by omega⟩⟩ (fun c25 => ?_) (fun c25 => ?_)
    · refine m_aload_n (y := yiJ25_getChars) dJ25_getChars_72 rfl ?_
      refine j_iinc (y := yiJ25_getChars) [some (vi (-m)), some (vi x), some (.ref e), none, none, some (vi (cp + (-1))), some (vi 0)] dJ25_getChars_73 rfl (by decide) rfl rfl ?_
      refine j_iload (y := yiJ25_getChars) dJ25_getChars_76 rfl ?_
      refine m_gets (y := yiJ25_getChars) (ref := "") 6 rfl dJ25_getChars_78 q496 k6 ?_
      refine j_iload_n (y := yiJ25_getChars) dJ25_getChars_81 rfl ?_
      refine j_ineg (y := yiJ25_getChars) dJ25_getChars_82 ?_
      refine mw_top (x' := m) ((by omega)) ?_
      refine j_bald (y := yiJ25_getChars) dJ25_getChars_83 hd1 (by omega) ⟨by omega, by omega⟩ ?_
      refine mw_top (x' := 48 + m % 10) ((hdg m (by omega) (by omega)).1) ?_
      refine j_bastB (y := yiJ25_getChars) dJ25_getChars_84 he (by omega) ⟨by omega, by omega⟩ ⟨by omega, by omega⟩ (hp_put fun g1 g1H => ?_)
      have hd1 : g1.2.2 d1 = some (false, ba K 100 dt1) := (g1H.2.2.2 _ (by omega)).trans hd1
      have hd2 : g1.2.2 d2 = some (false, ba K 100 dt2) := (g1H.2.2.2 _ (by omega)).trans hd2
      have fR : ∀ b, (b ≠ e) → g1.2.2 b = h.2.2 b := fun b hb => (g1H.2.2.2 b (by omega)).trans (fR b hb)
      have he : g1.2.2 e = some (true, ba K cap (upz f2 (cp + (-1)) (48 + m % 10))) := g1H.2.2.1
      have g11 := g1H.1
      have g12 := g1H.2.1
      refine j_iload_n (y := yiJ25_getChars) dJ25_getChars_85 rfl ?_
      refine j_bipush (y := yiJ25_getChars) dJ25_getChars_86 (by decide) ?_
      refine j_icmp_ge (y := yiJ25_getChars) 104 dJ25_getChars_88 (by decide) ⟨⟨by omega, by omega⟩, ⟨by omega, by omega⟩⟩ (fun c88 => ?_) (fun c88 => ?_)
      · refine j_iload (y := yiJ25_getChars) dJ25_getChars_104 rfl ?_
        refine j_if_eq (y := yiJ25_getChars) 118 dJ25_getChars_106 (by decide) ⟨by decide, by decide⟩ (fun _ => ?_) (fun c => absurd c (by decide))
        refine j_iload (y := yiJ25_getChars) dJ25_getChars_118 rfl ?_
        subst hQ; exact j_iret (y := yiJ25_getChars) dJ25_getChars_120 rfl (by { rcases hm with ⟨e1, e2, e3⟩ | ⟨e1, e4, e2, e3⟩; { rw [e1, e2, e3] at he; rw [e2]; exact ⟨by omega, by omega, by omega, he.trans (by first | rw [gc1 (by omega)] | rw [gc2 (by omega)]), fR⟩ }; { rw [e1, e2, e3] at he; rw [e2]; exact ⟨by omega, by omega, by omega, he.trans (by first | rw [gc3 (by omega)] | rw [gc4 (by omega)]), fR⟩ } })
      · refine m_aload_n (y := yiJ25_getChars) dJ25_getChars_91 rfl ?_
        refine j_iinc (y := yiJ25_getChars) [some (vi (-m)), some (vi x), some (.ref e), none, none, some (vi ((cp + (-1)) + (-1))), some (vi 0)] dJ25_getChars_92 rfl (by decide) rfl rfl ?_
        refine j_iload (y := yiJ25_getChars) dJ25_getChars_95 rfl ?_
        refine m_gets (y := yiJ25_getChars) (ref := "") 7 rfl dJ25_getChars_97 q498 k7 ?_
        refine j_iload_n (y := yiJ25_getChars) dJ25_getChars_100 rfl ?_
        refine j_ineg (y := yiJ25_getChars) dJ25_getChars_101 ?_
        refine mw_top (x' := m) ((by omega)) ?_
        refine j_bald (y := yiJ25_getChars) dJ25_getChars_102 hd2 (by omega) ⟨by omega, by omega⟩ ?_
        refine mw_top (x' := 48 + m / 10) ((hdg m (by omega) (by omega)).2) ?_
        refine j_bastB (y := yiJ25_getChars) dJ25_getChars_103 he (by omega) ⟨by omega, by omega⟩ ⟨by omega, by omega⟩ (hp_put fun g2 g2H => ?_)
        have hd1 : g2.2.2 d1 = some (false, ba K 100 dt1) := (g2H.2.2.2 _ (by omega)).trans hd1
        have hd2 : g2.2.2 d2 = some (false, ba K 100 dt2) := (g2H.2.2.2 _ (by omega)).trans hd2
        have fR : ∀ b, (b ≠ e) → g2.2.2 b = h.2.2 b := fun b hb => (g2H.2.2.2 b (by omega)).trans (fR b hb)
        have he : g2.2.2 e = some (true, ba K cap (upz (upz f2 (cp + (-1)) (48 + m % 10)) ((cp + (-1)) + (-1)) (48 + m / 10))) := g2H.2.2.1
        have g21 := g2H.1
        have g22 := g2H.2.1
        refine j_iload (y := yiJ25_getChars) dJ25_getChars_104 rfl ?_
        refine j_if_eq (y := yiJ25_getChars) 118 dJ25_getChars_106 (by decide) ⟨by decide, by decide⟩ (fun _ => ?_) (fun c => absurd c (by decide))
        refine j_iload (y := yiJ25_getChars) dJ25_getChars_118 rfl ?_
        subst hQ; exact j_iret (y := yiJ25_getChars) dJ25_getChars_120 rfl (by { rcases hm with ⟨e1, e2, e3⟩ | ⟨e1, e4, e2, e3⟩; { rw [e1, e2, e3] at he; rw [e2]; exact ⟨by omega, by omega, by omega, he.trans (by first | rw [gc1 (by omega)] | rw [gc2 (by omega)]), fR⟩ }; { rw [e1, e2, e3] at he; rw [e2]; exact ⟨by omega, by omega, by omega, he.trans (by first | rw [gc3 (by omega)] | rw [gc4 (by omega)]), fR⟩ } })
    · refine j_iload_n (y := yiJ25_getChars) dJ25_getChars_28 rfl ?_
      refine j_bipush (y := yiJ25_getChars) dJ25_getChars_29 (by decide) ?_
      refine j_idivN (y := yiJ25_getChars) (x := m) dJ25_getChars_31 ⟨by omega, by omega⟩ ⟨by omega, by omega⟩ ?_
      refine j_istore_n (y := yiJ25_getChars) [some (vi (-m)), some (vi x), some (.ref e), some (vi (-(m / 100))), none, some (vi cp), some (vi 0)] dJ25_getChars_32 (by decide) rfl rfl ?_
      refine j_iload_n (y := yiJ25_getChars) dJ25_getChars_33 rfl ?_
      refine j_bipush (y := yiJ25_getChars) dJ25_getChars_34 (by decide) ?_
      refine j_imul (y := yiJ25_getChars) dJ25_getChars_36 ?_
      refine j_iload_n (y := yiJ25_getChars) dJ25_getChars_37 rfl ?_
      refine j_isub (y := yiJ25_getChars) dJ25_getChars_38 ?_
      refine mw_top (x' := m % 100) ((by omega)) ?_
      refine j_istore (y := yiJ25_getChars) [some (vi (-m)), some (vi x), some (.ref e), some (vi (-(m / 100))), some (vi (m % 100)), some (vi cp), some (vi 0)] dJ25_getChars_39 (by decide) rfl rfl ?_
      refine j_iload_n (y := yiJ25_getChars) dJ25_getChars_41 rfl ?_
      refine j_istore_n (y := yiJ25_getChars) [some (vi (-(m / 100))), some (vi x), some (.ref e), some (vi (-(m / 100))), some (vi (m % 100)), some (vi cp), some (vi 0)] dJ25_getChars_42 (by decide) rfl rfl ?_
      refine m_aload_n (y := yiJ25_getChars) dJ25_getChars_43 rfl ?_
      refine j_iinc (y := yiJ25_getChars) [some (vi (-(m / 100))), some (vi x), some (.ref e), some (vi (-(m / 100))), some (vi (m % 100)), some (vi (cp + (-1))), some (vi 0)] dJ25_getChars_44 rfl (by decide) rfl rfl ?_
      refine j_iload (y := yiJ25_getChars) dJ25_getChars_47 rfl ?_
      refine m_gets (y := yiJ25_getChars) (ref := "") 6 rfl dJ25_getChars_49 q496 k6 ?_
      refine j_iload (y := yiJ25_getChars) dJ25_getChars_52 rfl ?_
      refine j_bald (y := yiJ25_getChars) dJ25_getChars_54 hd1 (by omega) ⟨by omega, by omega⟩ ?_
      refine mw_top (x' := 48 + m % 100 % 10) ((hdg (m % 100) (by omega) (by omega)).1) ?_
      refine j_bastB (y := yiJ25_getChars) dJ25_getChars_55 he (by omega) ⟨by omega, by omega⟩ ⟨by omega, by omega⟩ (hp_put fun g3 g3H => ?_)
      have hd1 : g3.2.2 d1 = some (false, ba K 100 dt1) := (g3H.2.2.2 _ (by omega)).trans hd1
      have hd2 : g3.2.2 d2 = some (false, ba K 100 dt2) := (g3H.2.2.2 _ (by omega)).trans hd2
      have fR : ∀ b, (b ≠ e) → g3.2.2 b = h.2.2 b := fun b hb => (g3H.2.2.2 b (by omega)).trans (fR b hb)
      have he : g3.2.2 e = some (true, ba K cap (upz f2 (cp + (-1)) (48 + m % 100 % 10))) := g3H.2.2.1
      have g31 := g3H.1
      have g32 := g3H.2.1
      refine m_aload_n (y := yiJ25_getChars) dJ25_getChars_56 rfl ?_
      refine j_iinc (y := yiJ25_getChars) [some (vi (-(m / 100))), some (vi x), some (.ref e), some (vi (-(m / 100))), some (vi (m % 100)), some (vi ((cp + (-1)) + (-1))), some (vi 0)] dJ25_getChars_57 rfl (by decide) rfl rfl ?_
      refine j_iload (y := yiJ25_getChars) dJ25_getChars_60 rfl ?_
      refine m_gets (y := yiJ25_getChars) (ref := "") 7 rfl dJ25_getChars_62 q498 k7 ?_
      refine j_iload (y := yiJ25_getChars) dJ25_getChars_65 rfl ?_
      refine j_bald (y := yiJ25_getChars) dJ25_getChars_67 hd2 (by omega) ⟨by omega, by omega⟩ ?_
      refine mw_top (x' := 48 + m % 100 / 10) ((hdg (m % 100) (by omega) (by omega)).2) ?_
      refine j_bastB (y := yiJ25_getChars) dJ25_getChars_68 he (by omega) ⟨by omega, by omega⟩ ⟨by omega, by omega⟩ (hp_put fun g4 g4H => ?_)
      have hd1 : g4.2.2 d1 = some (false, ba K 100 dt1) := (g4H.2.2.2 _ (by omega)).trans hd1
      have hd2 : g4.2.2 d2 = some (false, ba K 100 dt2) := (g4H.2.2.2 _ (by omega)).trans hd2
      have fR : ∀ b, (b ≠ e) → g4.2.2 b = h.2.2 b := fun b hb => (g4H.2.2.2 b (by omega)).trans (fR b hb)
      have he : g4.2.2 e = some (true, ba K cap (upz (upz f2 (cp + (-1)) (48 + m % 100 % 10)) ((cp + (-1)) + (-1)) (48 + m % 100 / 10))) := g4H.2.2.1
      have g41 := g4H.1
      have g42 := g4H.2.1
      refine m_goto (y := yiJ25_getChars) 22 dJ25_getChars_69 (by decide) ?_
      refine mw_forget 3 ?_
      refine mw_forget 4 ?_
      exact ih22 _ (by omega) _ _ _ _ rfl he hd1 hd2 fR (by { have e9 : m = n ∧ cp = x := (by omega); right; rcases hm with h9 | h9; { obtain ⟨e1, e2, e3⟩ := h9; rw [e1, e2, e3]; exact ⟨rfl, by omega, by omega, by rw [show x + (-1) = x - 1 by omega, show x - 1 + (-1) = x - 2 by omega]⟩ }; { omega } }) (⟨by omega, by omega⟩)
  exact L22 _ n x f _ rfl he hd1 hd2 fR (Or.inl ⟨rfl, rfl, rfl⟩) (⟨rfl, rfl⟩)
/-- a step of digits in two bytes each -/
def GwA (f : Int → Int) (x n : Int) : Int → Int := fun k => if k % 2 = 0 then (if x - dgc n ≤ k / 2 ∧ k / 2 < x then GcA (fun _ => 0) x n (k / 2) else f k) else (if x - dgc n ≤ k / 2 ∧ k / 2 < x then 0 else f k)
def u2 (f : Int → Int) (i v : Int) : Int → Int := upz (upz f (2 * i) v) (2 * i + 1) 0
theorem u2_at {f : Int → Int} {i v k : Int} : u2 f i v k = if k = 2 * i then v else if k = 2 * i + 1 then 0 else f k := by
  unfold u2 upz
  by_cases e : k = 2 * i + 1
  · rw [if_pos e, if_neg (by omega), if_pos e]
  · rw [if_neg e, if_neg e]
theorem gw1 {f : Int → Int} {x n : Int} (h : 0 ≤ n ∧ n ≤ 9) : u2 f (x + (-1)) (48 + n % 10) = GwA f x n := by
  funext k; rw [u2_at]; unfold GwA GcA dgc; (repeat' split) <;> omega
theorem gw2 {f : Int → Int} {x n : Int} (h : 9 < n ∧ n ≤ 99) : u2 (u2 f (x + (-1)) (48 + n % 10)) ((x + (-1)) + (-1)) (48 + n / 10) = GwA f x n := by
  funext k; rw [u2_at, u2_at]; unfold GwA GcA dgc; (repeat' split) <;> omega
theorem gw3 {f : Int → Int} {x n : Int} (h : 99 < n ∧ n ≤ 999) : u2 (u2 (u2 f (x - 1) (48 + n % 100 % 10)) (x - 2) (48 + n % 100 / 10)) (x - 2 + (-1)) (48 + n / 100 % 10) = GwA f x n := by
  funext k; rw [u2_at, u2_at, u2_at]; unfold GwA GcA dgc; (repeat' split) <;> omega
theorem gw4 {f : Int → Int} {x n : Int} (h : 999 < n ∧ n ≤ 9999) : u2 (u2 (u2 (u2 f (x - 1) (48 + n % 100 % 10)) (x - 2) (48 + n % 100 / 10)) (x - 2 + (-1)) (48 + n / 100 % 10)) ((x - 2 + (-1)) + (-1)) (48 + n / 100 / 10) = GwA f x n := by
  funext k; rw [u2_at, u2_at, u2_at, u2_at]; unfold GwA GcA dgc; (repeat' split) <;> omega
theorem c_putDigit {e cap : Nat} {f : Int → Int} (i c : Int) (hK : KTx K) (he : h.2.2 e = some (true, ba K cap f)) (hc : cap ≤ 100000) (hi : 0 ≤ i ∧ 2 * i + 1 < (cap : Int)) (hch : 48 ≤ c ∧ c ≤ 57) : Mt K yiJ8_putChar d [.ref e, vi i, vi c] h (Rv fun h' => Hp h h' e (true, ba K cap (u2 f i c)) 0 0) := by
  refine mt_mono (c_J8_putChar i c hK he hc hi ⟨by omega, by omega⟩) ?_
  rintro o h' ⟨r1, q1, q2, q3, q4⟩
  refine ⟨r1, q1, q2, q3.trans ?_, q4⟩
  unfold u2
  rw [sb_id (by omega), show sb (c / 256) = 0 by rw [show c / 256 = 0 by omega]; rfl]
theorem c_J8_getChars_2 {e cap : Nat} {f : Int → Int} (n x : Int) (hd : 1 ≤ d) (hK : KTx K) (hD : DgA K h) (he : h.2.2 e = some (true, ba K cap f)) (hc : cap ≤ 100000) (hn : 0 ≤ n ∧ n ≤ 9999) (hx : dgc n ≤ x ∧ 2 * x ≤ (cap : Int)) : Mt K yiJ8_getChars_2 d [vi n, vi x, .ref e] h (Rz fun r h' => x - dgc n = r ∧ Hp h h' e (true, ba K cap (GwA f x n)) 0 0) := by
  obtain ⟨d1, d2, dt1, dt2, k6, k7, hd1, hd2, hdg⟩ := hD
  have n1 : d1 ≠ e := ne_w hd1 he (by decide)
  have n2 : d2 ≠ e := ne_w hd2 he (by decide)
  have hdn : (n ≤ 9 → dgc n = 1) ∧ (9 < n → n ≤ 99 → dgc n = 2) ∧ (99 < n → n ≤ 999 → dgc n = 3) ∧ (999 < n → dgc n = 4) := by
    unfold dgc
    (repeat' split) <;> omega
  refine mt_ofQ (by decide) (Nat.le_of_ble_eq_true rfl) (fun Q hQ => ?_)
  show MW K yiJ8_getChars_2 d h 0 [some (vi n), some (vi x), some (.ref e), none, none, none, none] [] Q
  refine mw_wf (fun hwf => ?_)
  have l_he := hwf _ _ he
  have l_hd1 := hwf _ _ hd1
  have l_hd2 := hwf _ _ hd2
  have fR : ∀ b, (b ≠ e) → h.2.2 b = h.2.2 b := fun _ _ => rfl
  refine j_iload_n (y := yiJ8_getChars_2) dJ8_getChars_2_0 rfl ?_
  refine j_istore (y := yiJ8_getChars_2) [some (vi n), some (vi x), some (.ref e), none, none, some (vi x), none] dJ8_getChars_2_1 (by decide) rfl rfl ?_
  refine j_iload_n (y := yiJ8_getChars_2) dJ8_getChars_2_3 rfl ?_
  refine j_if_ge (y := yiJ8_getChars_2) 11 dJ8_getChars_2_4 (by decide) ⟨by omega, by omega⟩ (fun c4 => ?_) (fun c4 => False.elim (by omega))
  refine j_iconst (y := yiJ8_getChars_2) dJ8_getChars_2_11 ?_
  refine j_istore (y := yiJ8_getChars_2) [some (vi n), some (vi x), some (.ref e), none, none, some (vi x), some (vi 0)] dJ8_getChars_2_12 (by decide) rfl rfl ?_
  refine j_iload (y := yiJ8_getChars_2) dJ8_getChars_2_14 rfl ?_
  refine j_if_ne (y := yiJ8_getChars_2) 22 dJ8_getChars_2_16 (by decide) ⟨by decide, by decide⟩ (fun c => absurd c (by decide)) (fun _ => ?_)
  refine j_iload_n (y := yiJ8_getChars_2) dJ8_getChars_2_19 rfl ?_
  refine j_ineg (y := yiJ8_getChars_2) dJ8_getChars_2_20 ?_
  refine j_istore_n (y := yiJ8_getChars_2) [some (vi (-n)), some (vi x), some (.ref e), none, none, some (vi x), some (vi 0)] dJ8_getChars_2_21 (by decide) rfl rfl ?_
  have L22 : ∀ (N : Nat) (m cp : Int) (f2 : Int → Int) (g : MH), m.toNat = N → (g.2.2 e = some (true, ba K cap f2)) → (g.2.2 d1 = some (false, ba K 100 dt1)) → (g.2.2 d2 = some (false, ba K 100 dt2)) → (∀ b, (b ≠ e) → g.2.2 b = h.2.2 b) → ((m = n ∧ cp = x ∧ f2 = f) ∨ (m = n / 100 ∧ 100 ≤ n ∧ cp = x - 2 ∧ f2 = u2 (u2 f (x - 1) (48 + n % 100 % 10)) (x - 2) (48 + n % 100 / 10))) → (g.1 = h.1 ∧ g.2.1 = h.2.1) → MW K yiJ8_getChars_2 d g 22 [some (vi (-m)), some (vi x), some (.ref e), none, none, some (vi cp), some (vi 0)] [] Q := by
    intro N
    induction N using Nat.strongRecOn with
    | _ N ih22 =>
    intro m cp f2 g hN22 he hd1 hd2 fR hm hg
    refine mw_wf (fun hwf22 => ?_)
    have l_he22 := hwf22 _ _ he
    have l_hd122 := hwf22 _ _ hd1
    have l_hd222 := hwf22 _ _ hd2
    have hm9 : (m = n ∧ cp = x) ∨ (m = n / 100 ∧ 100 ≤ n ∧ cp = x - 2) := by { rcases hm with h9 | h9; { exact Or.inl ⟨h9.1, h9.2.1⟩ }; { exact Or.inr ⟨h9.1, h9.2.1, h9.2.2.1⟩ } }
    refine j_iload_n (y := yiJ8_getChars_2) dJ8_getChars_2_22 rfl ?_
    refine j_bipush (y := yiJ8_getChars_2) dJ8_getChars_2_23 (by decide) ?_
    refine j_icmp_gt (y := yiJ8_getChars_2) 76 dJ8_getChars_2_25 (by decide) ⟨⟨by omega, by omega⟩, ⟨by omega, by omega⟩⟩ (fun c25 => ?_) (fun c25 => ?_)
    · refine m_aload_n (y := yiJ8_getChars_2) dJ8_getChars_2_76 rfl ?_
      refine j_iinc (y := yiJ8_getChars_2) [some (vi (-m)), some (vi x), some (.ref e), none, none, some (vi (cp + (-1))), some (vi 0)] dJ8_getChars_2_77 rfl (by decide) rfl rfl ?_
      refine j_iload (y := yiJ8_getChars_2) dJ8_getChars_2_80 rfl ?_
      refine m_gets (y := yiJ8_getChars_2) (ref := "") 6 rfl dJ8_getChars_2_82 q506 k6 ?_
      refine j_iload_n (y := yiJ8_getChars_2) dJ8_getChars_2_85 rfl ?_
      refine j_ineg (y := yiJ8_getChars_2) dJ8_getChars_2_86 ?_
      refine mw_top (x' := m) ((by omega)) ?_
      refine j_bald (y := yiJ8_getChars_2) dJ8_getChars_2_87 hd1 (by omega) ⟨by omega, by omega⟩ ?_
      refine mw_top (x' := 48 + m % 10) ((hdg m (by omega) (by omega)).1) ?_
      refine m_invS (y := yiJ8_getChars_2) [(.ref e), (vi (cp + (-1))), (vi (48 + m % 10))] dJ8_getChars_2_88 q431 q432 q132 q433 (c_putDigit (cp + (-1)) (48 + m % 10) (d := 0) hK he hc ⟨by omega, by omega⟩ ⟨by omega, by omega⟩) pdJ8_putChar ⟨Nat.le_of_ble_eq_true rfl, by decide, by omega⟩ (kk_v fun h88 q88 => ?_) kx_v
      obtain q88 := q88
      have he := q88.2.2.1
      have y88 := q88.1
      have z88 := q88.2.1
      have hd1 : h88.2.2 d1 = some (false, ba K 100 dt1) := (q88.2.2.2 _ (by omega)).trans hd1
      have hd2 : h88.2.2 d2 = some (false, ba K 100 dt2) := (q88.2.2.2 _ (by omega)).trans hd2
      have fR : ∀ b, (b ≠ e) → h88.2.2 b = h.2.2 b := fun b hb => (q88.2.2.2 b (by omega)).trans (fR b hb)
      refine mw_wf (fun hwf88 => ?_)
      have l_he88 := hwf88 _ _ he
      refine j_iload_n (y := yiJ8_getChars_2) dJ8_getChars_2_91 rfl ?_
      refine j_bipush (y := yiJ8_getChars_2) dJ8_getChars_2_92 (by decide) ?_
      refine j_icmp_ge (y := yiJ8_getChars_2) 112 dJ8_getChars_2_94 (by decide) ⟨⟨by omega, by omega⟩, ⟨by omega, by omega⟩⟩ (fun c94 => ?_) (fun c94 => ?_)
      · refine j_iload (y := yiJ8_getChars_2) dJ8_getChars_2_112 rfl ?_
        refine j_if_eq (y := yiJ8_getChars_2) 128 dJ8_getChars_2_114 (by decide) ⟨by decide, by decide⟩ (fun _ => ?_) (fun c => absurd c (by decide))
        refine j_iload (y := yiJ8_getChars_2) dJ8_getChars_2_128 rfl ?_
        subst hQ; exact j_iret (y := yiJ8_getChars_2) dJ8_getChars_2_130 rfl (by { rcases hm with ⟨e1, e2, e3⟩ | ⟨e1, e4, e2, e3⟩; { rw [e1, e2, e3] at he; rw [e2]; exact ⟨by omega, by omega, by omega, he.trans (by first | rw [gw1 (by omega)] | rw [gw2 (by omega)]), fR⟩ }; { rw [e1, e2, e3] at he; rw [e2]; exact ⟨by omega, by omega, by omega, he.trans (by first | rw [gw3 (by omega)] | rw [gw4 (by omega)]), fR⟩ } })
      · refine m_aload_n (y := yiJ8_getChars_2) dJ8_getChars_2_97 rfl ?_
        refine j_iinc (y := yiJ8_getChars_2) [some (vi (-m)), some (vi x), some (.ref e), none, none, some (vi ((cp + (-1)) + (-1))), some (vi 0)] dJ8_getChars_2_98 rfl (by decide) rfl rfl ?_
        refine j_iload (y := yiJ8_getChars_2) dJ8_getChars_2_101 rfl ?_
        refine m_gets (y := yiJ8_getChars_2) (ref := "") 7 rfl dJ8_getChars_2_103 q507 k7 ?_
        refine j_iload_n (y := yiJ8_getChars_2) dJ8_getChars_2_106 rfl ?_
        refine j_ineg (y := yiJ8_getChars_2) dJ8_getChars_2_107 ?_
        refine mw_top (x' := m) ((by omega)) ?_
        refine j_bald (y := yiJ8_getChars_2) dJ8_getChars_2_108 hd2 (by omega) ⟨by omega, by omega⟩ ?_
        refine mw_top (x' := 48 + m / 10) ((hdg m (by omega) (by omega)).2) ?_
        refine m_invS (y := yiJ8_getChars_2) [(.ref e), (vi ((cp + (-1)) + (-1))), (vi (48 + m / 10))] dJ8_getChars_2_109 q431 q432 q132 q433 (c_putDigit ((cp + (-1)) + (-1)) (48 + m / 10) (d := 0) hK he hc ⟨by omega, by omega⟩ ⟨by omega, by omega⟩) pdJ8_putChar ⟨Nat.le_of_ble_eq_true rfl, by decide, by omega⟩ (kk_v fun h109 q109 => ?_) kx_v
        obtain q109 := q109
        have he := q109.2.2.1
        have y109 := q109.1
        have z109 := q109.2.1
        have hd1 : h109.2.2 d1 = some (false, ba K 100 dt1) := (q109.2.2.2 _ (by omega)).trans hd1
        have hd2 : h109.2.2 d2 = some (false, ba K 100 dt2) := (q109.2.2.2 _ (by omega)).trans hd2
        have fR : ∀ b, (b ≠ e) → h109.2.2 b = h.2.2 b := fun b hb => (q109.2.2.2 b (by omega)).trans (fR b hb)
        refine mw_wf (fun hwf109 => ?_)
        have l_he109 := hwf109 _ _ he
        refine j_iload (y := yiJ8_getChars_2) dJ8_getChars_2_112 rfl ?_
        refine j_if_eq (y := yiJ8_getChars_2) 128 dJ8_getChars_2_114 (by decide) ⟨by decide, by decide⟩ (fun _ => ?_) (fun c => absurd c (by decide))
        refine j_iload (y := yiJ8_getChars_2) dJ8_getChars_2_128 rfl ?_
        subst hQ; exact j_iret (y := yiJ8_getChars_2) dJ8_getChars_2_130 rfl (by { rcases hm with ⟨e1, e2, e3⟩ | ⟨e1, e4, e2, e3⟩; { rw [e1, e2, e3] at he; rw [e2]; exact ⟨by omega, by omega, by omega, he.trans (by first | rw [gw1 (by omega)] | rw [gw2 (by omega)]), fR⟩ }; { rw [e1, e2, e3] at he; rw [e2]; exact ⟨by omega, by omega, by omega, he.trans (by first | rw [gw3 (by omega)] | rw [gw4 (by omega)]), fR⟩ } })
    · refine j_iload_n (y := yiJ8_getChars_2) dJ8_getChars_2_28 rfl ?_
      refine j_bipush (y := yiJ8_getChars_2) dJ8_getChars_2_29 (by decide) ?_
      refine j_idivN (y := yiJ8_getChars_2) (x := m) dJ8_getChars_2_31 ⟨by omega, by omega⟩ ⟨by omega, by omega⟩ ?_
      refine j_istore_n (y := yiJ8_getChars_2) [some (vi (-m)), some (vi x), some (.ref e), some (vi (-(m / 100))), none, some (vi cp), some (vi 0)] dJ8_getChars_2_32 (by decide) rfl rfl ?_
      refine j_iload_n (y := yiJ8_getChars_2) dJ8_getChars_2_33 rfl ?_
      refine j_bipush (y := yiJ8_getChars_2) dJ8_getChars_2_34 (by decide) ?_
      refine j_imul (y := yiJ8_getChars_2) dJ8_getChars_2_36 ?_
      refine j_iload_n (y := yiJ8_getChars_2) dJ8_getChars_2_37 rfl ?_
      refine j_isub (y := yiJ8_getChars_2) dJ8_getChars_2_38 ?_
      refine mw_top (x' := m % 100) ((by omega)) ?_
      refine j_istore (y := yiJ8_getChars_2) [some (vi (-m)), some (vi x), some (.ref e), some (vi (-(m / 100))), some (vi (m % 100)), some (vi cp), some (vi 0)] dJ8_getChars_2_39 (by decide) rfl rfl ?_
      refine j_iload_n (y := yiJ8_getChars_2) dJ8_getChars_2_41 rfl ?_
      refine j_istore_n (y := yiJ8_getChars_2) [some (vi (-(m / 100))), some (vi x), some (.ref e), some (vi (-(m / 100))), some (vi (m % 100)), some (vi cp), some (vi 0)] dJ8_getChars_2_42 (by decide) rfl rfl ?_
      refine m_aload_n (y := yiJ8_getChars_2) dJ8_getChars_2_43 rfl ?_
      refine j_iinc (y := yiJ8_getChars_2) [some (vi (-(m / 100))), some (vi x), some (.ref e), some (vi (-(m / 100))), some (vi (m % 100)), some (vi (cp + (-1))), some (vi 0)] dJ8_getChars_2_44 rfl (by decide) rfl rfl ?_
      refine j_iload (y := yiJ8_getChars_2) dJ8_getChars_2_47 rfl ?_
      refine m_gets (y := yiJ8_getChars_2) (ref := "") 6 rfl dJ8_getChars_2_49 q506 k6 ?_
      refine j_iload (y := yiJ8_getChars_2) dJ8_getChars_2_52 rfl ?_
      refine j_bald (y := yiJ8_getChars_2) dJ8_getChars_2_54 hd1 (by omega) ⟨by omega, by omega⟩ ?_
      refine mw_top (x' := 48 + m % 100 % 10) ((hdg (m % 100) (by omega) (by omega)).1) ?_
      refine m_invS (y := yiJ8_getChars_2) [(.ref e), (vi (cp + (-1))), (vi (48 + m % 100 % 10))] dJ8_getChars_2_55 q431 q432 q132 q433 (c_putDigit (cp + (-1)) (48 + m % 100 % 10) (d := 0) hK he hc ⟨by omega, by omega⟩ ⟨by omega, by omega⟩) pdJ8_putChar ⟨Nat.le_of_ble_eq_true rfl, by decide, by omega⟩ (kk_v fun h55 q55 => ?_) kx_v
      obtain q55 := q55
      have he := q55.2.2.1
      have y55 := q55.1
      have z55 := q55.2.1
      have hd1 : h55.2.2 d1 = some (false, ba K 100 dt1) := (q55.2.2.2 _ (by omega)).trans hd1
      have hd2 : h55.2.2 d2 = some (false, ba K 100 dt2) := (q55.2.2.2 _ (by omega)).trans hd2
      have fR : ∀ b, (b ≠ e) → h55.2.2 b = h.2.2 b := fun b hb => (q55.2.2.2 b (by omega)).trans (fR b hb)
      refine mw_wf (fun hwf55 => ?_)
      have l_he55 := hwf55 _ _ he
      refine m_aload_n (y := yiJ8_getChars_2) dJ8_getChars_2_58 rfl ?_
      refine j_iinc (y := yiJ8_getChars_2) [some (vi (-(m / 100))), some (vi x), some (.ref e), some (vi (-(m / 100))), some (vi (m % 100)), some (vi ((cp + (-1)) + (-1))), some (vi 0)] dJ8_getChars_2_59 rfl (by decide) rfl rfl ?_
      refine j_iload (y := yiJ8_getChars_2) dJ8_getChars_2_62 rfl ?_
      refine m_gets (y := yiJ8_getChars_2) (ref := "") 7 rfl dJ8_getChars_2_64 q507 k7 ?_
      refine j_iload (y := yiJ8_getChars_2) dJ8_getChars_2_67 rfl ?_
      refine j_bald (y := yiJ8_getChars_2) dJ8_getChars_2_69 hd2 (by omega) ⟨by omega, by omega⟩ ?_
      refine mw_top (x' := 48 + m % 100 / 10) ((hdg (m % 100) (by omega) (by omega)).2) ?_
      refine m_invS (y := yiJ8_getChars_2) [(.ref e), (vi ((cp + (-1)) + (-1))), (vi (48 + m % 100 / 10))] dJ8_getChars_2_70 q431 q432 q132 q433 (c_putDigit ((cp + (-1)) + (-1)) (48 + m % 100 / 10) (d := 0) hK he hc ⟨by omega, by omega⟩ ⟨by omega, by omega⟩) pdJ8_putChar ⟨Nat.le_of_ble_eq_true rfl, by decide, by omega⟩ (kk_v fun h70 q70 => ?_) kx_v
      obtain q70 := q70
      have he := q70.2.2.1
      have y70 := q70.1
      have z70 := q70.2.1
      have hd1 : h70.2.2 d1 = some (false, ba K 100 dt1) := (q70.2.2.2 _ (by omega)).trans hd1
      have hd2 : h70.2.2 d2 = some (false, ba K 100 dt2) := (q70.2.2.2 _ (by omega)).trans hd2
      have fR : ∀ b, (b ≠ e) → h70.2.2 b = h.2.2 b := fun b hb => (q70.2.2.2 b (by omega)).trans (fR b hb)
      refine mw_wf (fun hwf70 => ?_)
      have l_he70 := hwf70 _ _ he
      refine m_goto (y := yiJ8_getChars_2) 22 dJ8_getChars_2_73 (by decide) ?_
      refine mw_forget 3 ?_
      refine mw_forget 4 ?_
      exact ih22 _ (by omega) _ _ _ _ rfl he hd1 hd2 fR (by { have e9 : m = n ∧ cp = x := (by omega); right; rcases hm with h9 | h9; { obtain ⟨e1, e2, e3⟩ := h9; rw [e1, e2, e3]; exact ⟨rfl, by omega, by omega, by rw [show x + (-1) = x - 1 by omega, show x - 1 + (-1) = x - 2 by omega]⟩ }; { omega } }) (⟨by omega, by omega⟩)
  exact L22 _ n x f _ rfl he hd1 hd2 fR (Or.inl ⟨rfl, rfl, rfl⟩) (⟨rfl, rfl⟩)
end NUM
