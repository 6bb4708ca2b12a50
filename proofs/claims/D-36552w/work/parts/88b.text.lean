/-! java.lang.StringBuilder -/
theorem c_J20_copyOf (K : KT) (d : Nat) (h : MH) (e cap : Nat) (w : Bool) (f : Int → Int) (m : Int) (hd : 1 ≤ d) (he : h.2.2 e = some (w, ba K cap f)) (hm : (cap : Int) < m ∧ m ≤ 100000) (hb : ∀ i, -128 ≤ f i ∧ f i ≤ 127) (hz : h.1 + 1 ≤ kC K ∧ h.2.1 + m.toNat ≤ kS K) : Mt K yiJ20_copyOf d [.ref e, vi m] h (Rr fun v h' => h.1 = v ∧ Hp h h' h.1 (true, ba K m.toNat (cpq f (fun _ => 0) 0 0 (cap : Int))) 1 m.toNat) := by
  refine mt_ofQ (by decide) (Nat.le_of_ble_eq_true rfl) (fun Q hQ => ?_)
  show MW K yiJ20_copyOf d h 0 [some (.ref e), some (vi m), none] [] Q
  refine mw_wf (fun hwf => ?_)
  have l_he := hwf _ _ he
  refine j_iload_n (y := yiJ20_copyOf) dJ20_copyOf_0 rfl ?_
  refine m_aload_n (y := yiJ20_copyOf) dJ20_copyOf_1 rfl ?_
  refine h_alen (y := yiJ20_copyOf) 2 (by decide) dJ20_copyOf_2 he ?_
  refine j_icmp_ne (y := yiJ20_copyOf) 14 dJ20_copyOf_3 (by decide) ⟨⟨by omega, by omega⟩, ⟨by omega, by omega⟩⟩ (fun c3 => ?_) (fun c3 => False.elim (by omega))
  refine j_iload_n (y := yiJ20_copyOf) dJ20_copyOf_14 rfl ?_
  refine h_newa2 (y := yiJ20_copyOf) dJ20_copyOf_15 q295 ⟨by omega, by omega⟩ ⟨by omega, by omega⟩ (hp_new fun g1 g1H => ?_)
  have he : g1.2.2 e = some (w, ba K cap f) := (g1H.2.2.2 _ (by omega)).trans he
  have fg1 : g1.2.2 h.1 = some (true, ba K ((m : Int).toNat) (fun _ => 0)) := g1H.2.2.1
  have g11 := g1H.1
  have g12 := g1H.2.1
  refine m_astore_n (y := yiJ20_copyOf) dJ20_copyOf_17 (by decide) rfl ?_
  show MW K yiJ20_copyOf d g1 18 [some (.ref e), some (vi m), some (.ref h.1)] [] Q
  refine m_aload_n (y := yiJ20_copyOf) dJ20_copyOf_18 rfl ?_
  refine j_iconst (y := yiJ20_copyOf) dJ20_copyOf_19 ?_
  refine m_aload_n (y := yiJ20_copyOf) dJ20_copyOf_20 rfl ?_
  refine j_iconst (y := yiJ20_copyOf) dJ20_copyOf_21 ?_
  refine m_aload_n (y := yiJ20_copyOf) dJ20_copyOf_22 rfl ?_
  refine h_alen (y := yiJ20_copyOf) 2 (by decide) dJ20_copyOf_23 he ?_
  refine j_iload_n (y := yiJ20_copyOf) dJ20_copyOf_24 rfl ?_
  refine m_mmin (y := yiJ20_copyOf) dJ20_copyOf_25 q403 q404 q141 q405 ⟨⟨by omega, by omega⟩, ⟨by omega, by omega⟩⟩ ⟨Nat.le_of_ble_eq_true rfl, by omega⟩ ?_
  have hmin : (if m < (cap : Int) then m else (cap : Int)) = (cap : Int) := if_neg (by omega)
  refine h_copyb (y := yiJ20_copyOf) dJ20_copyOf_28 q406 he fg1 ⟨by omega, by omega⟩ ⟨by omega, by omega, by omega⟩ (by omega) (by omega) (fun i _ _ => hb i) ⟨Nat.le_of_ble_eq_true rfl, by omega⟩ (hp_put fun g2 g2H => ?_)
  have he : g2.2.2 e = some (w, ba K cap f) := (g2H.2.2.2 _ (by omega)).trans he
  have fg1 : g2.2.2 h.1 = some (true, ba K ((m : Int).toNat) (cpq f (fun _ => 0) 0 0 (if m < ((cap : Nat) : Int) then m else ((cap : Nat) : Int)))) := g2H.2.2.1
  have g21 := g2H.1
  have g22 := g2H.2.1
  refine m_aload_n (y := yiJ20_copyOf) dJ20_copyOf_31 rfl ?_
  subst hQ; exact m_aret (y := yiJ20_copyOf) (x := (some h.1)) dJ20_copyOf_32 rfl (Or.inr ⟨_, rfl⟩) ⟨h.1, rfl, ⟨rfl, by { rw [hmin] at fg1; exact ⟨by omega, by omega, fg1, fun b hb => (g2H.2.2.2 b (by omega)).trans (g1H.2.2.2 b (by omega))⟩ }⟩⟩
section STB
variable {K : KT} {d : Nat} {h : MH} {q e cap : Nat} {cd ml n : Int} {f : Int → Int}
theorem c_J5_length (hq : h.2.2 q = some (true, .inr (20, [.ref e, vi cd, vi ml, vi n]))) : Mt K yiJ5_length d [.ref q] h (Rz fun r h' => h = h' ∧ n = r) := by
  refine mt_ofQ (by decide) (Nat.le_of_ble_eq_true rfl) (fun Q hQ => ?_)
  show MW K yiJ5_length d h 0 [some (.ref q)] [] Q
  refine mw_wf (fun hwf => ?_)
  have l_hq := hwf _ _ hq
  refine m_aload_n (y := yiJ5_length) dJ5_length_0 rfl ?_
  refine m_getfS (y := yiJ5_length) kc_20 3 (by decide) dJ5_length_1 q285 hq rfl ?_
  subst hQ; exact j_iret (y := yiJ5_length) dJ5_length_4 rfl (⟨rfl, rfl⟩)
theorem c_J6_length (hd : 1 ≤ d) (hq : h.2.2 q = some (true, .inr (20, [.ref e, vi cd, vi ml, vi n]))) : Mt K yiJ6_length d [.ref q] h (Rz fun r h' => h = h' ∧ n = r) := by
  refine mt_ofQ (by decide) (Nat.le_of_ble_eq_true rfl) (fun Q hQ => ?_)
  show MW K yiJ6_length d h 0 [some (.ref q)] [] Q
  refine mw_wf (fun hwf => ?_)
  have l_hq := hwf _ _ hq
  refine m_aload_n (y := yiJ6_length) dJ6_length_0 rfl ?_
  refine m_invSU (y := yiJ6_length) (rB := (RJ6, TJ6, 4)) [] dJ6_length_1 hq rfl q345 q3653 q294 q346 q129 q347 (by decide) (c_J5_length (d := 0) hq) pdJ5_length ⟨Nat.le_of_ble_eq_true rfl, by decide, by omega⟩ (kk_z fun r1 h1 q1 => ?_) kx_z
  obtain ⟨rfl, rfl⟩ := q1
  refine mw_top (x' := n) rfl ?_
  subst hQ; exact j_iret (y := yiJ6_length) dJ6_length_4 rfl (⟨rfl, rfl⟩)
theorem c_J5_isLatin1 (hK : KTx K) (hc : cd = 0 ∨ cd = 1) (hq : h.2.2 q = some (true, .inr (20, [.ref e, vi cd, vi ml, vi n]))) : Mt K yiJ5_isLatin1 d [.ref q] h (Rz fun r h' => h = h' ∧ bz (cd = 0) = r) := by
  obtain ⟨k1, k3, k4, k5, kv2⟩ := hK
  refine mt_ofQ (by decide) (Nat.le_of_ble_eq_true rfl) (fun Q hQ => ?_)
  show MW K yiJ5_isLatin1 d h 0 [some (.ref q)] [] Q
  refine mw_wf (fun hwf => ?_)
  have l_hq := hwf _ _ hq
  refine m_gets (y := yiJ5_isLatin1) (ref := "") 1 rfl dJ5_isLatin1_0 q272 k1 ?_
  refine j_if_eq (y := yiJ5_isLatin1) 17 dJ5_isLatin1_3 (by decide) ⟨by decide, by decide⟩ (fun c => absurd c (by decide)) (fun _ => ?_)
  refine m_aload_n (y := yiJ5_isLatin1) dJ5_isLatin1_6 rfl ?_
  refine m_getfS (y := yiJ5_isLatin1) kc_20 1 (by decide) dJ5_isLatin1_7 q282 hq rfl ?_
  refine j_if_ne (y := yiJ5_isLatin1) 17 dJ5_isLatin1_10 (by decide) ⟨by omega, by omega⟩ (fun c10 => ?_) (fun c10 => ?_)
  · refine j_iconst (y := yiJ5_isLatin1) dJ5_isLatin1_17 ?_
    subst hQ; exact j_zret (y := yiJ5_isLatin1) dJ5_isLatin1_18 rfl (by omega) (⟨rfl, by first | exact (bz_t (by omega)).symm | exact (bz_f (by omega)).symm⟩)
  · refine j_iconst (y := yiJ5_isLatin1) dJ5_isLatin1_13 ?_
    refine m_goto (y := yiJ5_isLatin1) 18 dJ5_isLatin1_14 (by decide) ?_
    subst hQ; exact j_zret (y := yiJ5_isLatin1) dJ5_isLatin1_18 rfl (by omega) (⟨rfl, by first | exact (bz_t (by omega)).symm | exact (bz_f (by omega)).symm⟩)
theorem c_J5_newCapacity (m : Int) (hd : 2 ≤ d) (hc : cd = 0 ∨ cd = 1) (hq : h.2.2 q = some (true, .inr (20, [.ref e, vi cd, vi ml, vi n]))) (he : h.2.2 e = some (true, ba K cap f)) (hm : 0 < m ∧ m ≤ 100) (hs : (cap : Int) ≤ 500 ∧ (cd = 0 → (cap : Int) < m) ∧ (cd = 1 → (cap : Int) < 2 * m)) : Mt K yiJ5_newCapacity d [.ref q, vi m] h (Rz fun r h' => h = h' ∧ m ≤ r ∧ r ≤ 300 ∧ (cd = 0 → (cap : Int) < r) ∧ (cd = 1 → (cap : Int) < 2 * r)) := by
  rcases hc with rfl | rfl
  · refine mt_ofQ (by decide) (Nat.le_of_ble_eq_true rfl) (fun Q hQ => ?_)
    show MW K yiJ5_newCapacity d h 0 [some (.ref q), some (vi m), none, none, none, none] [] Q
    refine mw_wf (fun hwf => ?_)
    have l_hq := hwf _ _ hq
    have l_he := hwf _ _ he
    refine m_aload_n (y := yiJ5_newCapacity) dJ5_newCapacity_0 rfl ?_
    refine m_getfS (y := yiJ5_newCapacity) kc_20 0 (by decide) dJ5_newCapacity_1 q281 hq rfl ?_
    refine h_alen (y := yiJ5_newCapacity) 2 (by decide) dJ5_newCapacity_4 he ?_
    refine j_istore_n (y := yiJ5_newCapacity) [some (.ref q), some (vi m), some (vi ((cap : Nat) : Int)), none, none, none] dJ5_newCapacity_5 (by decide) rfl rfl ?_
    refine j_iload_n (y := yiJ5_newCapacity) dJ5_newCapacity_6 rfl ?_
    refine m_aload_n (y := yiJ5_newCapacity) dJ5_newCapacity_7 rfl ?_
    refine m_getfS (y := yiJ5_newCapacity) kc_20 1 (by decide) dJ5_newCapacity_8 q282 hq rfl ?_
    refine j_ishlK (y := yiJ5_newCapacity) 0 dJ5_newCapacity_11 (by decide) (by decide) ⟨by omega, by omega⟩ ?_
    show MW K yiJ5_newCapacity d h 12 [some (.ref q), some (vi m), some (vi ((cap : Nat) : Int)), none, none, none] [(vi (m * 1))] Q
    refine j_istore_n (y := yiJ5_newCapacity) [some (.ref q), some (vi m), some (vi ((cap : Nat) : Int)), some (vi (m * 1)), none, none] dJ5_newCapacity_12 (by decide) rfl rfl ?_
    refine j_iload_n (y := yiJ5_newCapacity) dJ5_newCapacity_13 rfl ?_
    refine j_iload_n (y := yiJ5_newCapacity) dJ5_newCapacity_14 rfl ?_
    refine j_isub (y := yiJ5_newCapacity) dJ5_newCapacity_15 ?_
    refine j_istore (y := yiJ5_newCapacity) [some (.ref q), some (vi m), some (vi ((cap : Nat) : Int)), some (vi (m * 1)), some (vi ((m * 1) - ((cap : Nat) : Int))), none] dJ5_newCapacity_16 (by decide) rfl rfl ?_
    refine j_iload_n (y := yiJ5_newCapacity) dJ5_newCapacity_18 rfl ?_
    refine j_iload (y := yiJ5_newCapacity) dJ5_newCapacity_19 rfl ?_
    refine j_iload_n (y := yiJ5_newCapacity) dJ5_newCapacity_21 rfl ?_
    refine j_iconst (y := yiJ5_newCapacity) dJ5_newCapacity_22 ?_
    refine m_aload_n (y := yiJ5_newCapacity) dJ5_newCapacity_23 rfl ?_
    refine m_getfS (y := yiJ5_newCapacity) kc_20 1 (by decide) dJ5_newCapacity_24 q282 hq rfl ?_
    refine j_ishlK (y := yiJ5_newCapacity) 0 dJ5_newCapacity_27 (by decide) (by decide) ⟨by omega, by omega⟩ ?_
    show MW K yiJ5_newCapacity d h 28 [some (.ref q), some (vi m), some (vi ((cap : Nat) : Int)), some (vi (m * 1)), some (vi ((m * 1) - ((cap : Nat) : Int))), none] [(vi (2 * 1)), (vi ((cap : Nat) : Int)), (vi ((m * 1) - ((cap : Nat) : Int))), (vi ((cap : Nat) : Int))] Q
    refine j_iadd (y := yiJ5_newCapacity) dJ5_newCapacity_28 ?_
    refine m_invS (y := yiJ5_newCapacity) [(vi ((cap : Nat) : Int)), (vi ((m * 1) - ((cap : Nat) : Int))), (vi (((cap : Nat) : Int) + (2 * 1)))] dJ5_newCapacity_29 q382 q383 q144 q384 (c_J19_newLength K 1 h ((cap : Nat) : Int) ((m * 1) - ((cap : Nat) : Int)) (((cap : Nat) : Int) + (2 * 1)) (by omega) ⟨by omega, by omega⟩ ⟨by omega, by omega⟩ ⟨by omega, by omega⟩ (by omega)) pdJ19_newLength ⟨Nat.le_of_ble_eq_true rfl, by decide, by omega⟩ (kk_z fun r29 h29 q29 => ?_) kx_z
    obtain ⟨rfl, e29⟩ := q29
    have hr29 : m ≤ r29 ∧ r29 ≤ 300 ∧ (cap : Int) < r29 := by { rw [← e29]; split <;> omega }
    refine j_istore (y := yiJ5_newCapacity) [some (.ref q), some (vi m), some (vi ((cap : Nat) : Int)), some (vi (m * 1)), some (vi ((m * 1) - ((cap : Nat) : Int))), some (vi r29)] dJ5_newCapacity_32 (by decide) rfl rfl ?_
    refine j_iload (y := yiJ5_newCapacity) dJ5_newCapacity_34 rfl ?_
    refine j_ldc (y := yiJ5_newCapacity) (2147483647) dJ5_newCapacity_36 q392 (by decide) ?_
    refine j_icmp_ne (y := yiJ5_newCapacity) 51 dJ5_newCapacity_38 (by decide) ⟨⟨by omega, by omega⟩, ⟨by omega, by omega⟩⟩ (fun c38 => ?_) (fun c38 => False.elim (by omega))
    refine j_iload (y := yiJ5_newCapacity) dJ5_newCapacity_51 rfl ?_
    refine m_aload_n (y := yiJ5_newCapacity) dJ5_newCapacity_53 rfl ?_
    refine m_getfS (y := yiJ5_newCapacity) kc_20 1 (by decide) dJ5_newCapacity_54 q282 hq rfl ?_
    refine j_ishr (y := yiJ5_newCapacity) dJ5_newCapacity_57 ⟨by omega, by omega⟩ ⟨by decide, by decide⟩ ?_
    show MW K yiJ5_newCapacity d h 58 [some (.ref q), some (vi m), some (vi ((cap : Nat) : Int)), some (vi (m * 1)), some (vi ((m * 1) - ((cap : Nat) : Int))), some (vi r29)] [(vi (r29 / 1))] Q
    subst hQ; exact j_iret (y := yiJ5_newCapacity) dJ5_newCapacity_58 rfl (⟨rfl, by omega, by omega, fun _ => by omega, fun h9 => by omega⟩)
  · refine mt_ofQ (by decide) (Nat.le_of_ble_eq_true rfl) (fun Q hQ => ?_)
    show MW K yiJ5_newCapacity d h 0 [some (.ref q), some (vi m), none, none, none, none] [] Q
    refine mw_wf (fun hwf => ?_)
    have l_hq := hwf _ _ hq
    have l_he := hwf _ _ he
    refine m_aload_n (y := yiJ5_newCapacity) dJ5_newCapacity_0 rfl ?_
    refine m_getfS (y := yiJ5_newCapacity) kc_20 0 (by decide) dJ5_newCapacity_1 q281 hq rfl ?_
    refine h_alen (y := yiJ5_newCapacity) 2 (by decide) dJ5_newCapacity_4 he ?_
    refine j_istore_n (y := yiJ5_newCapacity) [some (.ref q), some (vi m), some (vi ((cap : Nat) : Int)), none, none, none] dJ5_newCapacity_5 (by decide) rfl rfl ?_
    refine j_iload_n (y := yiJ5_newCapacity) dJ5_newCapacity_6 rfl ?_
    refine m_aload_n (y := yiJ5_newCapacity) dJ5_newCapacity_7 rfl ?_
    refine m_getfS (y := yiJ5_newCapacity) kc_20 1 (by decide) dJ5_newCapacity_8 q282 hq rfl ?_
    refine j_ishlK (y := yiJ5_newCapacity) 1 dJ5_newCapacity_11 (by decide) (by decide) ⟨by omega, by omega⟩ ?_
    show MW K yiJ5_newCapacity d h 12 [some (.ref q), some (vi m), some (vi ((cap : Nat) : Int)), none, none, none] [(vi (m * 2))] Q
    refine j_istore_n (y := yiJ5_newCapacity) [some (.ref q), some (vi m), some (vi ((cap : Nat) : Int)), some (vi (m * 2)), none, none] dJ5_newCapacity_12 (by decide) rfl rfl ?_
    refine j_iload_n (y := yiJ5_newCapacity) dJ5_newCapacity_13 rfl ?_
    refine j_iload_n (y := yiJ5_newCapacity) dJ5_newCapacity_14 rfl ?_
    refine j_isub (y := yiJ5_newCapacity) dJ5_newCapacity_15 ?_
    refine j_istore (y := yiJ5_newCapacity) [some (.ref q), some (vi m), some (vi ((cap : Nat) : Int)), some (vi (m * 2)), some (vi ((m * 2) - ((cap : Nat) : Int))), none] dJ5_newCapacity_16 (by decide) rfl rfl ?_
    refine j_iload_n (y := yiJ5_newCapacity) dJ5_newCapacity_18 rfl ?_
    refine j_iload (y := yiJ5_newCapacity) dJ5_newCapacity_19 rfl ?_
    refine j_iload_n (y := yiJ5_newCapacity) dJ5_newCapacity_21 rfl ?_
    refine j_iconst (y := yiJ5_newCapacity) dJ5_newCapacity_22 ?_
    refine m_aload_n (y := yiJ5_newCapacity) dJ5_newCapacity_23 rfl ?_
    refine m_getfS (y := yiJ5_newCapacity) kc_20 1 (by decide) dJ5_newCapacity_24 q282 hq rfl ?_
    refine j_ishlK (y := yiJ5_newCapacity) 1 dJ5_newCapacity_27 (by decide) (by decide) ⟨by omega, by omega⟩ ?_
    show MW K yiJ5_newCapacity d h 28 [some (.ref q), some (vi m), some (vi ((cap : Nat) : Int)), some (vi (m * 2)), some (vi ((m * 2) - ((cap : Nat) : Int))), none] [(vi (2 * 2)), (vi ((cap : Nat) : Int)), (vi ((m * 2) - ((cap : Nat) : Int))), (vi ((cap : Nat) : Int))] Q
    refine j_iadd (y := yiJ5_newCapacity) dJ5_newCapacity_28 ?_
    refine m_invS (y := yiJ5_newCapacity) [(vi ((cap : Nat) : Int)), (vi ((m * 2) - ((cap : Nat) : Int))), (vi (((cap : Nat) : Int) + (2 * 2)))] dJ5_newCapacity_29 q382 q383 q144 q384 (c_J19_newLength K 1 h ((cap : Nat) : Int) ((m * 2) - ((cap : Nat) : Int)) (((cap : Nat) : Int) + (2 * 2)) (by omega) ⟨by omega, by omega⟩ ⟨by omega, by omega⟩ ⟨by omega, by omega⟩ (by omega)) pdJ19_newLength ⟨Nat.le_of_ble_eq_true rfl, by decide, by omega⟩ (kk_z fun r29 h29 q29 => ?_) kx_z
    obtain ⟨rfl, e29⟩ := q29
    have hr29 : 2 * m ≤ r29 ∧ r29 ≤ 600 ∧ (cap : Int) + 2 ≤ r29 ∨ (2 * m ≤ r29 ∧ r29 ≤ 600 ∧ r29 = m * 2 ∧ (cap : Int) < r29) := by { rw [← e29]; split <;> omega }
    refine j_istore (y := yiJ5_newCapacity) [some (.ref q), some (vi m), some (vi ((cap : Nat) : Int)), some (vi (m * 2)), some (vi ((m * 2) - ((cap : Nat) : Int))), some (vi r29)] dJ5_newCapacity_32 (by decide) rfl rfl ?_
    refine j_iload (y := yiJ5_newCapacity) dJ5_newCapacity_34 rfl ?_
    refine j_ldc (y := yiJ5_newCapacity) (2147483647) dJ5_newCapacity_36 q392 (by decide) ?_
    refine j_icmp_ne (y := yiJ5_newCapacity) 51 dJ5_newCapacity_38 (by decide) ⟨⟨by omega, by omega⟩, ⟨by omega, by omega⟩⟩ (fun c38 => ?_) (fun c38 => False.elim (by omega))
    refine j_iload (y := yiJ5_newCapacity) dJ5_newCapacity_51 rfl ?_
    refine m_aload_n (y := yiJ5_newCapacity) dJ5_newCapacity_53 rfl ?_
    refine m_getfS (y := yiJ5_newCapacity) kc_20 1 (by decide) dJ5_newCapacity_54 q282 hq rfl ?_
    refine j_ishr (y := yiJ5_newCapacity) dJ5_newCapacity_57 ⟨by omega, by omega⟩ ⟨by decide, by decide⟩ ?_
    show MW K yiJ5_newCapacity d h 58 [some (.ref q), some (vi m), some (vi ((cap : Nat) : Int)), some (vi (m * 2)), some (vi ((m * 2) - ((cap : Nat) : Int))), some (vi r29)] [(vi (r29 / 2))] Q
    subst hQ; exact j_iret (y := yiJ5_newCapacity) dJ5_newCapacity_58 rfl (⟨rfl, by omega, by omega, fun h9 => by omega, fun _ => by omega⟩)
/-- behind ensureCapacityInternal: room for m signs, the same bytes -/
def EnsQ (K : KT) (h h' : MH) (q e cap : Nat) (cd ml n m : Int) (f : Int → Int) : Prop := ∃ (e' cap' : Nat) (f' : Int → Int), (e' = e ∨ h.1 ≤ e') ∧ h'.2.2 q = some (true, .inr (20, [.ref e', vi cd, vi ml, vi n])) ∧ h'.2.2 e' = some (true, ba K cap' f') ∧ (cap ≤ cap' ∧ (cd = 0 → cap' ≤ 400) ∧ (cd = 1 → cap' ≤ 800)) ∧ ((cd = 0 → m ≤ (cap' : Int)) ∧ (cd = 1 → 2 * m ≤ (cap' : Int))) ∧ (∀ i, 0 ≤ i → i < (cap : Int) → f' i = f i) ∧ (∀ i, -128 ≤ f' i ∧ f' i ≤ 127) ∧ (h.1 ≤ h'.1 ∧ h'.1 ≤ h.1 + 1) ∧ (h.2.1 ≤ h'.2.1 ∧ h'.2.1 ≤ h.2.1 + 1000) ∧ ∀ b, (b < h.1 ∧ b ≠ q) → h'.2.2 b = h.2.2 b
theorem cpq_rng {f : Int → Int} {n : Int} (hf : ∀ i, -128 ≤ f i ∧ f i ≤ 127) : ∀ i, -128 ≤ cpq f (fun _ => 0) 0 0 n i ∧ cpq f (fun _ => 0) 0 0 n i ≤ 127 := fun i => by
  unfold cpq
  split
  · exact hf _
  · show (-128 : Int) ≤ 0 ∧ (0 : Int) ≤ 127; omega
theorem cpq_at0 {f : Int → Int} {n i : Int} (h : 0 ≤ i ∧ i < n) : cpq f (fun _ => 0) 0 0 n i = f i := by
  unfold cpq
  rw [if_pos (by omega), show 0 + (i - 0) = i by omega]
theorem c_J5_ensure (m : Int) (hd : 3 ≤ d) (hc : cd = 0 ∨ cd = 1) (hq : h.2.2 q = some (true, .inr (20, [.ref e, vi cd, vi ml, vi n]))) (he : h.2.2 e = some (true, ba K cap f)) (hf : ∀ i, -128 ≤ f i ∧ f i ≤ 127) (hcap : (cd = 0 → cap ≤ 400) ∧ (cd = 1 → cap ≤ 800)) (hm : 0 ≤ m ∧ m ≤ 100) (hz : h.1 + 1 ≤ kC K ∧ h.2.1 + 1000 ≤ kS K) : Mt K yiJ5_ensureCapacityInternal d [.ref q, vi m] h (Rv fun h' => EnsQ K h h' q e cap cd ml n m f) := by
  have hne : q ≠ e := ne_oa hq he
  rcases hc with rfl | rfl
  · have hcap0 := hcap.1 rfl
    by_cases hs : (cap : Int) < m
    · refine mt_ofQ (by decide) (Nat.le_of_ble_eq_true rfl) (fun Q hQ => ?_)
      show MW K yiJ5_ensureCapacityInternal d h 0 [some (.ref q), some (vi m), none] [] Q
      refine mw_wf (fun hwf => ?_)
      have l_hq := hwf _ _ hq
      have l_he := hwf _ _ he
      refine m_aload_n (y := yiJ5_ensureCapacityInternal) dJ5_ensureCapacityInternal_0 rfl ?_
      refine m_getfS (y := yiJ5_ensureCapacityInternal) kc_20 0 (by decide) dJ5_ensureCapacityInternal_1 q281 hq rfl ?_
      refine h_alen (y := yiJ5_ensureCapacityInternal) 2 (by decide) dJ5_ensureCapacityInternal_4 he ?_
      refine m_aload_n (y := yiJ5_ensureCapacityInternal) dJ5_ensureCapacityInternal_5 rfl ?_
      refine m_getfS (y := yiJ5_ensureCapacityInternal) kc_20 1 (by decide) dJ5_ensureCapacityInternal_6 q282 hq rfl ?_
      refine j_ishr (y := yiJ5_ensureCapacityInternal) dJ5_ensureCapacityInternal_9 ⟨by omega, by omega⟩ ⟨by decide, by decide⟩ ?_
      show MW K yiJ5_ensureCapacityInternal d h 10 [some (.ref q), some (vi m), none] [(vi (((cap : Nat) : Int) / 1))] Q
      refine j_istore_n (y := yiJ5_ensureCapacityInternal) [some (.ref q), some (vi m), some (vi (((cap : Nat) : Int) / 1))] dJ5_ensureCapacityInternal_10 (by decide) rfl rfl ?_
      refine j_iload_n (y := yiJ5_ensureCapacityInternal) dJ5_ensureCapacityInternal_11 rfl ?_
      refine j_iload_n (y := yiJ5_ensureCapacityInternal) dJ5_ensureCapacityInternal_12 rfl ?_
      refine j_isub (y := yiJ5_ensureCapacityInternal) dJ5_ensureCapacityInternal_13 ?_
      refine j_if_le (y := yiJ5_ensureCapacityInternal) 38 dJ5_ensureCapacityInternal_14 (by decide) ⟨by omega, by omega⟩ (fun c14 => False.elim (by omega)) (fun c14 => ?_)
      refine m_aload_n (y := yiJ5_ensureCapacityInternal) dJ5_ensureCapacityInternal_17 rfl ?_
      refine m_aload_n (y := yiJ5_ensureCapacityInternal) dJ5_ensureCapacityInternal_18 rfl ?_
      refine m_getfS (y := yiJ5_ensureCapacityInternal) kc_20 0 (by decide) dJ5_ensureCapacityInternal_19 q281 hq rfl ?_
      refine m_aload_n (y := yiJ5_ensureCapacityInternal) dJ5_ensureCapacityInternal_22 rfl ?_
      refine j_iload_n (y := yiJ5_ensureCapacityInternal) dJ5_ensureCapacityInternal_23 rfl ?_
      refine m_invP (y := yiJ5_ensureCapacityInternal) (rB := (RJ6, TJ6, 4)) [(vi m)] dJ5_ensureCapacityInternal_24 hq rfl q378 q3658 q264 q379 ⟨rfl, rfl⟩ q380 q129 q381 (c_J5_newCapacity (d := 2) m (by omega) (Or.inl rfl) hq he ⟨by omega, by omega⟩ ⟨by omega, fun _ => hs, fun h9 => by omega⟩) pdJ5_newCapacity ⟨Nat.le_of_ble_eq_true rfl, by decide, by omega⟩ (kk_z fun r24 h24 q24 => ?_) kx_z
      obtain ⟨rfl, s1, s2, s3, s4⟩ := q24
      have s5 := s3 rfl
      refine m_aload_n (y := yiJ5_ensureCapacityInternal) dJ5_ensureCapacityInternal_27 rfl ?_
      refine m_getfS (y := yiJ5_ensureCapacityInternal) kc_20 1 (by decide) dJ5_ensureCapacityInternal_28 q282 hq rfl ?_
      refine j_ishlK (y := yiJ5_ensureCapacityInternal) 0 dJ5_ensureCapacityInternal_31 (by decide) (by decide) ⟨by omega, by omega⟩ ?_
      show MW K yiJ5_ensureCapacityInternal d h 32 [some (.ref q), some (vi m), some (vi (((cap : Nat) : Int) / 1))] [(vi (r24 * 1)), (.ref e), (.ref q)] Q
      refine m_invS (y := yiJ5_ensureCapacityInternal) [(.ref e), (vi (r24 * 1))] dJ5_ensureCapacityInternal_32 q393 q394 q145 q395 (c_J20_copyOf K 1 h e cap true f (r24 * 1) (by omega) he ⟨by omega, by omega⟩ hf ⟨by omega, by omega⟩) pdJ20_copyOf ⟨Nat.le_of_ble_eq_true rfl, by decide, by omega⟩ (kk_r fun r32 h32 q32 => ?_) kx_r
      obtain ⟨rfl, q32⟩ := q32
      have y32 := q32.1
      have z32 := q32.2.1
      have hn32 := q32.2.2.1
      have hq : h32.2.2 q = some (true, .inr (20, [(.ref e), (vi 0), (vi ml), (vi n)])) := (q32.2.2.2 _ (by omega)).trans hq
      have he : h32.2.2 e = some (true, ba K cap f) := (q32.2.2.2 _ (by omega)).trans he
      refine mw_wf (fun hwf32 => ?_)
      have l_hn3232 := hwf32 _ _ hn32
      refine m_putfS (y := yiJ5_ensureCapacityInternal) kc_20 0 (by decide) dJ5_ensureCapacityInternal_35 q281 rfl hq rfl rfl (hp_put fun g1 g1H => ?_)
      have he : g1.2.2 e = some (true, ba K cap f) := (g1H.2.2.2 _ (by omega)).trans he
      have hn32 : g1.2.2 h.1 = some (true, ba K ((r24 * 1).toNat) (cpq f (fun _ => 0) 0 0 (cap : Int))) := (g1H.2.2.2 _ (by omega)).trans hn32
      have hq : g1.2.2 q = some (true, .inr (20, [(.ref h.1), (vi 0), (vi ml), (vi n)])) := g1H.2.2.1
      have g11 := g1H.1
      have g12 := g1H.2.1
      subst hQ; exact j_vret (y := yiJ5_ensureCapacityInternal) dJ5_ensureCapacityInternal_38 rfl (⟨h.1, (r24 * 1).toNat, _, Or.inr (Nat.le_refl _), hq, hn32, ⟨by omega, fun _ => by omega, fun h9 => by omega⟩, ⟨fun _ => by omega, fun h9 => by omega⟩, fun i a b => cpq_at0 ⟨a, b⟩, cpq_rng hf, by omega, by omega, fun b hb => (g1H.2.2.2 b hb.2).trans (q32.2.2.2 b (by omega))⟩)
    · refine mt_ofQ (by decide) (Nat.le_of_ble_eq_true rfl) (fun Q hQ => ?_)
      show MW K yiJ5_ensureCapacityInternal d h 0 [some (.ref q), some (vi m), none] [] Q
      refine mw_wf (fun hwf => ?_)
      have l_hq := hwf _ _ hq
      have l_he := hwf _ _ he
      refine m_aload_n (y := yiJ5_ensureCapacityInternal) dJ5_ensureCapacityInternal_0 rfl ?_
      refine m_getfS (y := yiJ5_ensureCapacityInternal) kc_20 0 (by decide) dJ5_ensureCapacityInternal_1 q281 hq rfl ?_
      refine h_alen (y := yiJ5_ensureCapacityInternal) 2 (by decide) dJ5_ensureCapacityInternal_4 he ?_
      refine m_aload_n (y := yiJ5_ensureCapacityInternal) dJ5_ensureCapacityInternal_5 rfl ?_
      refine m_getfS (y := yiJ5_ensureCapacityInternal) kc_20 1 (by decide) dJ5_ensureCapacityInternal_6 q282 hq rfl ?_
      refine j_ishr (y := yiJ5_ensureCapacityInternal) dJ5_ensureCapacityInternal_9 ⟨by omega, by omega⟩ ⟨by decide, by decide⟩ ?_
      show MW K yiJ5_ensureCapacityInternal d h 10 [some (.ref q), some (vi m), none] [(vi (((cap : Nat) : Int) / 1))] Q
      refine j_istore_n (y := yiJ5_ensureCapacityInternal) [some (.ref q), some (vi m), some (vi (((cap : Nat) : Int) / 1))] dJ5_ensureCapacityInternal_10 (by decide) rfl rfl ?_
      refine j_iload_n (y := yiJ5_ensureCapacityInternal) dJ5_ensureCapacityInternal_11 rfl ?_
      refine j_iload_n (y := yiJ5_ensureCapacityInternal) dJ5_ensureCapacityInternal_12 rfl ?_
      refine j_isub (y := yiJ5_ensureCapacityInternal) dJ5_ensureCapacityInternal_13 ?_
      refine j_if_le (y := yiJ5_ensureCapacityInternal) 38 dJ5_ensureCapacityInternal_14 (by decide) ⟨by omega, by omega⟩ (fun c14 => ?_) (fun c14 => False.elim (by omega))
      subst hQ; exact j_vret (y := yiJ5_ensureCapacityInternal) dJ5_ensureCapacityInternal_38 rfl (⟨e, cap, f, Or.inl rfl, hq, he, ⟨Nat.le_refl _, hcap.1, hcap.2⟩, ⟨fun _ => by omega, fun h9 => by omega⟩, fun i _ _ => rfl, hf, by omega, by omega, fun _ _ => rfl⟩)
  · have hcap1 := hcap.2 rfl
    by_cases hs : (cap : Int) / 2 < m
    · refine mt_ofQ (by decide) (Nat.le_of_ble_eq_true rfl) (fun Q hQ => ?_)
      show MW K yiJ5_ensureCapacityInternal d h 0 [some (.ref q), some (vi m), none] [] Q
      refine mw_wf (fun hwf => ?_)
      have l_hq := hwf _ _ hq
      have l_he := hwf _ _ he
      refine m_aload_n (y := yiJ5_ensureCapacityInternal) dJ5_ensureCapacityInternal_0 rfl ?_
      refine m_getfS (y := yiJ5_ensureCapacityInternal) kc_20 0 (by decide) dJ5_ensureCapacityInternal_1 q281 hq rfl ?_
      refine h_alen (y := yiJ5_ensureCapacityInternal) 2 (by decide) dJ5_ensureCapacityInternal_4 he ?_
      refine m_aload_n (y := yiJ5_ensureCapacityInternal) dJ5_ensureCapacityInternal_5 rfl ?_
      refine m_getfS (y := yiJ5_ensureCapacityInternal) kc_20 1 (by decide) dJ5_ensureCapacityInternal_6 q282 hq rfl ?_
      refine j_ishr (y := yiJ5_ensureCapacityInternal) dJ5_ensureCapacityInternal_9 ⟨by omega, by omega⟩ ⟨by decide, by decide⟩ ?_
      show MW K yiJ5_ensureCapacityInternal d h 10 [some (.ref q), some (vi m), none] [(vi (((cap : Nat) : Int) / 2))] Q
      refine j_istore_n (y := yiJ5_ensureCapacityInternal) [some (.ref q), some (vi m), some (vi (((cap : Nat) : Int) / 2))] dJ5_ensureCapacityInternal_10 (by decide) rfl rfl ?_
      refine j_iload_n (y := yiJ5_ensureCapacityInternal) dJ5_ensureCapacityInternal_11 rfl ?_
      refine j_iload_n (y := yiJ5_ensureCapacityInternal) dJ5_ensureCapacityInternal_12 rfl ?_
      refine j_isub (y := yiJ5_ensureCapacityInternal) dJ5_ensureCapacityInternal_13 ?_
      refine j_if_le (y := yiJ5_ensureCapacityInternal) 38 dJ5_ensureCapacityInternal_14 (by decide) ⟨by omega, by omega⟩ (fun c14 => False.elim (by omega)) (fun c14 => ?_)
      refine m_aload_n (y := yiJ5_ensureCapacityInternal) dJ5_ensureCapacityInternal_17 rfl ?_
      refine m_aload_n (y := yiJ5_ensureCapacityInternal) dJ5_ensureCapacityInternal_18 rfl ?_
      refine m_getfS (y := yiJ5_ensureCapacityInternal) kc_20 0 (by decide) dJ5_ensureCapacityInternal_19 q281 hq rfl ?_
      refine m_aload_n (y := yiJ5_ensureCapacityInternal) dJ5_ensureCapacityInternal_22 rfl ?_
      refine j_iload_n (y := yiJ5_ensureCapacityInternal) dJ5_ensureCapacityInternal_23 rfl ?_
      refine m_invP (y := yiJ5_ensureCapacityInternal) (rB := (RJ6, TJ6, 4)) [(vi m)] dJ5_ensureCapacityInternal_24 hq rfl q378 q3658 q264 q379 ⟨rfl, rfl⟩ q380 q129 q381 (c_J5_newCapacity (d := 2) m (by omega) (Or.inr rfl) hq he ⟨by omega, by omega⟩ ⟨by omega, fun h9 => by omega, fun _ => by omega⟩) pdJ5_newCapacity ⟨Nat.le_of_ble_eq_true rfl, by decide, by omega⟩ (kk_z fun r24 h24 q24 => ?_) kx_z
      obtain ⟨rfl, s1, s2, s3, s4⟩ := q24
      have s5 := s4 rfl
      refine m_aload_n (y := yiJ5_ensureCapacityInternal) dJ5_ensureCapacityInternal_27 rfl ?_
      refine m_getfS (y := yiJ5_ensureCapacityInternal) kc_20 1 (by decide) dJ5_ensureCapacityInternal_28 q282 hq rfl ?_
      refine j_ishlK (y := yiJ5_ensureCapacityInternal) 1 dJ5_ensureCapacityInternal_31 (by decide) (by decide) ⟨by omega, by omega⟩ ?_
      show MW K yiJ5_ensureCapacityInternal d h 32 [some (.ref q), some (vi m), some (vi (((cap : Nat) : Int) / 2))] [(vi (r24 * 2)), (.ref e), (.ref q)] Q
      refine m_invS (y := yiJ5_ensureCapacityInternal) [(.ref e), (vi (r24 * 2))] dJ5_ensureCapacityInternal_32 q393 q394 q145 q395 (c_J20_copyOf K 1 h e cap true f (r24 * 2) (by omega) he ⟨by omega, by omega⟩ hf ⟨by omega, by omega⟩) pdJ20_copyOf ⟨Nat.le_of_ble_eq_true rfl, by decide, by omega⟩ (kk_r fun r32 h32 q32 => ?_) kx_r
      obtain ⟨rfl, q32⟩ := q32
      have y32 := q32.1
      have z32 := q32.2.1
      have hn32 := q32.2.2.1
      have hq : h32.2.2 q = some (true, .inr (20, [(.ref e), (vi 1), (vi ml), (vi n)])) := (q32.2.2.2 _ (by omega)).trans hq
      have he : h32.2.2 e = some (true, ba K cap f) := (q32.2.2.2 _ (by omega)).trans he
      refine mw_wf (fun hwf32 => ?_)
      have l_hn3232 := hwf32 _ _ hn32
      refine m_putfS (y := yiJ5_ensureCapacityInternal) kc_20 0 (by decide) dJ5_ensureCapacityInternal_35 q281 rfl hq rfl rfl (hp_put fun g1 g1H => ?_)
      have he : g1.2.2 e = some (true, ba K cap f) := (g1H.2.2.2 _ (by omega)).trans he
      have hn32 : g1.2.2 h.1 = some (true, ba K ((r24 * 2).toNat) (cpq f (fun _ => 0) 0 0 (cap : Int))) := (g1H.2.2.2 _ (by omega)).trans hn32
      have hq : g1.2.2 q = some (true, .inr (20, [(.ref h.1), (vi 1), (vi ml), (vi n)])) := g1H.2.2.1
      have g11 := g1H.1
      have g12 := g1H.2.1
      subst hQ; exact j_vret (y := yiJ5_ensureCapacityInternal) dJ5_ensureCapacityInternal_38 rfl (⟨h.1, (r24 * 2).toNat, _, Or.inr (Nat.le_refl _), hq, hn32, ⟨by omega, fun h9 => by omega, fun _ => by omega⟩, ⟨fun h9 => by omega, fun _ => by omega⟩, fun i a b => cpq_at0 ⟨a, b⟩, cpq_rng hf, by omega, by omega, fun b hb => (g1H.2.2.2 b hb.2).trans (q32.2.2.2 b (by omega))⟩)
    · refine mt_ofQ (by decide) (Nat.le_of_ble_eq_true rfl) (fun Q hQ => ?_)
      show MW K yiJ5_ensureCapacityInternal d h 0 [some (.ref q), some (vi m), none] [] Q
      refine mw_wf (fun hwf => ?_)
      have l_hq := hwf _ _ hq
      have l_he := hwf _ _ he
      refine m_aload_n (y := yiJ5_ensureCapacityInternal) dJ5_ensureCapacityInternal_0 rfl ?_
      refine m_getfS (y := yiJ5_ensureCapacityInternal) kc_20 0 (by decide) dJ5_ensureCapacityInternal_1 q281 hq rfl ?_
      refine h_alen (y := yiJ5_ensureCapacityInternal) 2 (by decide) dJ5_ensureCapacityInternal_4 he ?_
      refine m_aload_n (y := yiJ5_ensureCapacityInternal) dJ5_ensureCapacityInternal_5 rfl ?_
      refine m_getfS (y := yiJ5_ensureCapacityInternal) kc_20 1 (by decide) dJ5_ensureCapacityInternal_6 q282 hq rfl ?_
      refine j_ishr (y := yiJ5_ensureCapacityInternal) dJ5_ensureCapacityInternal_9 ⟨by omega, by omega⟩ ⟨by decide, by decide⟩ ?_
      show MW K yiJ5_ensureCapacityInternal d h 10 [some (.ref q), some (vi m), none] [(vi (((cap : Nat) : Int) / 2))] Q
      refine j_istore_n (y := yiJ5_ensureCapacityInternal) [some (.ref q), some (vi m), some (vi (((cap : Nat) : Int) / 2))] dJ5_ensureCapacityInternal_10 (by decide) rfl rfl ?_
      refine j_iload_n (y := yiJ5_ensureCapacityInternal) dJ5_ensureCapacityInternal_11 rfl ?_
      refine j_iload_n (y := yiJ5_ensureCapacityInternal) dJ5_ensureCapacityInternal_12 rfl ?_
      refine j_isub (y := yiJ5_ensureCapacityInternal) dJ5_ensureCapacityInternal_13 ?_
      refine j_if_le (y := yiJ5_ensureCapacityInternal) 38 dJ5_ensureCapacityInternal_14 (by decide) ⟨by omega, by omega⟩ (fun c14 => ?_) (fun c14 => False.elim (by omega))
      subst hQ; exact j_vret (y := yiJ5_ensureCapacityInternal) dJ5_ensureCapacityInternal_38 rfl (⟨e, cap, f, Or.inl rfl, hq, he, ⟨Nat.le_refl _, hcap.1, hcap.2⟩, ⟨fun h9 => by omega, fun _ => by omega⟩, fun i _ _ => rfl, hf, by omega, by omega, fun _ _ => rfl⟩)
theorem c_J23_canEncode (c : Int) (hc : In c) : Mt K yiJ23_canEncode d [vi c] h (Rz fun r h' => h = h' ∧ bz (c ≤ 255) = r) := by
  have := hc.1; have := hc.2
  refine mt_ofQ (by decide) (Nat.le_of_ble_eq_true rfl) (fun Q hQ => ?_)
  show MW K yiJ23_canEncode d h 0 [some (vi c)] [] Q
  refine mw_wf (fun hwf => ?_)
  refine j_iload_n (y := yiJ23_canEncode) dJ23_canEncode_0 rfl ?_
  refine j_sipush (y := yiJ23_canEncode) dJ23_canEncode_1 (by decide) ?_
  refine j_icmp_gt (y := yiJ23_canEncode) 11 dJ23_canEncode_4 (by decide) ⟨⟨by omega, by omega⟩, ⟨by omega, by omega⟩⟩ (fun c4 => ?_) (fun c4 => ?_)
  · refine j_iconst (y := yiJ23_canEncode) dJ23_canEncode_11 ?_
    subst hQ; exact j_zret (y := yiJ23_canEncode) dJ23_canEncode_12 rfl (by omega) (⟨rfl, by first | exact (bz_t (by omega)).symm | exact (bz_f (by omega)).symm⟩)
  · refine j_iconst (y := yiJ23_canEncode) dJ23_canEncode_7 ?_
    refine m_goto (y := yiJ23_canEncode) 12 dJ23_canEncode_8 (by decide) ?_
    subst hQ; exact j_zret (y := yiJ23_canEncode) dJ23_canEncode_12 rfl (by omega) (⟨rfl, by first | exact (bz_t (by omega)).symm | exact (bz_f (by omega)).symm⟩)
theorem c_J8_newBytesLength (m : Int) (hm : 0 ≤ m ∧ m ≤ 100000) : Mt K yiJ8_newBytesLength d [vi m] h (Rz fun r h' => h = h' ∧ m * 2 = r) := by
  refine mt_ofQ (by decide) (Nat.le_of_ble_eq_true rfl) (fun Q hQ => ?_)
  show MW K yiJ8_newBytesLength d h 0 [some (vi m)] [] Q
  refine mw_wf (fun hwf => ?_)
  refine j_iload_n (y := yiJ8_newBytesLength) dJ8_newBytesLength_0 rfl ?_
  refine j_if_ge (y := yiJ8_newBytesLength) 12 dJ8_newBytesLength_1 (by decide) ⟨by omega, by omega⟩ (fun c1 => ?_) (fun c1 => False.elim (by omega))
  refine j_iload_n (y := yiJ8_newBytesLength) dJ8_newBytesLength_12 rfl ?_
  refine j_ldc (y := yiJ8_newBytesLength) (1073741823) dJ8_newBytesLength_13 q280 (by decide) ?_
  refine j_icmp_lt (y := yiJ8_newBytesLength) 55 dJ8_newBytesLength_15 (by decide) ⟨⟨by omega, by omega⟩, ⟨by omega, by omega⟩⟩ (fun c15 => ?_) (fun c15 => False.elim (by omega))
  refine j_iload_n (y := yiJ8_newBytesLength) dJ8_newBytesLength_55 rfl ?_
  refine j_iconst (y := yiJ8_newBytesLength) dJ8_newBytesLength_56 ?_
  refine j_ishlK (y := yiJ8_newBytesLength) 1 dJ8_newBytesLength_57 (by decide) (by decide) ⟨by omega, by omega⟩ ?_
  show MW K yiJ8_newBytesLength d h 58 [some (vi m)] [(vi (m * 2))] Q
  subst hQ; exact j_iret (y := yiJ8_newBytesLength) dJ8_newBytesLength_58 rfl (⟨rfl, rfl⟩)
theorem c_J8_newBytesFor (m : Int) (hd : 1 ≤ d) (hm : 0 ≤ m ∧ m ≤ 100000) (hz : h.1 + 1 ≤ kC K ∧ h.2.1 + (m * 2).toNat ≤ kS K) : Mt K yiJ8_newBytesFor d [vi m] h (Rr fun v h' => h.1 = v ∧ Hp h h' h.1 (true, ba K (m * 2).toNat (fun _ => 0)) 1 (m * 2).toNat) := by
  refine mt_ofQ (by decide) (Nat.le_of_ble_eq_true rfl) (fun Q hQ => ?_)
  show MW K yiJ8_newBytesFor d h 0 [some (vi m)] [] Q
  refine mw_wf (fun hwf => ?_)
  refine j_iload_n (y := yiJ8_newBytesFor) dJ8_newBytesFor_0 rfl ?_
  refine m_invS (y := yiJ8_newBytesFor) [(vi m)] dJ8_newBytesFor_1 q277 q278 q132 q279 (c_J8_newBytesLength (d := 0) m hm) pdJ8_newBytesLength ⟨Nat.le_of_ble_eq_true rfl, by decide, by omega⟩ (kk_z fun r1 h1 q1 => ?_) kx_z
  obtain ⟨rfl, rfl⟩ := q1
  refine mw_top (x' := m * 2) rfl ?_
  refine h_newa2 (y := yiJ8_newBytesFor) dJ8_newBytesFor_4 q295 ⟨by omega, by omega⟩ ⟨by omega, by omega⟩ (hp_new fun g1 g1H => ?_)
  have fg1 : g1.2.2 h.1 = some (true, ba K ((m * 2 : Int).toNat) (fun _ => 0)) := g1H.2.2.1
  have g11 := g1H.1
  have g12 := g1H.2.1
  subst hQ; exact m_aret (y := yiJ8_newBytesFor) (x := (some h.1)) dJ8_newBytesFor_6 rfl (Or.inr ⟨_, rfl⟩) ⟨h.1, rfl, ⟨rfl, g1H⟩⟩
theorem c_J8_inflate {a : Nat} {c1 : Nat} {g : Int → Int} {t : Int → Int} (n : Int) (hd : 3 ≤ d) (hK : KTx K) (he : h.2.2 e = some (true, ba K cap f)) (ha : h.2.2 a = some (true, ba K c1 g)) (hne : e ≠ a) (hc : cap ≤ 100000 ∧ c1 ≤ 100000) (hn : 0 ≤ n ∧ n ≤ (cap : Int) ∧ 2 * n ≤ (c1 : Int)) (hf : ∀ i, 0 ≤ i → i < n → (0 ≤ t i ∧ t i < 256) ∧ f i = sb (t i)) (hg : ∀ i, -128 ≤ g i ∧ g i ≤ 127) : Mt K yiJ8_inflate d [.ref e, vi 0, .ref a, vi 0, vi n] h (Rv fun h' => ∃ g', h'.2.2 a = some (true, ba K c1 g') ∧ (∀ i, -128 ≤ g' i ∧ g' i ≤ 127) ∧ (∀ i, 0 ≤ i → i < n → g' (2 * i) = sb (t i) ∧ g' (2 * i + 1) = sb (t i / 256)) ∧ h'.1 = h.1 ∧ h'.2.1 = h.2.1 ∧ ∀ b, b ≠ a → h'.2.2 b = h.2.2 b) := by
  refine mt_ofQ (by decide) (Nat.le_of_ble_eq_true rfl) (fun Q hQ => ?_)
  show MW K yiJ8_inflate d h 0 [some (.ref e), some (vi 0), some (.ref a), some (vi 0), some (vi n), none] [] Q
  refine mw_wf (fun hwf => ?_)
  have l_he := hwf _ _ he
  have l_ha := hwf _ _ ha
  have fR : ∀ b, (b ≠ a) → h.2.2 b = h.2.2 b := fun _ _ => rfl
  refine j_iload_n (y := yiJ8_inflate) dJ8_inflate_0 rfl ?_
  refine j_iload (y := yiJ8_inflate) dJ8_inflate_1 rfl ?_
  refine m_aload_n (y := yiJ8_inflate) dJ8_inflate_3 rfl ?_
  refine m_invS (y := yiJ8_inflate) [(vi 0), (vi n), (.ref a)] dJ8_inflate_4 q468 q469 q132 q470 (c_J8_checkBoundsOffCount (d := 2) 0 n (by omega) hK.2.2.2.2 ha hc.2 ⟨by omega, by omega, by omega⟩) pdJ8_checkBoundsOffCount ⟨Nat.le_of_ble_eq_true rfl, by decide, by omega⟩ (kk_v fun h4 q4 => ?_) kx_v
  obtain rfl := q4
  refine j_iconst (y := yiJ8_inflate) dJ8_inflate_7 ?_
  refine j_istore (y := yiJ8_inflate) [some (.ref e), some (vi 0), some (.ref a), some (vi 0), some (vi n), some (vi 0)] dJ8_inflate_8 (by decide) rfl rfl ?_
  have L10 : ∀ (N : Nat) (k : Int) (g : Int → Int) (gg : MH), (n - k).toNat = N → (gg.2.2 e = some (true, ba K cap f)) → (gg.2.2 a = some (true, ba K c1 g)) → (∀ b, (b ≠ a) → gg.2.2 b = h.2.2 b) → (0 ≤ k ∧ k ≤ n) → (∀ i, -128 ≤ g i ∧ g i ≤ 127) → (∀ i, 0 ≤ i → i < k → g (2 * i) = sb (t i) ∧ g (2 * i + 1) = sb (t i / 256)) → (gg.1 = h.1 ∧ gg.2.1 = h.2.1) → MW K yiJ8_inflate d gg 10 [some (.ref e), some (vi k), some (.ref a), some (vi k), some (vi n), some (vi k)] [] Q := by
    intro N
    induction N using Nat.strongRecOn with
    | _ N ih10 =>
    intro k g gg hN10 he ha fR hk hg1 hg2 hh
    refine mw_wf (fun hwf10 => ?_)
    have l_he10 := hwf10 _ _ he
    have l_ha10 := hwf10 _ _ ha
    refine j_iload (y := yiJ8_inflate) dJ8_inflate_10 rfl ?_
    refine j_iload (y := yiJ8_inflate) dJ8_inflate_12 rfl ?_
    refine j_icmp_ge (y := yiJ8_inflate) 41 dJ8_inflate_14 (by decide) ⟨⟨by omega, by omega⟩, ⟨by omega, by omega⟩⟩ (fun c14 => ?_) (fun c14 => ?_)
    · subst hQ; exact j_vret (y := yiJ8_inflate) dJ8_inflate_41 rfl (⟨g, ha, hg1, fun i a b => hg2 i a (by omega), hh.1, hh.2, fR⟩)
    · have hfk := hf k (by omega) (by omega)
      refine m_aload_n (y := yiJ8_inflate) dJ8_inflate_17 rfl ?_
      refine j_iload_n (y := yiJ8_inflate) dJ8_inflate_18 rfl ?_
      refine j_iinc (y := yiJ8_inflate) [some (.ref e), some (vi k), some (.ref a), some (vi (k + 1)), some (vi n), some (vi k)] dJ8_inflate_19 rfl (by decide) rfl rfl ?_
      refine m_aload_n (y := yiJ8_inflate) dJ8_inflate_22 rfl ?_
      refine j_iload_n (y := yiJ8_inflate) dJ8_inflate_23 rfl ?_
      refine j_iinc (y := yiJ8_inflate) [some (.ref e), some (vi (k + 1)), some (.ref a), some (vi (k + 1)), some (vi n), some (vi k)] dJ8_inflate_24 rfl (by decide) rfl rfl ?_
      refine j_bald (y := yiJ8_inflate) dJ8_inflate_27 he (by omega) ⟨by omega, by omega⟩ ?_
      refine mw_top (x' := sb (t k)) (hfk.2) ?_
      have hsb := sby_b (t k)
      refine j_sipush (y := yiJ8_inflate) dJ8_inflate_28 (by decide) ?_
      refine j_iandX (y := yiJ8_inflate) (t k) dJ8_inflate_31 ((by rw [vi_and255 (sby_b _), sb_m]; congr 1; omega)) ?_
      refine m_invS (y := yiJ8_inflate) [(.ref a), (vi k), (vi (t k))] dJ8_inflate_32 q431 q432 q132 q433 (c_J8_putChar k (t k) (d := 0) hK ha hc.2 ⟨by omega, by omega⟩ ⟨by omega, by omega⟩) pdJ8_putChar ⟨Nat.le_of_ble_eq_true rfl, by decide, by omega⟩ (kk_v fun h32 q32 => ?_) kx_v
      obtain q32 := q32
      have y32 := q32.1
      have z32 := q32.2.1
      have ha := q32.2.2.1
      have he : h32.2.2 e = some (true, ba K cap f) := (q32.2.2.2 _ (by omega)).trans he
      have fR : ∀ b, (b ≠ a) → h32.2.2 b = h.2.2 b := fun b hb => (q32.2.2.2 b (by omega)).trans (fR b hb)
      refine mw_wf (fun hwf32 => ?_)
      have l_ha32 := hwf32 _ _ ha
      refine j_iinc (y := yiJ8_inflate) [some (.ref e), some (vi (k + 1)), some (.ref a), some (vi (k + 1)), some (vi n), some (vi (k + 1))] dJ8_inflate_35 rfl (by decide) rfl rfl ?_
      refine m_goto (y := yiJ8_inflate) 10 dJ8_inflate_38 (by decide) ?_
      exact ih10 _ (by omega) _ _ _ rfl he ha fR (by omega) (fun i => by { have b1 := sby_b (t k); have b2 := sby_b (t k / 256); unfold upz; split; { exact b2 }; { split; { exact b1 }; { exact hg1 i } } }) (fun i a b => by { unfold upz; by_cases e9 : i = k; { rw [e9, if_neg (by omega), if_pos rfl, if_pos rfl]; exact ⟨rfl, rfl⟩ }; { rw [if_neg (by omega), if_neg (by omega), if_neg (by omega), if_neg (by omega)]; exact hg2 i a (by omega) } }) (by omega)
  exact L10 _ 0 g _ rfl he ha fR (by omega) hg (fun i a b => by omega) (⟨rfl, rfl⟩)
theorem c_J23_inflate {a : Nat} {c1 : Nat} {g : Int → Int} {t : Int → Int} (n : Int) (hd : 4 ≤ d) (hK : KTx K) (he : h.2.2 e = some (true, ba K cap f)) (ha : h.2.2 a = some (true, ba K c1 g)) (hne : e ≠ a) (hc : cap ≤ 100000 ∧ c1 ≤ 100000) (hn : 0 ≤ n ∧ n ≤ (cap : Int) ∧ 2 * n ≤ (c1 : Int)) (hf : ∀ i, 0 ≤ i → i < n → (0 ≤ t i ∧ t i < 256) ∧ f i = sb (t i)) (hg : ∀ i, -128 ≤ g i ∧ g i ≤ 127) : Mt K yiJ23_inflate d [.ref e, vi 0, .ref a, vi 0, vi n] h (Rv fun h' => ∃ g', h'.2.2 a = some (true, ba K c1 g') ∧ (∀ i, -128 ≤ g' i ∧ g' i ≤ 127) ∧ (∀ i, 0 ≤ i → i < n → g' (2 * i) = sb (t i) ∧ g' (2 * i + 1) = sb (t i / 256)) ∧ h'.1 = h.1 ∧ h'.2.1 = h.2.1 ∧ ∀ b, b ≠ a → h'.2.2 b = h.2.2 b) := by
  refine mt_ofQ (by decide) (Nat.le_of_ble_eq_true rfl) (fun Q hQ => ?_)
  show MW K yiJ23_inflate d h 0 [some (.ref e), some (vi 0), some (.ref a), some (vi 0), some (vi n)] [] Q
  refine mw_wf (fun hwf => ?_)
  have l_he := hwf _ _ he
  have l_ha := hwf _ _ ha
  refine m_aload_n (y := yiJ23_inflate) dJ23_inflate_0 rfl ?_
  refine j_iload_n (y := yiJ23_inflate) dJ23_inflate_1 rfl ?_
  refine m_aload_n (y := yiJ23_inflate) dJ23_inflate_2 rfl ?_
  refine j_iload_n (y := yiJ23_inflate) dJ23_inflate_3 rfl ?_
  refine j_iload (y := yiJ23_inflate) dJ23_inflate_4 rfl ?_
  refine m_invS (y := yiJ23_inflate) [(.ref e), (vi 0), (.ref a), (vi 0), (vi n)] dJ23_inflate_6 q465 q466 q132 q467 (c_J8_inflate (d := 3) (t := t) n (by omega) hK he ha hne hc hn hf hg) pdJ8_inflate ⟨Nat.le_of_ble_eq_true rfl, by decide, by omega⟩ (kk_v fun h6 q6 => ?_) kx_v
  obtain ⟨g', q6⟩ := q6
  have he : h6.2.2 e = some (true, ba K cap f) := (q6.2.2.2.2.2 _ (by omega)).trans he
  refine mw_wf (fun hwf6 => ?_)
  subst hQ; exact j_vret (y := yiJ23_inflate) dJ23_inflate_9 rfl (⟨g', q6⟩)
theorem c_J5_inflate {t : Int → Int} (hd : 5 ≤ d) (hK : KTx K) (hq : h.2.2 q = some (true, .inr (20, [.ref e, vi 0, vi ml, vi n]))) (he : h.2.2 e = some (true, ba K cap f)) (hn : 0 ≤ n ∧ n ≤ (cap : Int) ∧ cap ≤ 1000) (hf : ∀ i, 0 ≤ i → i < n → (0 ≤ t i ∧ t i < 256) ∧ f i = sb (t i)) (hz : h.1 + 1 ≤ kC K ∧ h.2.1 + 2000 ≤ kS K) : Mt K yiJ5_inflate d [.ref q] h (Rv fun h' => ∃ g', h'.2.2 q = some (true, .inr (20, [.ref h.1, vi 1, vi ml, vi n])) ∧ h'.2.2 h.1 = some (true, ba K (2 * cap) g') ∧ (∀ i, -128 ≤ g' i ∧ g' i ≤ 127) ∧ (∀ i, 0 ≤ i → i < n → g' (2 * i) = sb (t i) ∧ g' (2 * i + 1) = sb (t i / 256)) ∧ h'.1 = h.1 + 1 ∧ h'.2.1 = h.2.1 + 2 * cap ∧ ∀ b, (b < h.1 ∧ b ≠ q) → h'.2.2 b = h.2.2 b) := by
  have hcd : (0 : Int) = 0 ∨ (0 : Int) = 1 := Or.inl rfl
  have hne : q ≠ e := ne_oa hq he
  have hcap2 : ((cap : Int) * 2).toNat = 2 * cap := by omega
  refine mt_ofQ (by decide) (Nat.le_of_ble_eq_true rfl) (fun Q hQ => ?_)
  show MW K yiJ5_inflate d h 0 [some (.ref q), none] [] Q
  refine mw_wf (fun hwf => ?_)
  have l_hq := hwf _ _ hq
  have l_he := hwf _ _ he
  refine m_aload_n (y := yiJ5_inflate) dJ5_inflate_0 rfl ?_
  refine m_invU (y := yiJ5_inflate) (rB := (RJ6, TJ6, 4)) [] dJ5_inflate_1 hq rfl q409 q411 q412 q410 q129 q413 rfl (by show _ = some 0; decide +kernel) (c_J5_isLatin1 (d := 0) hK hcd hq) pdJ5_isLatin1 ⟨Nat.le_of_ble_eq_true rfl, by decide, by omega⟩ (kk_z fun r1 h1 q1 => ?_) kx_z
  obtain ⟨rfl, rfl⟩ := q1
  refine mw_top (x' := 1) (bz_t rfl).symm ?_
  refine j_if_ne (y := yiJ5_inflate) 8 dJ5_inflate_4 (by decide) ⟨by decide, by decide⟩ (fun _ => ?_) (fun c => absurd c (by decide))
  refine m_aload_n (y := yiJ5_inflate) dJ5_inflate_8 rfl ?_
  refine m_getfS (y := yiJ5_inflate) kc_20 0 (by decide) dJ5_inflate_9 q281 hq rfl ?_
  refine h_alen (y := yiJ5_inflate) 2 (by decide) dJ5_inflate_12 he ?_
  refine m_invS (y := yiJ5_inflate) [(vi ((cap : Nat) : Int))] dJ5_inflate_13 q274 q275 q132 q276 (c_J8_newBytesFor (d := 1) (cap : Int) (by omega) ⟨by omega, by omega⟩ ⟨by omega, by omega⟩) pdJ8_newBytesFor ⟨Nat.le_of_ble_eq_true rfl, by decide, by omega⟩ (kk_r fun r13 h13 q13 => ?_) kx_r
  obtain ⟨rfl, q13⟩ := q13
  have y13 := q13.1
  have z13 := q13.2.1
  have hn13 := q13.2.2.1
  have hq : h13.2.2 q = some (true, .inr (20, [(.ref e), (vi 0), (vi ml), (vi n)])) := (q13.2.2.2 _ (by omega)).trans hq
  have he : h13.2.2 e = some (true, ba K cap f) := (q13.2.2.2 _ (by omega)).trans he
  refine mw_wf (fun hwf13 => ?_)
  have l_hn1313 := hwf13 _ _ hn13
  refine m_astore_n (y := yiJ5_inflate) dJ5_inflate_16 (by decide) rfl ?_
  show MW K yiJ5_inflate d h13 17 [some (.ref q), some (.ref h.1)] [] Q
  refine m_aload_n (y := yiJ5_inflate) dJ5_inflate_17 rfl ?_
  refine m_getfS (y := yiJ5_inflate) kc_20 0 (by decide) dJ5_inflate_18 q281 hq rfl ?_
  refine j_iconst (y := yiJ5_inflate) dJ5_inflate_21 ?_
  refine m_aload_n (y := yiJ5_inflate) dJ5_inflate_22 rfl ?_
  refine j_iconst (y := yiJ5_inflate) dJ5_inflate_23 ?_
  refine m_aload_n (y := yiJ5_inflate) dJ5_inflate_24 rfl ?_
  refine m_getfS (y := yiJ5_inflate) kc_20 3 (by decide) dJ5_inflate_25 q285 hq rfl ?_
  refine m_invS (y := yiJ5_inflate) [(.ref e), (vi 0), (.ref h.1), (vi 0), (vi n)] dJ5_inflate_28 q462 q463 q149 q464 (c_J23_inflate (d := 4) (t := t) n (by omega) hK he hn13 (by omega) ⟨by omega, by omega⟩ ⟨by omega, by omega, by omega⟩ hf (fun i => ⟨by decide, by decide⟩)) pdJ23_inflate ⟨Nat.le_of_ble_eq_true rfl, by decide, by omega⟩ (kk_v fun h28 q28 => ?_) kx_v
  obtain ⟨g', s1, s2, s3, s4, s5, s6⟩ := q28
  have hq : h28.2.2 q = some (true, .inr (20, [(.ref e), (vi 0), (vi ml), (vi n)])) := (s6 _ (by omega)).trans hq
  have he : h28.2.2 e = some (true, ba K cap f) := (s6 _ (by omega)).trans he
  refine mw_wf (fun hwf28 => ?_)
  have l_s128 := hwf28 _ _ s1
  refine m_aload_n (y := yiJ5_inflate) dJ5_inflate_31 rfl ?_
  refine m_aload_n (y := yiJ5_inflate) dJ5_inflate_32 rfl ?_
  refine m_putfS (y := yiJ5_inflate) kc_20 0 (by decide) dJ5_inflate_33 q281 rfl hq rfl rfl (hp_put fun g1 g1H => ?_)
  have he : g1.2.2 e = some (true, ba K cap f) := (g1H.2.2.2 _ (by omega)).trans he
  have s1 : g1.2.2 h.1 = some (true, ba K (((cap : Int) * 2).toNat) g') := (g1H.2.2.2 _ (by omega)).trans s1
  have hq : g1.2.2 q = some (true, .inr (20, [(.ref h.1), (vi 0), (vi ml), (vi n)])) := g1H.2.2.1
  have g11 := g1H.1
  have g12 := g1H.2.1
  refine m_aload_n (y := yiJ5_inflate) dJ5_inflate_36 rfl ?_
  refine j_iconst (y := yiJ5_inflate) dJ5_inflate_37 ?_
  refine m_putfS (y := yiJ5_inflate) kc_20 1 (by decide) dJ5_inflate_38 q282 rfl hq rfl rfl (hp_put fun g2 g2H => ?_)
  have he : g2.2.2 e = some (true, ba K cap f) := (g2H.2.2.2 _ (by omega)).trans he
  have s1 : g2.2.2 h.1 = some (true, ba K (((cap : Int) * 2).toNat) g') := (g2H.2.2.2 _ (by omega)).trans s1
  have hq : g2.2.2 q = some (true, .inr (20, [(.ref h.1), (vi 1), (vi ml), (vi n)])) := g2H.2.2.1
  have g21 := g2H.1
  have g22 := g2H.2.1
  subst hQ; exact j_vret (y := yiJ5_inflate) dJ5_inflate_41 rfl (⟨g', hq, by { rw [← hcap2]; exact s1 }, s2, s3, by omega, by omega, fun b hb => (g2H.2.2.2 b hb.2).trans ((g1H.2.2.2 b hb.2).trans ((s6 b (by omega)).trans (q13.2.2.2 b (by omega))))⟩)
end STB
