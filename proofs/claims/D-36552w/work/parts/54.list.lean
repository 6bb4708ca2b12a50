/-! java.util.ArrayList and what it calls -/
theorem c_J2_size (K : KT) (d : Nat) (h : MH) (a e : Nat) (mc n : Int) (ho : h.2.2 a = some (true, .inr (14, [vi mc, .ref e, vi n]))) : Mt K yiJ2_size d [.ref a] h (Rz fun v h' => h = h' ∧ n = v) := by
  refine mt_ofQ (by decide) (Nat.le_of_ble_eq_true rfl) (fun Q hQ => ?_)
  show MW K yiJ2_size d h 0 [some (.ref a)] [] Q
  refine mw_wf (fun hwf => ?_)
  have l_ho := hwf _ _ ho
  refine m_aload_n (y := yiJ2_size) dJ2_size_0 rfl ?_
  refine m_getfS (y := yiJ2_size) kc_14 2 (by decide) dJ2_size_1 q217 ho rfl ?_
  subst hQ; exact j_iret (y := yiJ2_size) dJ2_size_4 rfl (⟨rfl, rfl⟩)
theorem c_J22_checkIndex (K : KT) (d : Nat) (h : MH) (i n : Int) (hi : 0 ≤ i ∧ i < n) (hn : In n) : Mt K yiJ22_checkIndex d [vi i, vi n, .null] h (Rz fun v h' => h = h' ∧ i = v) := by
  have := hn.1; have := hn.2
  refine mt_ofQ (by decide) (Nat.le_of_ble_eq_true rfl) (fun Q hQ => ?_)
  show MW K yiJ22_checkIndex d h 0 [some (vi i), some (vi n), some .null] [] Q
  refine mw_wf (fun hwf => ?_)
  refine j_iload_n (y := yiJ22_checkIndex) dJ22_checkIndex_0 rfl ?_
  refine j_if_lt (y := yiJ22_checkIndex) 9 dJ22_checkIndex_1 (by decide) ⟨by omega, by omega⟩ (fun c1 => False.elim (by omega)) (fun c1 => ?_)
  refine j_iload_n (y := yiJ22_checkIndex) dJ22_checkIndex_4 rfl ?_
  refine j_iload_n (y := yiJ22_checkIndex) dJ22_checkIndex_5 rfl ?_
  refine j_icmp_lt (y := yiJ22_checkIndex) 16 dJ22_checkIndex_6 (by decide) ⟨⟨by omega, by omega⟩, ⟨by omega, by omega⟩⟩ (fun c6 => ?_) (fun c6 => False.elim (by omega))
  refine j_iload_n (y := yiJ22_checkIndex) dJ22_checkIndex_16 rfl ?_
  subst hQ; exact j_iret (y := yiJ22_checkIndex) dJ22_checkIndex_17 rfl (⟨rfl, rfl⟩)
theorem c_J21_checkIndex (K : KT) (d : Nat) (h : MH) (i n : Int) (hd : 1 ≤ d) (hi : 0 ≤ i ∧ i < n) (hn : In n) : Mt K yiJ21_checkIndex d [vi i, vi n] h (Rz fun v h' => h = h' ∧ i = v) := by
  refine mt_ofQ (by decide) (Nat.le_of_ble_eq_true rfl) (fun Q hQ => ?_)
  show MW K yiJ21_checkIndex d h 0 [some (vi i), some (vi n)] [] Q
  refine mw_wf (fun hwf => ?_)
  refine j_iload_n (y := yiJ21_checkIndex) dJ21_checkIndex_0 rfl ?_
  refine j_iload_n (y := yiJ21_checkIndex) dJ21_checkIndex_1 rfl ?_
  refine m_null (y := yiJ21_checkIndex) dJ21_checkIndex_2 ?_
  refine m_invS (y := yiJ21_checkIndex) [(vi i), (vi n), .null] dJ21_checkIndex_3 q1042 q1043 q148 q1044 (c_J22_checkIndex K 0 h _ _ hi hn) pdJ22_checkIndex ⟨Nat.le_of_ble_eq_true rfl, by decide, by omega⟩ (kk_z fun r3 h3 q3 => ?_) kx_z
  obtain ⟨rfl, rfl⟩ := q3
  refine mw_top (x' := i) rfl ?_
  subst hQ; exact j_iret (y := yiJ21_checkIndex) dJ21_checkIndex_6 rfl (⟨rfl, rfl⟩)
theorem c_J2_elementData (K : KT) (d : Nat) (h : MH) (a e cap : Nat) (w : Bool) (mc n i : Int) (f : Int → Option Nat) (x : Nat) (ho : h.2.2 a = some (true, .inr (14, [vi mc, .ref e, vi n]))) (he : h.2.2 e = some (w, oaE K cap f)) (hi : 0 ≤ i ∧ i < cap) (hc : cap ≤ 100000) (hx : f i = some x) : Mt K yiJ2_elementData d [.ref a, vi i] h (Rr fun v h' => h = h' ∧ x = v) := by
  have he : h.2.2 e = some (w, oaE K cap f) := he
  refine mt_ofQ (by decide) (Nat.le_of_ble_eq_true rfl) (fun Q hQ => ?_)
  show MW K yiJ2_elementData d h 0 [some (.ref a), some (vi i)] [] Q
  refine mw_wf (fun hwf => ?_)
  have l_ho := hwf _ _ ho
  have l_he := hwf _ _ he
  refine m_aload_n (y := yiJ2_elementData) dJ2_elementData_0 rfl ?_
  refine m_getfS (y := yiJ2_elementData) kc_14 1 (by decide) dJ2_elementData_1 q213 ho rfl ?_
  refine j_iload_n (y := yiJ2_elementData) dJ2_elementData_4 rfl ?_
  refine h_aald5 (y := yiJ2_elementData) dJ2_elementData_5 he ⟨by omega, by omega⟩ (by omega) ?_
  rw [hx]
  show MW K yiJ2_elementData d h 6 [some (.ref a), some (vi i)] [(.ref x)] Q
  subst hQ; exact m_aret (y := yiJ2_elementData) (x := (some x)) dJ2_elementData_6 rfl (Or.inl ⟨_, rfl⟩) ⟨x, rfl, ⟨rfl, rfl⟩⟩
theorem c_J2_get (K : KT) (d : Nat) (h : MH) (a e cap : Nat) (w : Bool) (mc n i : Int) (f : Int → Option Nat) (x : Nat) (hd : 2 ≤ d) (ho : h.2.2 a = some (true, .inr (14, [vi mc, .ref e, vi n]))) (he : h.2.2 e = some (w, oaE K cap f)) (hi : 0 ≤ i ∧ i < n) (hc : n ≤ cap ∧ cap ≤ 100000) (hx : f i = some x) : Mt K yiJ2_get d [.ref a, vi i] h (Rr fun v h' => h = h' ∧ x = v) := by
  refine mt_ofQ (by decide) (Nat.le_of_ble_eq_true rfl) (fun Q hQ => ?_)
  show MW K yiJ2_get d h 0 [some (.ref a), some (vi i)] [] Q
  refine mw_wf (fun hwf => ?_)
  have l_ho := hwf _ _ ho
  refine j_iload_n (y := yiJ2_get) dJ2_get_0 rfl ?_
  refine m_aload_n (y := yiJ2_get) dJ2_get_1 rfl ?_
  refine m_getfS (y := yiJ2_get) kc_14 2 (by decide) dJ2_get_2 q217 ho rfl ?_
  refine m_invS (y := yiJ2_get) [(vi i), (vi n)] dJ2_get_5 q1039 q1040 q147 q1041 (c_J21_checkIndex K 1 h _ _ (by omega) hi ⟨by omega, by omega⟩) pdJ21_checkIndex ⟨Nat.le_of_ble_eq_true rfl, by decide, by omega⟩ (kk_z fun r5 h5 q5 => ?_) kx_z
  obtain ⟨rfl, rfl⟩ := q5
  refine mw_top (x' := i) rfl ?_
  refine m_pop (y := yiJ2_get) dJ2_get_8 rfl ?_
  refine m_aload_n (y := yiJ2_get) dJ2_get_9 rfl ?_
  refine j_iload_n (y := yiJ2_get) dJ2_get_10 rfl ?_
  refine m_invV (y := yiJ2_get) (rB := (RJ2, TJ2, 3)) [(vi i)] dJ2_get_11 ho rfl q1045 q1046 q1047 q126 q1048 rfl (c_J2_elementData K 0 h a e cap w mc n i f x ho he ⟨by omega, by omega⟩ hc.2 hx) pdJ2_elementData ⟨Nat.le_of_ble_eq_true rfl, by decide, by omega⟩ (kk_r fun r11 h11 q11 => ?_) kx_r
  obtain ⟨rfl, rfl⟩ := q11
  subst hQ; exact m_aret (y := yiJ2_get) (x := (some x)) dJ2_get_14 rfl (Or.inl ⟨_, rfl⟩) ⟨x, rfl, ⟨rfl, rfl⟩⟩
theorem c_J19_newLength (K : KT) (d : Nat) (h : MH) (a b c : Int) (hd : 1 ≤ d) (ha : 0 ≤ a ∧ a ≤ 1000000) (hb : 0 ≤ b ∧ b ≤ 1000000) (hc : 0 ≤ c ∧ c ≤ 1000000) (hp : 0 < a + b) : Mt K yiJ19_newLength d [vi a, vi b, vi c] h (Rz fun v h' => h = h' ∧ a + (if b < c then c else b) = v) := by
  refine mt_ofQ (by decide) (Nat.le_of_ble_eq_true rfl) (fun Q hQ => ?_)
  show MW K yiJ19_newLength d h 0 [some (vi a), some (vi b), some (vi c), none] [] Q
  refine mw_wf (fun hwf => ?_)
  refine j_iload_n (y := yiJ19_newLength) dJ19_newLength_0 rfl ?_
  refine j_iload_n (y := yiJ19_newLength) dJ19_newLength_1 rfl ?_
  refine j_iload_n (y := yiJ19_newLength) dJ19_newLength_2 rfl ?_
  refine m_mmax (y := yiJ19_newLength) dJ19_newLength_3 q385 q386 q141 q387 ⟨⟨by omega, by omega⟩, ⟨by omega, by omega⟩⟩ ⟨Nat.le_of_ble_eq_true rfl, by omega⟩ ?_
  have hm : 0 ≤ (if b < c then c else b) ∧ (if b < c then c else b) ≤ 1000000 ∧ b ≤ (if b < c then c else b) := by split <;> omega
  refine j_iadd (y := yiJ19_newLength) dJ19_newLength_6 ?_
  refine j_istore_n (y := yiJ19_newLength) [some (vi a), some (vi b), some (vi c), some (vi (a + (if b < c then c else b)))] dJ19_newLength_7 (by decide) rfl rfl ?_
  refine j_iconst (y := yiJ19_newLength) dJ19_newLength_8 ?_
  refine j_iload_n (y := yiJ19_newLength) dJ19_newLength_9 rfl ?_
  refine j_icmp_ge (y := yiJ19_newLength) 21 dJ19_newLength_10 (by decide) ⟨⟨by omega, by omega⟩, ⟨by omega, by omega⟩⟩ (fun c10 => False.elim (by omega)) (fun c10 => ?_)
  refine j_iload_n (y := yiJ19_newLength) dJ19_newLength_13 rfl ?_
  refine j_ldc (y := yiJ19_newLength) (2147483639) dJ19_newLength_14 q388 (by decide) ?_
  refine j_icmp_gt (y := yiJ19_newLength) 21 dJ19_newLength_16 (by decide) ⟨⟨by omega, by omega⟩, ⟨by omega, by omega⟩⟩ (fun c16 => False.elim (by omega)) (fun c16 => ?_)
  refine j_iload_n (y := yiJ19_newLength) dJ19_newLength_19 rfl ?_
  subst hQ; exact j_iret (y := yiJ19_newLength) dJ19_newLength_20 rfl (⟨rfl, rfl⟩)
/-- the array behind growing -/
def grF (f : Int → Option Nat) (n : Int) : Int → Option Nat := fun k => if 0 ≤ k ∧ k < n then f k else none
theorem grF_cpq {f : Int → Option Nat} {n : Int} : cpq f (fun _ => none) 0 0 n = grF f n := by
  funext k; unfold cpq grF
  by_cases e : 0 ≤ k ∧ k < n
  · rw [if_pos (by omega), if_pos e]; congr 1; omega
  · rw [if_neg (by omega), if_neg e]
theorem grF_0 (f : Int → Option Nat) : (fun _ => none) = grF f ((0 : Nat) : Int) := by funext k; unfold grF; rw [if_neg (by omega)]
theorem c_J20_copyOf_3 (K : KT) (d : Nat) (h : MH) (e cap : Nat) (w : Bool) (f : Int → Option Nat) (m : Int) (hd : 1 ≤ d) (he : h.2.2 e = some (w, oaE K cap f)) (hm : (cap : Int) ≤ m ∧ m ≤ 100000) (hel : ∀ i : Int, 0 ≤ i → i < (cap : Int) → ∀ v, f i = some v → IsO h v) (hz : h.1 + 1 ≤ kC K ∧ h.2.1 + m.toNat ≤ kS K) : Mt K yiJ20_copyOf_3 d [.ref e, vi m, .ref (kN K 2)] h (Rr fun v h' => h.1 = v ∧ Hp h h' h.1 (true, oaE K m.toNat (grF f cap)) 1 m.toNat) := by
  refine mt_ofQ (by decide) (Nat.le_of_ble_eq_true rfl) (fun Q hQ => ?_)
  show MW K yiJ20_copyOf_3 d h 0 [some (.ref e), some (vi m), some (.ref (kN K 2)), none] [] Q
  refine mw_wf (fun hwf => ?_)
  have l_he := hwf _ _ he
  refine m_aload_n (y := yiJ20_copyOf_3) dJ20_copyOf_3_0 rfl ?_
  refine m_ldcO (y := yiJ20_copyOf_3) dJ20_copyOf_3_1 q1019 ?_
  refine m_acmp_ne (y := yiJ20_copyOf_3) (x := (some (kN K 2))) (z := (some (kN K 2))) 13 dJ20_copyOf_3_3 (by decide) (fun c => absurd rfl c) (fun _ => ?_)
  refine j_iload_n (y := yiJ20_copyOf_3) dJ20_copyOf_3_6 rfl ?_
  refine h_anewO (y := yiJ20_copyOf_3) dJ20_copyOf_3_7 q1021 ⟨by omega, by omega⟩ ⟨by omega, by omega⟩ (hp_new fun g1 g1H => ?_)
  have he : g1.2.2 e = some (w, oaE K cap f) := (g1H.2.2.2 _ (by omega)).trans he
  have fg1 : g1.2.2 h.1 = some (true, oaE K ((m : Int).toNat) (fun _ => none)) := g1H.2.2.1
  have g11 := g1H.1
  have g12 := g1H.2.1
  refine m_goto (y := yiJ20_copyOf_3) 24 dJ20_copyOf_3_10 (by decide) ?_
  refine m_astore_n (y := yiJ20_copyOf_3) dJ20_copyOf_3_24 (by decide) rfl ?_
  show MW K yiJ20_copyOf_3 d g1 25 [some (.ref e), some (vi m), some (.ref (kN K 2)), some (.ref h.1)] [] Q
  refine m_aload_n (y := yiJ20_copyOf_3) dJ20_copyOf_3_25 rfl ?_
  refine j_iconst (y := yiJ20_copyOf_3) dJ20_copyOf_3_26 ?_
  refine m_aload_n (y := yiJ20_copyOf_3) dJ20_copyOf_3_27 rfl ?_
  refine j_iconst (y := yiJ20_copyOf_3) dJ20_copyOf_3_28 ?_
  refine m_aload_n (y := yiJ20_copyOf_3) dJ20_copyOf_3_29 rfl ?_
  refine h_alen (y := yiJ20_copyOf_3) 5 (by decide) dJ20_copyOf_3_30 he ?_
  refine j_iload_n (y := yiJ20_copyOf_3) dJ20_copyOf_3_31 rfl ?_
  refine m_mmin (y := yiJ20_copyOf_3) dJ20_copyOf_3_32 q403 q404 q141 q405 ⟨⟨by omega, by omega⟩, ⟨by omega, by omega⟩⟩ ⟨Nat.le_of_ble_eq_true rfl, by omega⟩ ?_
  have hmin : (if m < (cap : Int) then m else (cap : Int)) = (cap : Int) := if_neg (by omega)
  refine h_copyq (y := yiJ20_copyOf_3) dJ20_copyOf_3_35 q406 he fg1 ⟨by omega, by omega⟩ ⟨by omega, by omega, by omega⟩ (by omega) (by omega) (fun i a b v hv => IsO.mono' (g1H.2.2.2 v (by have := (hel i a (by omega) v hv).lt hwf; omega)) (hel i a (by omega) v hv)) ⟨Nat.le_of_ble_eq_true rfl, by omega⟩ (hp_put fun g2 g2H => ?_)
  have he : g2.2.2 e = some (w, oaE K cap f) := (g2H.2.2.2 _ (by omega)).trans he
  have fg1 : g2.2.2 h.1 = some (true, oaE K ((m : Int).toNat) (cpq f (fun _ => none) 0 0 (if m < ((cap : Nat) : Int) then m else ((cap : Nat) : Int)))) := g2H.2.2.1
  have g21 := g2H.1
  have g22 := g2H.2.1
  refine m_aload_n (y := yiJ20_copyOf_3) dJ20_copyOf_3_38 rfl ?_
  subst hQ; exact m_aret (y := yiJ20_copyOf_3) (x := (some h.1)) dJ20_copyOf_3_39 rfl (Or.inr ⟨_, rfl⟩) ⟨h.1, rfl, ⟨rfl, by { rw [hmin] at fg1; rw [grF_cpq] at fg1; exact ⟨by omega, by omega, fg1, fun b hb => (g2H.2.2.2 b (by omega)).trans (g1H.2.2.2 b (by omega))⟩ }⟩⟩
theorem c_J20_copyOf_2 (K : KT) (d : Nat) (h : MH) (e cap : Nat) (w : Bool) (f : Int → Option Nat) (m : Int) (hd : 2 ≤ d) (he : h.2.2 e = some (w, oaE K cap f)) (hm : (cap : Int) ≤ m ∧ m ≤ 100000) (hel : ∀ i : Int, 0 ≤ i → i < (cap : Int) → ∀ v, f i = some v → IsO h v) (hz : h.1 + 1 ≤ kC K ∧ h.2.1 + m.toNat ≤ kS K) : Mt K yiJ20_copyOf_2 d [.ref e, vi m] h (Rr fun v h' => h.1 = v ∧ Hp h h' h.1 (true, oaE K m.toNat (grF f cap)) 1 m.toNat) := by
  refine mt_ofQ (by decide) (Nat.le_of_ble_eq_true rfl) (fun Q hQ => ?_)
  show MW K yiJ20_copyOf_2 d h 0 [some (.ref e), some (vi m)] [] Q
  refine mw_wf (fun hwf => ?_)
  have l_he := hwf _ _ he
  refine m_aload_n (y := yiJ20_copyOf_2) dJ20_copyOf_2_0 rfl ?_
  refine j_iload_n (y := yiJ20_copyOf_2) dJ20_copyOf_2_1 rfl ?_
  refine m_aload_n (y := yiJ20_copyOf_2) dJ20_copyOf_2_2 rfl ?_
  refine m_getC5 (y := yiJ20_copyOf_2) dJ20_copyOf_2_3 q973 he ⟨Nat.le_of_ble_eq_true rfl, by omega⟩ ?_
  refine m_invS (y := yiJ20_copyOf_2) [(.ref e), (vi m), (.ref (kN K 2))] dJ20_copyOf_2_6 q1016 q1017 q145 q1018 (c_J20_copyOf_3 K 1 h e cap w f m (by omega) he hm hel hz) pdJ20_copyOf_3 ⟨Nat.le_of_ble_eq_true rfl, by decide, by omega⟩ (kk_r fun r6 h6 q6 => ?_) kx_r
  obtain ⟨rfl, q6⟩ := q6
  have fn := q6.2.2.1
  have he : h6.2.2 e = some (w, oaE K cap f) := (q6.2.2.2 _ (by omega)).trans he
  refine mw_wf (fun hwf6 => ?_)
  have l_fn6 := hwf6 _ _ fn
  subst hQ; exact m_aret (y := yiJ20_copyOf_2) (x := (some h.1)) dJ20_copyOf_2_9 rfl (Or.inr ⟨_, rfl⟩) ⟨h.1, rfl, ⟨rfl, q6⟩⟩
/-- how much a list holds behind growing -/
def grC (cap : Int) : Int := if cap = 0 then 10 else cap + (if 1 < cap / 2 then cap / 2 else 1)
theorem c_J2_grow_2 (K : KT) (d : Nat) (h : MH) (e0 a e cap : Nat) (w : Bool) (mc n : Int) (f : Int → Option Nat) (hd : 3 ≤ d) (hE : kV K 0 = .ref e0) (ho : h.2.2 a = some (true, .inr (14, [vi mc, .ref e, vi n]))) (he : h.2.2 e = some (w, oaE K cap f)) (hae : a ≠ e) (h0 : cap = 0 → e = e0) (hn : n = (cap : Int) ∧ cap ≤ 60000) (hel : ∀ i : Int, 0 ≤ i → i < (cap : Int) → ∀ v, f i = some v → IsO h v) (hz : h.1 + 1 ≤ kC K ∧ h.2.1 + (grC cap).toNat ≤ kS K) : Mt K yiJ2_grow_2 d [.ref a, vi (n + 1)] h (Rr fun v h' => h.1 = v ∧ h'.1 = h.1 + 1 ∧ h'.2.1 = h.2.1 + (grC cap).toNat ∧ h'.2.2 h.1 = some (true, oaE K (grC cap).toNat (grF f cap)) ∧ h'.2.2 a = some (true, .inr (14, [vi mc, .ref h.1, vi n])) ∧ ∀ b, (b ≠ a ∧ b ≠ h.1) → h'.2.2 b = h.2.2 b) := by
  have hg : (cap : Int) ≤ grC cap ∧ grC cap ≤ 100000 := by unfold grC; (repeat' split) <;> omega
  by_cases hc : cap = 0
  · have hee := h0 hc
    subst hee
    subst hc
    have hgz : grC ((0 : Nat) : Int) = 10 := rfl
    refine mt_ofQ (by decide) (Nat.le_of_ble_eq_true rfl) (fun Q hQ => ?_)
    show MW K yiJ2_grow_2 d h 0 [some (.ref a), some (vi (n + 1)), none, none] [] Q
    refine mw_wf (fun hwf => ?_)
    have l_ho := hwf _ _ ho
    have l_he := hwf _ _ he
    refine m_aload_n (y := yiJ2_grow_2) dJ2_grow_2_0 rfl ?_
    refine m_getfS (y := yiJ2_grow_2) kc_14 1 (by decide) dJ2_grow_2_1 q213 ho rfl ?_
    refine h_alen (y := yiJ2_grow_2) 5 (by decide) dJ2_grow_2_4 he ?_
    refine j_istore_n (y := yiJ2_grow_2) [some (.ref a), some (vi (n + 1)), some (vi ((0 : Nat) : Int)), none] dJ2_grow_2_5 (by decide) rfl rfl ?_
    refine j_iload_n (y := yiJ2_grow_2) dJ2_grow_2_6 rfl ?_
    refine j_if_gt (y := yiJ2_grow_2) 20 dJ2_grow_2_7 (by decide) ⟨by omega, by omega⟩ (fun c7 => False.elim (by omega)) (fun c7 => ?_)
    refine m_aload_n (y := yiJ2_grow_2) dJ2_grow_2_10 rfl ?_
    refine m_getfS (y := yiJ2_grow_2) kc_14 1 (by decide) dJ2_grow_2_11 q213 ho rfl ?_
    refine m_gets (y := yiJ2_grow_2) (ref := "") 0 rfl dJ2_grow_2_14 q211 hE ?_
    refine m_acmp_eq (y := yiJ2_grow_2) (x := (some e)) (z := (some e)) 45 dJ2_grow_2_17 (by decide) (fun _ => ?_) (fun c => absurd rfl c)
    refine m_aload_n (y := yiJ2_grow_2) dJ2_grow_2_45 rfl ?_
    refine j_bipush (y := yiJ2_grow_2) dJ2_grow_2_46 (by decide) ?_
    refine j_iload_n (y := yiJ2_grow_2) dJ2_grow_2_48 rfl ?_
    refine m_mmax (y := yiJ2_grow_2) dJ2_grow_2_49 q1022 q386 q141 q387 ⟨⟨by omega, by omega⟩, ⟨by omega, by omega⟩⟩ ⟨Nat.le_of_ble_eq_true rfl, by omega⟩ ?_
    have hmx : (if (10 : Int) < n + 1 then n + 1 else 10) = 10 := if_neg (by omega)
    refine h_anewO (y := yiJ2_grow_2) dJ2_grow_2_52 q1023 ⟨by omega, by omega⟩ ⟨by omega, by omega⟩ (hp_new fun g1 g1H => ?_)
    have ho : g1.2.2 a = some (true, .inr (14, [(vi mc), (.ref e), (vi n)])) := (g1H.2.2.2 _ (by omega)).trans ho
    have he : g1.2.2 e = some (w, oaE K 0 f) := (g1H.2.2.2 _ (by omega)).trans he
    have fg1 : g1.2.2 h.1 = some (true, oaE K (((if 10 < n + 1 then n + 1 else 10) : Int).toNat) (fun _ => none)) := g1H.2.2.1
    have g11 := g1H.1
    have g12 := g1H.2.1
    refine m_dup_x1 (y := yiJ2_grow_2) dJ2_grow_2_55 rfl rfl ?_
    refine m_putfS (y := yiJ2_grow_2) kc_14 1 (by decide) dJ2_grow_2_56 q213 rfl ho rfl rfl (hp_put fun g2 g2H => ?_)
    have he : g2.2.2 e = some (w, oaE K 0 f) := (g2H.2.2.2 _ (by omega)).trans he
    have fg1 : g2.2.2 h.1 = some (true, oaE K (((if 10 < n + 1 then n + 1 else 10) : Int).toNat) (fun _ => none)) := (g2H.2.2.2 _ (by omega)).trans fg1
    have ho : g2.2.2 a = some (true, .inr (14, [(vi mc), (.ref h.1), (vi n)])) := g2H.2.2.1
    have g21 := g2H.1
    have g22 := g2H.2.1
    subst hQ; exact m_aret (y := yiJ2_grow_2) (x := (some h.1)) dJ2_grow_2_59 rfl (Or.inr ⟨_, rfl⟩) ⟨h.1, rfl, ⟨rfl, by omega, by rw [hgz]; rw [hmx] at g12; omega, by { rw [hmx] at fg1; rw [hgz, ← grF_0]; exact fg1 }, ho, fun b hb => (g2H.2.2.2 b (by omega)).trans (g1H.2.2.2 b (by omega))⟩⟩
  · have hgz : grC (cap : Int) = (cap : Int) + (if (n + 1 - (cap : Int)) < (cap : Int) / 2 ^ (1 : Int).toNat then (cap : Int) / 2 ^ (1 : Int).toNat else (n + 1 - (cap : Int))) := by
      have e1 : (2 : Int) ^ (1 : Int).toNat = 2 := rfl
      unfold grC
      rw [e1, if_neg (by omega), show n + 1 - (cap : Int) = 1 by omega]
    refine mt_ofQ (by decide) (Nat.le_of_ble_eq_true rfl) (fun Q hQ => ?_)
    show MW K yiJ2_grow_2 d h 0 [some (.ref a), some (vi (n + 1)), none, none] [] Q
    refine mw_wf (fun hwf => ?_)
    have l_ho := hwf _ _ ho
    have l_he := hwf _ _ he
    refine m_aload_n (y := yiJ2_grow_2) dJ2_grow_2_0 rfl ?_
    refine m_getfS (y := yiJ2_grow_2) kc_14 1 (by decide) dJ2_grow_2_1 q213 ho rfl ?_
    refine h_alen (y := yiJ2_grow_2) 5 (by decide) dJ2_grow_2_4 he ?_
    refine j_istore_n (y := yiJ2_grow_2) [some (.ref a), some (vi (n + 1)), some (vi ((cap : Nat) : Int)), none] dJ2_grow_2_5 (by decide) rfl rfl ?_
    refine j_iload_n (y := yiJ2_grow_2) dJ2_grow_2_6 rfl ?_
    refine j_if_gt (y := yiJ2_grow_2) 20 dJ2_grow_2_7 (by decide) ⟨by omega, by omega⟩ (fun c7 => ?_) (fun c7 => False.elim (by omega))
    refine j_iload_n (y := yiJ2_grow_2) dJ2_grow_2_20 rfl ?_
    refine j_iload_n (y := yiJ2_grow_2) dJ2_grow_2_21 rfl ?_
    refine j_iload_n (y := yiJ2_grow_2) dJ2_grow_2_22 rfl ?_
    refine j_isub (y := yiJ2_grow_2) dJ2_grow_2_23 ?_
    refine j_iload_n (y := yiJ2_grow_2) dJ2_grow_2_24 rfl ?_
    refine j_iconst (y := yiJ2_grow_2) dJ2_grow_2_25 ?_
    refine j_ishr (y := yiJ2_grow_2) dJ2_grow_2_26 ⟨by omega, by omega⟩ ⟨by omega, by omega⟩ ?_
    refine m_invS (y := yiJ2_grow_2) [(vi ((cap : Nat) : Int)), (vi ((n + 1) - ((cap : Nat) : Int))), (vi (((cap : Nat) : Int) / 2 ^ (1 : Int).toNat))] dJ2_grow_2_27 q969 q383 q144 q384 (c_J19_newLength K 1 h _ _ _ (by omega) ⟨by omega, by omega⟩ ⟨by omega, by omega⟩ ⟨by rw [show (2 : Int) ^ (1 : Int).toNat = 2 from rfl]; omega, by rw [show (2 : Int) ^ (1 : Int).toNat = 2 from rfl]; omega⟩ (by omega)) pdJ19_newLength ⟨Nat.le_of_ble_eq_true rfl, by decide, by omega⟩ (kk_z fun r27 h27 q27 => ?_) kx_z
    obtain ⟨rfl, e27⟩ := q27
    refine mw_top (x' := grC (cap : Int)) (e27.symm.trans hgz.symm) ?_
    refine j_istore_n (y := yiJ2_grow_2) [some (.ref a), some (vi (n + 1)), some (vi ((cap : Nat) : Int)), some (vi (grC (cap : Int)))] dJ2_grow_2_30 (by decide) rfl rfl ?_
    refine m_aload_n (y := yiJ2_grow_2) dJ2_grow_2_31 rfl ?_
    refine m_aload_n (y := yiJ2_grow_2) dJ2_grow_2_32 rfl ?_
    refine m_getfS (y := yiJ2_grow_2) kc_14 1 (by decide) dJ2_grow_2_33 q213 ho rfl ?_
    refine j_iload_n (y := yiJ2_grow_2) dJ2_grow_2_36 rfl ?_
    refine m_invS (y := yiJ2_grow_2) [(.ref e), (vi (grC (cap : Int)))] dJ2_grow_2_37 q970 q971 q145 q972 (c_J20_copyOf_2 K 2 h e cap w f _ (by omega) he ⟨by omega, by omega⟩ hel hz) pdJ20_copyOf_2 ⟨Nat.le_of_ble_eq_true rfl, by decide, by omega⟩ (kk_r fun r37 h37 q37 => ?_) kx_r
    obtain ⟨rfl, q37⟩ := q37
    have fn := q37.2.2.1
    have ho : h37.2.2 a = some (true, .inr (14, [(vi mc), (.ref e), (vi n)])) := (q37.2.2.2 _ (by omega)).trans ho
    have he : h37.2.2 e = some (w, oaE K cap f) := (q37.2.2.2 _ (by omega)).trans he
    refine mw_wf (fun hwf37 => ?_)
    have l_fn37 := hwf37 _ _ fn
    have z37 := q37.1
    have y37 := q37.2.1
    refine m_dup_x1 (y := yiJ2_grow_2) dJ2_grow_2_40 rfl rfl ?_
    refine m_putfS (y := yiJ2_grow_2) kc_14 1 (by decide) dJ2_grow_2_41 q213 rfl ho rfl rfl (hp_put fun g1 g1H => ?_)
    have he : g1.2.2 e = some (w, oaE K cap f) := (g1H.2.2.2 _ (by omega)).trans he
    have fn : g1.2.2 h.1 = some (true, oaE K ((grC (cap : Int)).toNat) (grF f cap)) := (g1H.2.2.2 _ (by omega)).trans fn
    have ho : g1.2.2 a = some (true, .inr (14, [(vi mc), (.ref h.1), (vi n)])) := g1H.2.2.1
    have g11 := g1H.1
    have g12 := g1H.2.1
    subst hQ; exact m_aret (y := yiJ2_grow_2) (x := (some h.1)) dJ2_grow_2_44 rfl (Or.inr ⟨_, rfl⟩) ⟨h.1, rfl, ⟨rfl, by omega, by omega, fn, ho, fun b hb => (g1H.2.2.2 b (by omega)).trans (q37.2.2.2 b (by omega))⟩⟩
theorem c_J2_grow (K : KT) (d : Nat) (h : MH) (e0 a e cap : Nat) (w : Bool) (mc n : Int) (f : Int → Option Nat) (hd : 4 ≤ d) (hE : kV K 0 = .ref e0) (ho : h.2.2 a = some (true, .inr (14, [vi mc, .ref e, vi n]))) (he : h.2.2 e = some (w, oaE K cap f)) (hae : a ≠ e) (h0 : cap = 0 → e = e0) (hn : n = (cap : Int) ∧ cap ≤ 60000) (hel : ∀ i : Int, 0 ≤ i → i < (cap : Int) → ∀ v, f i = some v → IsO h v) (hz : h.1 + 1 ≤ kC K ∧ h.2.1 + (grC cap).toNat ≤ kS K) : Mt K yiJ2_grow d [.ref a] h (Rr fun v h' => h.1 = v ∧ h'.1 = h.1 + 1 ∧ h'.2.1 = h.2.1 + (grC cap).toNat ∧ h'.2.2 h.1 = some (true, oaE K (grC cap).toNat (grF f cap)) ∧ h'.2.2 a = some (true, .inr (14, [vi mc, .ref h.1, vi n])) ∧ ∀ b, (b ≠ a ∧ b ≠ h.1) → h'.2.2 b = h.2.2 b) := by
  refine mt_ofQ (by decide) (Nat.le_of_ble_eq_true rfl) (fun Q hQ => ?_)
  show MW K yiJ2_grow d h 0 [some (.ref a)] [] Q
  refine mw_wf (fun hwf => ?_)
  have l_ho := hwf _ _ ho
  have l_he := hwf _ _ he
  refine m_aload_n (y := yiJ2_grow) dJ2_grow_0 rfl ?_
  refine m_aload_n (y := yiJ2_grow) dJ2_grow_1 rfl ?_
  refine m_getfS (y := yiJ2_grow) kc_14 2 (by decide) dJ2_grow_2 q217 ho rfl ?_
  refine j_iconst (y := yiJ2_grow) dJ2_grow_5 ?_
  refine j_iadd (y := yiJ2_grow) dJ2_grow_6 ?_
  refine m_invV (y := yiJ2_grow) (rB := (RJ2, TJ2, 3)) [(vi (n + 1))] dJ2_grow_7 ho rfl q965 q967 qs7 q126 q968 rfl (c_J2_grow_2 K 3 h e0 a e cap w mc n f (by omega) hE ho he hae h0 hn hel hz) pdJ2_grow_2 ⟨Nat.le_of_ble_eq_true rfl, by decide, by omega⟩ (kk_r fun r7 h7 q7 => ?_) kx_r
  obtain ⟨rfl, q1, q2, q3, q4, q5⟩ := q7
  have he : h7.2.2 e = some (w, oaE K cap f) := (q5 _ (by omega)).trans he
  refine mw_wf (fun hwf7 => ?_)
  have l_q37 := hwf7 _ _ q3
  have l_q47 := hwf7 _ _ q4
  subst hQ; exact m_aret (y := yiJ2_grow) (x := (some h.1)) dJ2_grow_10 rfl (Or.inr ⟨_, rfl⟩) ⟨h.1, rfl, ⟨rfl, q1, q2, q3, q4, q5⟩⟩
/-- a list: its object a, its array e of which n places are taken -/
def LsA (K : KT) (h : MH) (e0 a e : Nat) (n : Int) (p : Int → Nat) : Prop := ∃ (w : Bool) (cap : Nat) (mc : Int) (f : Int → Option Nat), h.2.2 a = some (true, .inr (14, [vi mc, .ref e, vi n])) ∧ h.2.2 e = some (w, oaE K cap f) ∧ a ≠ e ∧ (cap = 0 → e = e0) ∧ (cap ≠ 0 → w = true) ∧ (0 ≤ n ∧ n ≤ (cap : Int) ∧ cap ≤ 60000) ∧ (∀ i, 0 ≤ i → i < n → f i = some (p i) ∧ IsO h (p i)) ∧ ∀ i : Int, n ≤ i → f i = none
theorem c_J2_add_2 (K : KT) (d : Nat) (h : MH) (e0 a e cap v : Nat) (w : Bool) (mc n : Int) (f : Int → Option Nat) (hd : 5 ≤ d) (hE : kV K 0 = .ref e0) (ho : h.2.2 a = some (true, .inr (14, [vi mc, .ref e, vi n]))) (he : h.2.2 e = some (w, oaE K cap f)) (hae : a ≠ e) (h0 : cap = 0 → e = e0) (hw : cap ≠ 0 → w = true) (hn : 0 ≤ n ∧ n ≤ (cap : Int) ∧ cap ≤ 60000) (hel : ∀ i : Int, 0 ≤ i → i < n → ∀ v, f i = some v → IsO h v) (hv : IsO h v) (hno : ∀ i : Int, n ≤ i → f i = none) (h3 : n ≤ 30000) (hz : h.1 + 1 ≤ kC K ∧ h.2.1 + (grC n).toNat ≤ kS K) : Mt K yiJ2_add_2 d [.ref a, .ref v, .ref e, vi n] h (Rv fun h' => ∃ (e' cap' : Nat) (f' : Int → Option Nat), (e' = e ∨ h.1 ≤ e') ∧ (h.1 ≤ h'.1 ∧ h'.1 ≤ h.1 + 1) ∧ (h.2.1 ≤ h'.2.1 ∧ h'.2.1 ≤ h.2.1 + (grC n).toNat) ∧ h'.2.2 a = some (true, .inr (14, [vi mc, .ref e', vi (n + 1)])) ∧ h'.2.2 e' = some (true, oaE K cap' f') ∧ a ≠ e' ∧ (n + 1 ≤ (cap' : Int) ∧ cap' ≤ 60000) ∧ (∀ i : Int, 0 ≤ i → i < n → f' i = f i) ∧ f' n = some v ∧ (∀ i : Int, n + 1 ≤ i → f' i = none) ∧ (∀ b, (b < h.1 ∧ b ≠ a ∧ b ≠ e) → h'.2.2 b = h.2.2 b) ∧ (w = false → h'.2.2 e = h.2.2 e)) := by
  by_cases hc : n = (cap : Int)
  · subst hc
    have hg : (cap : Int) < grC cap ∧ grC cap ≤ 60000 := by unfold grC; (repeat' split) <;> omega
    refine mt_ofQ (by decide) (Nat.le_of_ble_eq_true rfl) (fun Q hQ => ?_)
    show MW K yiJ2_add_2 d h 0 [some (.ref a), some (.ref v), some (.ref e), some (vi (cap : Int))] [] Q
    refine mw_wf (fun hwf => ?_)
    have l_ho := hwf _ _ ho
    have l_he := hwf _ _ he
    have lv := hv.lt hwf
    refine j_iload_n (y := yiJ2_add_2) dJ2_add_2_0 rfl ?_
    refine m_aload_n (y := yiJ2_add_2) dJ2_add_2_1 rfl ?_
    refine h_alen (y := yiJ2_add_2) 5 (by decide) dJ2_add_2_2 he ?_
    refine j_icmp_ne (y := yiJ2_add_2) 11 dJ2_add_2_3 (by decide) ⟨⟨by omega, by omega⟩, ⟨by omega, by omega⟩⟩ (fun c3 => False.elim (by omega)) (fun c3 => ?_)
    refine m_aload_n (y := yiJ2_add_2) dJ2_add_2_6 rfl ?_
    refine m_invV (y := yiJ2_add_2) (rB := (RJ2, TJ2, 3)) [] dJ2_add_2_7 ho rfl q961 q963 qs6 q126 q964 rfl (c_J2_grow K 4 h e0 a e cap w mc _ f (by omega) hE ho he hae h0 ⟨rfl, hn.2.2⟩ hel hz) pdJ2_grow ⟨Nat.le_of_ble_eq_true rfl, by decide, by omega⟩ (kk_r fun r7 h7 q7 => ?_) kx_r
    obtain ⟨rfl, q1, q2, q3, q4, q5⟩ := q7
    have he : h7.2.2 e = some (w, oaE K cap f) := (q5 _ (by omega)).trans he
    refine mw_wf (fun hwf7 => ?_)
    have l_q37 := hwf7 _ _ q3
    have l_q47 := hwf7 _ _ q4
    have hav : a ≠ v ∨ a = v := by omega
    have hv7 : IsO h7 v := by { by_cases e9 : v = a; { subst e9; exact ⟨_, _, _, _, q4, rfl, kObj 14 _ rfl⟩ }; { exact hv.mono' (q5 v (by omega)) } }
    refine m_astore_n (y := yiJ2_add_2) dJ2_add_2_10 (by decide) rfl ?_
    show MW K yiJ2_add_2 d h7 11 [some (.ref a), some (.ref v), some (.ref h.1), some (vi (cap : Int))] [] Q
    refine m_aload_n (y := yiJ2_add_2) dJ2_add_2_11 rfl ?_
    refine j_iload_n (y := yiJ2_add_2) dJ2_add_2_12 rfl ?_
    refine m_aload_n (y := yiJ2_add_2) dJ2_add_2_13 rfl ?_
    refine h_aast (y := yiJ2_add_2) dJ2_add_2_14 q3 hv7 ⟨by omega, by omega⟩ (by omega) (hp_put fun g1 g1H => ?_)
    have q4 : g1.2.2 a = some (true, .inr (14, [(vi mc), (.ref h.1), (vi (cap : Int))])) := (g1H.2.2.2 _ (by omega)).trans q4
    have he : g1.2.2 e = some (w, oaE K cap f) := (g1H.2.2.2 _ (by omega)).trans he
    have q3 : g1.2.2 h.1 = some (true, oaE K ((grC (cap : Int)).toNat) (upq (grF f cap) (cap : Int) (some v))) := g1H.2.2.1
    have g11 := g1H.1
    have g12 := g1H.2.1
    refine m_aload_n (y := yiJ2_add_2) dJ2_add_2_15 rfl ?_
    refine j_iload_n (y := yiJ2_add_2) dJ2_add_2_16 rfl ?_
    refine j_iconst (y := yiJ2_add_2) dJ2_add_2_17 ?_
    refine j_iadd (y := yiJ2_add_2) dJ2_add_2_18 ?_
    refine m_putfS (y := yiJ2_add_2) kc_14 2 (by decide) dJ2_add_2_19 q217 rfl q4 rfl rfl (hp_put fun g2 g2H => ?_)
    have he : g2.2.2 e = some (w, oaE K cap f) := (g2H.2.2.2 _ (by omega)).trans he
    have q3 : g2.2.2 h.1 = some (true, oaE K ((grC (cap : Int)).toNat) (upq (grF f cap) (cap : Int) (some v))) := (g2H.2.2.2 _ (by omega)).trans q3
    have q4 : g2.2.2 a = some (true, .inr (14, [(vi mc), (.ref h.1), (vi ((cap : Int) + 1))])) := g2H.2.2.1
    have g21 := g2H.1
    have g22 := g2H.2.1
    subst hQ; exact j_vret (y := yiJ2_add_2) dJ2_add_2_22 rfl (⟨h.1, (grC cap).toNat, _, Or.inr (Nat.le_refl _), by omega, by omega, q4, q3, by omega, by omega, fun i a b => by { unfold upq grF; rw [if_neg (by omega), if_pos (by omega)] }, by { unfold upq; rw [if_pos rfl] }, fun i a => by { unfold upq grF; rw [if_neg (by omega), if_neg (by omega)] }, fun b hb => (g2H.2.2.2 b (by omega)).trans ((g1H.2.2.2 b (by omega)).trans (q5 b (by omega))), fun _ => (g2H.2.2.2 e (by omega)).trans ((g1H.2.2.2 e (by omega)).trans (q5 e (by omega)))⟩)
  · have hw1 := hw (by omega)
    subst hw1
    refine mt_ofQ (by decide) (Nat.le_of_ble_eq_true rfl) (fun Q hQ => ?_)
    show MW K yiJ2_add_2 d h 0 [some (.ref a), some (.ref v), some (.ref e), some (vi n)] [] Q
    refine mw_wf (fun hwf => ?_)
    have l_ho := hwf _ _ ho
    have l_he := hwf _ _ he
    refine j_iload_n (y := yiJ2_add_2) dJ2_add_2_0 rfl ?_
    refine m_aload_n (y := yiJ2_add_2) dJ2_add_2_1 rfl ?_
    refine h_alen (y := yiJ2_add_2) 5 (by decide) dJ2_add_2_2 he ?_
    refine j_icmp_ne (y := yiJ2_add_2) 11 dJ2_add_2_3 (by decide) ⟨⟨by omega, by omega⟩, ⟨by omega, by omega⟩⟩ (fun c3 => ?_) (fun c3 => False.elim (by omega))
    refine m_aload_n (y := yiJ2_add_2) dJ2_add_2_11 rfl ?_
    refine j_iload_n (y := yiJ2_add_2) dJ2_add_2_12 rfl ?_
    refine m_aload_n (y := yiJ2_add_2) dJ2_add_2_13 rfl ?_
    refine h_aast (y := yiJ2_add_2) dJ2_add_2_14 he hv ⟨by omega, by omega⟩ (by omega) (hp_put fun g1 g1H => ?_)
    have ho : g1.2.2 a = some (true, .inr (14, [(vi mc), (.ref e), (vi n)])) := (g1H.2.2.2 _ (by omega)).trans ho
    have he : g1.2.2 e = some (true, oaE K cap (upq f n (some v))) := g1H.2.2.1
    have g11 := g1H.1
    have g12 := g1H.2.1
    refine m_aload_n (y := yiJ2_add_2) dJ2_add_2_15 rfl ?_
    refine j_iload_n (y := yiJ2_add_2) dJ2_add_2_16 rfl ?_
    refine j_iconst (y := yiJ2_add_2) dJ2_add_2_17 ?_
    refine j_iadd (y := yiJ2_add_2) dJ2_add_2_18 ?_
    refine m_putfS (y := yiJ2_add_2) kc_14 2 (by decide) dJ2_add_2_19 q217 rfl ho rfl rfl (hp_put fun g2 g2H => ?_)
    have he : g2.2.2 e = some (true, oaE K cap (upq f n (some v))) := (g2H.2.2.2 _ (by omega)).trans he
    have ho : g2.2.2 a = some (true, .inr (14, [(vi mc), (.ref e), (vi (n + 1))])) := g2H.2.2.1
    have g21 := g2H.1
    have g22 := g2H.2.1
    subst hQ; exact j_vret (y := yiJ2_add_2) dJ2_add_2_22 rfl (⟨e, cap, _, Or.inl rfl, by omega, by omega, ho, he, hae, by omega, fun i a b => by { unfold upq; rw [if_neg (by omega)] }, by { unfold upq; rw [if_pos rfl] }, fun i a => by { unfold upq; rw [if_neg (by omega)]; exact hno i (by omega) }, fun b hb => (g2H.2.2.2 b (by omega)).trans (g1H.2.2.2 b (by omega)), fun h9 => nomatch h9⟩)
