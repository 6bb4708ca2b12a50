/-! lists without their elements' cells; Lastbus.Trip -/
def LsB (K : KT) (h : MH) (e0 a e : Nat) (n : Int) (p : Int → Nat) : Prop := ∃ (w : Bool) (cap : Nat) (mc : Int) (f : Int → Option Nat), h.2.2 a = some (true, .inr (14, [vi mc, .ref e, vi n])) ∧ h.2.2 e = some (w, oaE K cap f) ∧ a ≠ e ∧ (cap = 0 → e = e0) ∧ (cap ≠ 0 → w = true) ∧ (0 ≤ n ∧ n ≤ (cap : Int) ∧ cap ≤ 60000) ∧ (∀ i, 0 ≤ i → i < n → f i = some (p i)) ∧ ∀ i : Int, n ≤ i → f i = none
theorem LsB.A {K : KT} {h : MH} {e0 a e : Nat} {n : Int} {p : Int → Nat} (L : LsB K h e0 a e n p) (hi : ∀ i, 0 ≤ i → i < n → IsO h (p i)) : LsA K h e0 a e n p := by
  obtain ⟨w, cap, mc, f, h1, h2, h3, h4, h5, h6, h7, h8⟩ := L
  exact ⟨w, cap, mc, f, h1, h2, h3, h4, h5, h6, fun i a b => ⟨h7 i a b, hi i a b⟩, h8⟩
theorem LsA.B {K : KT} {h : MH} {e0 a e : Nat} {n : Int} {p : Int → Nat} (L : LsA K h e0 a e n p) : LsB K h e0 a e n p := by
  obtain ⟨w, cap, mc, f, h1, h2, h3, h4, h5, h6, h7, h8⟩ := L
  exact ⟨w, cap, mc, f, h1, h2, h3, h4, h5, h6, fun i a b => (h7 i a b).1, h8⟩
theorem LsB.up {K : KT} {h h' : MH} {e0 a e : Nat} {n : Int} {p : Int → Nat} (L : LsB K h e0 a e n p) (e1 : ∀ b c, h.2.2 b = some c → h'.2.2 b = some c) : LsB K h' e0 a e n p := by
  obtain ⟨w, cap, mc, f, h1, h2, h3⟩ := L
  exact ⟨w, cap, mc, f, e1 _ _ h1, e1 _ _ h2, h3⟩
theorem IsO.up {h h' : MH} {v : Nat} (e1 : ∀ b c, h.2.2 b = some c → h'.2.2 b = some c) (L : IsO h v) : IsO h' v := by
  obtain ⟨w, ci, fs, r, h1, h2⟩ := L
  exact ⟨w, ci, fs, r, e1 _ _ h1, h2⟩
theorem iso_of {h : MH} {v ci : Nat} {w : Bool} {fs : List Value} {r : vw_C} (e : h.2.2 v = some (w, .inr (ci, fs))) (hr : mcl[ci]? = some r) : IsO h v := ⟨w, ci, fs, r, e, hr, kObj ci r hr⟩
/-- the empty array that all lists begin with -/
def E0A (K : KT) (h : MH) (e0 : Nat) : Prop := kV K 0 = .ref e0 ∧ h.2.2 e0 = some (false, oaE K 0 (fun _ => none))
/-- what an add leaves, the elements' cells aside -/
def AddB (K : KT) (h h' : MH) (e0 a e v : Nat) (n : Int) (p : Int → Nat) : Prop := ∃ e', (e' = e ∨ h.1 ≤ e') ∧ (h.1 ≤ h'.1 ∧ h'.1 ≤ h.1 + 1) ∧ (h.2.1 ≤ h'.2.1 ∧ h'.2.1 ≤ h.2.1 + (grC n).toNat) ∧ LsB K h' e0 a e' (n + 1) (upn p n v) ∧ ∀ b, (b < h.1 ∧ b ≠ a ∧ (b ≠ e ∨ b = e0)) → h'.2.2 b = h.2.2 b
theorem c_Ladd (K : KT) (d : Nat) (h : MH) (e0 a e v : Nat) (n : Int) (p : Int → Nat) (ci : Nat) {r : vw_C} (hd : 6 ≤ d) (hE : E0A K h e0) (hL : LsB K h e0 a e n p) (hn : n ≤ 30000) (hr : mcl[ci]? = some r) (h14 : ci ≠ 14) (hv : ∃ w fs, h.2.2 v = some (w, .inr (ci, fs))) (hel : ∀ i, 0 ≤ i → i < n → ∃ w fs, h.2.2 (p i) = some (w, .inr (ci, fs))) (hz : h.1 + 1 ≤ kC K ∧ h.2.1 + (grC n).toNat ≤ kS K) : Mt K yiJ2_add d [.ref a, .ref v] h (Rz fun r h' => 1 = r ∧ AddB K h h' e0 a e v n p) := by
  have hL' := hL
  obtain ⟨w, cap, mc, f, ho, he, hae, h0, hw, hcap, hf, hno⟩ := hL
  obtain ⟨wv, fv, hv'⟩ := hv
  refine mt_mono (c_J2_add K d h e0 a e v n p hd hE.1 (hL'.A (fun i i0 i1 => by obtain ⟨w1, f1, h1⟩ := hel i i0 i1; exact iso_of h1 hr)) hn (iso_of hv' hr) ⟨ne_oo hv' ho h14, ne_oa hv' he⟩ (fun i i0 i1 => by obtain ⟨w1, f1, h1⟩ := hel i i0 i1; exact ⟨ne_oo h1 ho h14, ne_oa h1 he⟩) hz) ?_
  rintro o h' ⟨r1, e1, e2, e', q1, q2, q3, q4, q5, q6⟩
  refine ⟨r1, e1, e2, e', q1, q2, q3, q4.B, fun b hb => ?_⟩
  by_cases hbe : b = e
  · subst hbe
    have : b = e0 := by omega
    subst this
    exact q6 _ hE.2
  · exact q5 b ⟨hb.1, hb.2.1, hbe⟩
/-- a trip q of a service, with n calls: their stops, arrivals, departures -/
def TrpA (K : KT) (h : MH) (e0 : Nat) (sv n : Int) (fs fa fd : Int → Int) (q : Nat) : Prop := ∃ (l e : Nat) (p : Int → Nat), h.2.2 q = some (true, .inr (2, [vi sv, .ref l])) ∧ LsB K h e0 l e n p ∧ ∀ c, 0 ≤ c → c < n → h.2.2 (p c) = some (true, .inr (3, [vi (fs c), vi (fa c), vi (fd c)]))
theorem TrpA.up {K : KT} {h h' : MH} {e0 : Nat} {sv n : Int} {fs fa fd : Int → Int} {q : Nat} (L : TrpA K h e0 sv n fs fa fd q) (e1 : ∀ b c, h.2.2 b = some c → h'.2.2 b = some c) : TrpA K h' e0 sv n fs fa fd q := by
  obtain ⟨l, e, p, h1, h2, h3⟩ := L
  exact ⟨l, e, p, e1 _ _ h1, h2.up e1, fun c a b => e1 _ _ (h3 c a b)⟩
theorem TrpA.cg {K : KT} {h : MH} {e0 : Nat} {sv n : Int} {fs fa fd fs' fa' fd' : Int → Int} {q : Nat} (L : TrpA K h e0 sv n fs fa fd q) (e1 : ∀ c, 0 ≤ c → c < n → fs c = fs' c ∧ fa c = fa' c ∧ fd c = fd' c) : TrpA K h e0 sv n fs' fa' fd' q := by
  obtain ⟨l, e, p, h1, h2, h3⟩ := L
  exact ⟨l, e, p, h1, h2, fun c a b => by { have q := e1 c a b; rw [← q.1, ← q.2.1, ← q.2.2]; exact h3 c a b }⟩
theorem c_X3_last (K : KT) (d : Nat) (h : MH) (e0 : Nat) (sv n : Int) (fs fa fd : Int → Int) (q : Nat) (hd : 3 ≤ d) (hT : TrpA K h e0 sv n fs fa fd q) (hn : 1 ≤ n) : Mt K yiX3_last d [.ref q] h (Rr fun r h' => h = h' ∧ h.2.2 r = some (true, .inr (3, [vi (fs (n - 1)), vi (fa (n - 1)), vi (fd (n - 1))]))) := by
  obtain ⟨l, e, p, hq, ⟨w, cap, mc, f, ho, he, hae, h0, hw, hcap, hf, hno⟩, hp⟩ := hT
  refine mt_ofQ (by decide) (Nat.le_of_ble_eq_true rfl) (fun Q hQ => ?_)
  show MW K yiX3_last d h 0 [some (.ref q)] [] Q
  refine mw_wf (fun hwf => ?_)
  have l_hq := hwf _ _ hq
  have l_ho := hwf _ _ ho
  have l_he := hwf _ _ he
  refine m_aload_n (y := yiX3_last) dX3_last_0 rfl ?_
  refine m_getfS (y := yiX3_last) kc_2 1 (by decide) dX3_last_1 q1144 hq rfl ?_
  refine m_aload_n (y := yiX3_last) dX3_last_4 rfl ?_
  refine m_getfS (y := yiX3_last) kc_2 1 (by decide) dX3_last_5 q1144 hq rfl ?_
  refine m_invV (y := yiX3_last) (rB := (RJ2, TJ2, 3)) [] dX3_last_8 ho rfl q1188 q334 q335 q126 q336 rfl (c_J2_size K 0 h _ _ _ _ ho) pdJ2_size ⟨Nat.le_of_ble_eq_true rfl, by decide, by omega⟩ (kk_z fun r8 h8 q8 => ?_) kx_z
  obtain ⟨rfl, rfl⟩ := q8
  refine mw_top (x' := n) rfl ?_
  refine j_iconst (y := yiX3_last) dX3_last_11 ?_
  refine j_isub (y := yiX3_last) dX3_last_12 ?_
  refine m_invV (y := yiX3_last) (rB := (RJ2, TJ2, 3)) [(vi (n - 1))] dX3_last_13 ho rfl q1189 q1036 q1037 q126 q1038 rfl (c_J2_get K 2 h _ _ _ _ _ _ _ _ _ (by omega) ho he ⟨by omega, by omega⟩ ⟨by omega, by omega⟩ (hf _ (by omega) (by omega))) pdJ2_get ⟨Nat.le_of_ble_eq_true rfl, by decide, by omega⟩ (kk_r fun r13 h13 q13 => ?_) kx_r
  obtain ⟨rfl, rfl⟩ := q13
  have hc : h.2.2 (p (n - 1)) = some (true, .inr (3, [(vi (fs (n - 1))), (vi (fa (n - 1))), (vi (fd (n - 1)))])) := hp _ (by omega) (by omega)
  have l_hc := hwf _ _ hc
  refine m_cast (y := yiX3_last) dX3_last_16 hc rfl q1190 (Or.inl rfl) ?_
  subst hQ; exact m_aret (y := yiX3_last) (x := (some (p (n - 1)))) dX3_last_19 rfl (Or.inl ⟨_, rfl⟩) ⟨(p (n - 1)), rfl, ⟨rfl, hc⟩⟩
theorem c_X3_canShift (K : KT) (d : Nat) (h : MH) (e0 : Nat) (sv n m : Int) (fs fa fd : Int → Int) (q : Nat) (hd : 4 ≤ d) (hT : TrpA K h e0 sv n fs fa fd q) (hn : 1 ≤ n) (hb : -100 ≤ m ∧ m ≤ 100) (ht : ∀ c, 0 ≤ c → c < n → (0 ≤ fa c ∧ fa c ≤ 10000) ∧ (0 ≤ fd c ∧ fd c ≤ 10000)) : Mt K yiX3_canShift d [.ref q, vi m] h (Rz fun r h' => h = h' ∧ bz (0 ≤ fa 0 + m ∧ fd (n - 1) + m < 2880) = r) := by
  have hT' := hT
  have t0 := ht 0 (by omega) (by omega)
  have t1 := ht (n - 1) (by omega) (by omega)
  obtain ⟨l, e, p, hq, ⟨w, cap, mc, f, ho, he, hae, h0, hw, hcap, hf, hno⟩, hp⟩ := hT
  refine mt_ofQ (by decide) (Nat.le_of_ble_eq_true rfl) (fun Q hQ => ?_)
  show MW K yiX3_canShift d h 0 [some (.ref q), some (vi m)] [] Q
  refine mw_wf (fun hwf => ?_)
  have l_hq := hwf _ _ hq
  have l_ho := hwf _ _ ho
  have l_he := hwf _ _ he
  refine m_aload_n (y := yiX3_canShift) dX3_canShift_0 rfl ?_
  refine m_getfS (y := yiX3_canShift) kc_2 1 (by decide) dX3_canShift_1 q1144 hq rfl ?_
  refine j_iconst (y := yiX3_canShift) dX3_canShift_4 ?_
  refine m_invV (y := yiX3_canShift) (rB := (RJ2, TJ2, 3)) [(vi 0)] dX3_canShift_5 ho rfl q1189 q1036 q1037 q126 q1038 rfl (c_J2_get K 2 h _ _ _ _ _ _ _ _ _ (by omega) ho he ⟨by omega, by omega⟩ ⟨by omega, by omega⟩ (hf _ (by omega) (by omega))) pdJ2_get ⟨Nat.le_of_ble_eq_true rfl, by decide, by omega⟩ (kk_r fun r5 h5 q5 => ?_) kx_r
  obtain ⟨rfl, rfl⟩ := q5
  have hc : h.2.2 (p 0) = some (true, .inr (3, [(vi (fs 0)), (vi (fa 0)), (vi (fd 0))])) := hp _ (by omega) (by omega)
  have l_hc := hwf _ _ hc
  refine m_cast (y := yiX3_canShift) dX3_canShift_8 hc rfl q1190 (Or.inl rfl) ?_
  refine m_invV (y := yiX3_canShift) (rB := (RX4, TX4, 3)) [] dX3_canShift_11 hc rfl q1227 q801 q802 q155 q803 rfl (c_X4_arrival (d := 0) hc) pdX4_arrival ⟨Nat.le_of_ble_eq_true rfl, by decide, by omega⟩ (kk_z fun r11 h11 q11 => ?_) kx_z
  obtain ⟨rfl, rfl⟩ := q11
  refine mw_top (x' := (fa 0)) rfl ?_
  refine j_iload_n (y := yiX3_canShift) dX3_canShift_14 rfl ?_
  refine j_iadd (y := yiX3_canShift) dX3_canShift_15 ?_
  refine j_if_lt (y := yiX3_canShift) 38 dX3_canShift_16 (by decide) ⟨by omega, by omega⟩ (fun c16 => ?_) (fun c16 => ?_)
  · refine j_iconst (y := yiX3_canShift) dX3_canShift_38 ?_
    subst hQ; exact j_zret (y := yiX3_canShift) dX3_canShift_39 rfl (by omega) (⟨rfl, by first | exact (bz_t ⟨by omega, by omega⟩).symm | exact (bz_f (by omega)).symm⟩)
  · refine m_aload_n (y := yiX3_canShift) dX3_canShift_19 rfl ?_
    refine m_invV (y := yiX3_canShift) (rB := (RX3, TX3, 2)) [] dX3_canShift_20 hq rfl q1228 q1185 q1186 q153 q1187 rfl (c_X3_last K 3 h e0 sv n fs fa fd q (by omega) hT' hn) pdX3_last ⟨Nat.le_of_ble_eq_true rfl, by decide, by omega⟩ (kk_r fun r20 h20 q20 => ?_) kx_r
    obtain ⟨rfl, e20⟩ := q20
    have e20 : h.2.2 r20 = some (true, .inr (3, [(vi (fs (n - 1))), (vi (fa (n - 1))), (vi (fd (n - 1)))])) := e20
    have l_e20 := hwf _ _ e20
    refine m_invV (y := yiX3_canShift) (rB := (RX4, TX4, 3)) [] dX3_canShift_23 e20 rfl q1229 q805 q806 q155 q807 rfl (c_X4_departure (d := 0) e20) pdX4_departure ⟨Nat.le_of_ble_eq_true rfl, by decide, by omega⟩ (kk_z fun r23 h23 q23 => ?_) kx_z
    obtain ⟨rfl, rfl⟩ := q23
    refine mw_top (x' := (fd (n - 1))) rfl ?_
    refine j_iload_n (y := yiX3_canShift) dX3_canShift_26 rfl ?_
    refine j_iadd (y := yiX3_canShift) dX3_canShift_27 ?_
    refine j_sipush (y := yiX3_canShift) dX3_canShift_28 (by decide) ?_
    refine j_icmp_ge (y := yiX3_canShift) 38 dX3_canShift_31 (by decide) ⟨⟨by omega, by omega⟩, ⟨by omega, by omega⟩⟩ (fun c31 => ?_) (fun c31 => ?_)
    · refine j_iconst (y := yiX3_canShift) dX3_canShift_38 ?_
      subst hQ; exact j_zret (y := yiX3_canShift) dX3_canShift_39 rfl (by omega) (⟨rfl, by first | exact (bz_t ⟨by omega, by omega⟩).symm | exact (bz_f (by omega)).symm⟩)
    · refine j_iconst (y := yiX3_canShift) dX3_canShift_34 ?_
      refine m_goto (y := yiX3_canShift) 39 dX3_canShift_35 (by decide) ?_
      subst hQ; exact j_zret (y := yiX3_canShift) dX3_canShift_39 rfl (by omega) (⟨rfl, by first | exact (bz_t ⟨by omega, by omega⟩).symm | exact (bz_f (by omega)).symm⟩)
theorem c_X4_shifted {K : KT} {d : Nat} {h : MH} {a : Nat} {w : Bool} {v0 v1 v2 : Int} (m : Int) (hd : 3 ≤ d) (ha : h.2.2 a = some (w, .inr (3, [vi v0, vi v1, vi v2]))) (hz : h.1 + 1 ≤ kC K ∧ h.2.1 + 3 ≤ kS K) : Mt K yiX4_shifted d [.ref a, vi m] h (Rr fun r h' => h.1 = r ∧ Hp h h' h.1 (true, .inr (3, [vi v0, vi (v1 + m), vi (v2 + m)])) 1 3) := by
  refine mt_ofQ (by decide) (Nat.le_of_ble_eq_true rfl) (fun Q hQ => ?_)
  show MW K yiX4_shifted d h 0 [some (.ref a), some (vi m)] [] Q
  refine mw_wf (fun hwf => ?_)
  have l_ha := hwf _ _ ha
  refine m_new (y := yiX4_shifted) kc_3 3 dX4_shifted_0 q1245 q1152 q155 _ rfl ⟨by omega, by omega⟩ (hp_new fun g1 g1H => ?_)
  have ha : g1.2.2 a = some (w, .inr (3, [(vi v0), (vi v1), (vi v2)])) := (g1H.2.2.2 _ (by omega)).trans ha
  have fg1 : g1.2.2 h.1 = some (true, .inr (3, [(vi 0), (vi 0), (vi 0)])) := g1H.2.2.1
  have g11 := g1H.1
  have g12 := g1H.2.1
  refine m_dup (y := yiX4_shifted) dX4_shifted_3 rfl ?_
  refine m_aload_n (y := yiX4_shifted) dX4_shifted_4 rfl ?_
  refine m_getfS (y := yiX4_shifted) kc_3 0 (by decide) dX4_shifted_5 q1160 ha rfl ?_
  refine m_aload_n (y := yiX4_shifted) dX4_shifted_8 rfl ?_
  refine m_getfS (y := yiX4_shifted) kc_3 1 (by decide) dX4_shifted_9 q1161 ha rfl ?_
  refine j_iload_n (y := yiX4_shifted) dX4_shifted_12 rfl ?_
  refine j_iadd (y := yiX4_shifted) dX4_shifted_13 ?_
  refine m_aload_n (y := yiX4_shifted) dX4_shifted_14 rfl ?_
  refine m_getfS (y := yiX4_shifted) kc_3 2 (by decide) dX4_shifted_15 q1162 ha rfl ?_
  refine j_iload_n (y := yiX4_shifted) dX4_shifted_18 rfl ?_
  refine j_iadd (y := yiX4_shifted) dX4_shifted_19 ?_
  refine m_invI (y := yiX4_shifted) [(vi v0), (vi (v1 + m)), (vi (v2 + m))] dX4_shifted_20 q1246 q1154 q155 q1155 rfl rfl (c_X4_init v0 (v1 + m) (v2 + m) (d := 2) (by omega) fg1) pdX4_init ⟨Nat.le_of_ble_eq_true rfl, by decide, by omega⟩ (kk_v fun h20 q20 => ?_) kx_v
  obtain q20 := q20
  have y20 := q20.1
  have z20 := q20.2.1
  have fg1 := q20.2.2.1
  have ha : h20.2.2 a = some (w, .inr (3, [(vi v0), (vi v1), (vi v2)])) := (q20.2.2.2 _ (by omega)).trans ha
  refine mw_wf (fun hwf20 => ?_)
  have l_fg120 := hwf20 _ _ fg1
  subst hQ; exact m_aret (y := yiX4_shifted) (x := (some h.1)) dX4_shifted_23 rfl (Or.inl ⟨_, rfl⟩) ⟨h.1, rfl, ⟨rfl, by omega, by omega, fg1, fun b hb => (q20.2.2.2 b hb).trans (g1H.2.2.2 b hb)⟩⟩
theorem c_X3_init (K : KT) (d : Nat) (h : MH) (q e0 : Nat) (s : Int) (hd : 4 ≤ d) (hE : kV K 0 = .ref e0) (hq : h.2.2 q = some (true, .inr (2, [vi 0, .null]))) (hz : h.1 + 1 ≤ kC K ∧ h.2.1 + 3 ≤ kS K) : Mt K yiX3_init d [.ref q, vi s] h (Rv fun h' => h'.1 = h.1 + 1 ∧ h'.2.1 = h.2.1 + 3 ∧ h'.2.2 q = some (true, .inr (2, [vi s, .ref h.1])) ∧ h'.2.2 h.1 = some (true, .inr (14, [vi 0, .ref e0, vi 0])) ∧ ∀ b, (b ≠ q ∧ b ≠ h.1) → h'.2.2 b = h.2.2 b) := by
  refine mt_ofQ (by decide) (Nat.le_of_ble_eq_true rfl) (fun Q hQ => ?_)
  show MW K yiX3_init d h 0 [some (.ref q), some (vi s)] [] Q
  refine mw_wf (fun hwf => ?_)
  have l_hq := hwf _ _ hq
  refine m_aload_n (y := yiX3_init) dX3_init_0 rfl ?_
  refine m_objInit (y := yiX3_init) dX3_init_1 q1139 q195 q196 ⟨Nat.le_of_ble_eq_true rfl, by omega⟩ ?_
  refine m_aload_n (y := yiX3_init) dX3_init_4 rfl ?_
  refine m_new (y := yiX3_init) kc_14 3 dX3_init_5 q1140 q200 q126 _ rfl ⟨by omega, by omega⟩ (hp_new fun g1 g1H => ?_)
  have hq : g1.2.2 q = some (true, .inr (2, [(vi 0), .null])) := (g1H.2.2.2 _ (by omega)).trans hq
  have fg1 : g1.2.2 h.1 = some (true, .inr (14, [(vi 0), .null, (vi 0)])) := g1H.2.2.1
  have g11 := g1H.1
  have g12 := g1H.2.1
  refine m_dup (y := yiX3_init) dX3_init_8 rfl ?_
  refine m_invI (y := yiX3_init) [] dX3_init_9 q1141 q202 q126 q203 rfl rfl (c_J2_init K 3 g1 h.1 e0 (by omega) hE fg1) pdJ2_init ⟨Nat.le_of_ble_eq_true rfl, by decide, by omega⟩ (kk_v fun h9 q9 => ?_) kx_v
  obtain q9 := q9
  have y9 := q9.1
  have z9 := q9.2.1
  have fg1 := q9.2.2.1
  have hq : h9.2.2 q = some (true, .inr (2, [(vi 0), .null])) := (q9.2.2.2 _ (by omega)).trans hq
  refine mw_wf (fun hwf9 => ?_)
  have l_fg19 := hwf9 _ _ fg1
  refine m_putfF (y := yiX3_init) kc_2 1 (by decide) dX3_init_12 q1144 rfl rfl rfl hq rfl rfl (hp_put fun g2 g2H => ?_)
  have fg1 : g2.2.2 h.1 = some (true, .inr (14, [(vi 0), (.ref e0), (vi 0)])) := (g2H.2.2.2 _ (by omega)).trans fg1
  have hq : g2.2.2 q = some (true, .inr (2, [(vi 0), (.ref h.1)])) := g2H.2.2.1
  have g21 := g2H.1
  have g22 := g2H.2.1
  refine m_aload_n (y := yiX3_init) dX3_init_15 rfl ?_
  refine j_iload_n (y := yiX3_init) dX3_init_16 rfl ?_
  refine m_putfF (y := yiX3_init) kc_2 0 (by decide) dX3_init_17 q1142 rfl rfl rfl hq rfl rfl (hp_put fun g3 g3H => ?_)
  have fg1 : g3.2.2 h.1 = some (true, .inr (14, [(vi 0), (.ref e0), (vi 0)])) := (g3H.2.2.2 _ (by omega)).trans fg1
  have hq : g3.2.2 q = some (true, .inr (2, [(vi s), (.ref h.1)])) := g3H.2.2.1
  have g31 := g3H.1
  have g32 := g3H.2.1
  subst hQ; exact j_vret (y := yiX3_init) dX3_init_20 rfl (⟨by omega, by omega, hq, fg1, fun b hb => (g3H.2.2.2 b (by omega)).trans ((g2H.2.2.2 b (by omega)).trans ((q9.2.2.2 b (by omega)).trans (g1H.2.2.2 b (by omega))))⟩)
theorem grC_8 {n : Int} (h : 0 ≤ n ∧ n ≤ 8) : (grC n).toNat ≤ 12 := by unfold grC; (repeat' split) <;> omega
theorem upn_c {P : Int → Nat → Prop} {p : Int → Nat} {i : Int} {v : Nat} (h : ∀ c, 0 ≤ c → c < i → P c (p c)) (hv : P i v) : ∀ c, 0 ≤ c → c < i + 1 → P c (upn p i v c) := by
  intro c c0 c1
  by_cases e : c = i
  · rw [e, upn_at]; exact hv
  · rw [upn_ne e]; exact h c c0 (by omega)
theorem c_X3_shifted (K : KT) (d : Nat) (h : MH) (e0 : Nat) (sv n m : Int) (fs fa fd : Int → Int) (q : Nat) (hd : 7 ≤ d) (hE : E0A K h e0) (hT : TrpA K h e0 sv n fs fa fd q) (hn : n ≤ 8) (hz : h.1 + 40 ≤ kC K ∧ h.2.1 + 200 ≤ kS K) : Mt K yiX3_shifted d [.ref q, vi m] h (Rr fun r h' => (h.1 ≤ h'.1 ∧ h'.1 ≤ h.1 + 40) ∧ (h.2.1 ≤ h'.2.1 ∧ h'.2.1 ≤ h.2.1 + 200) ∧ (∀ b, b < h.1 → h'.2.2 b = h.2.2 b) ∧ TrpA K h' e0 sv n fs (fun c => fa c + m) (fun c => fd c + m) r) := by
  obtain ⟨l, e, p, hq, ⟨w, cap, mc, f, ho, he, hae, h0, hw, hcap, hf, hno⟩, hp⟩ := hT
  have hE1 := hE.1
  have hE2 := hE.2
  refine mt_ofQ (by decide) (Nat.le_of_ble_eq_true rfl) (fun Q hQ => ?_)
  show MW K yiX3_shifted d h 0 [some (.ref q), some (vi m), none, none, none] [] Q
  refine mw_wf (fun hwf => ?_)
  have l_hq := hwf _ _ hq
  have l_ho := hwf _ _ ho
  have l_he := hwf _ _ he
  have l_hE2 := hwf _ _ hE2
  have fR : ∀ b, (b < h.1) → h.2.2 b = h.2.2 b := fun _ _ => rfl
  refine m_new (y := yiX3_shifted) kc_2 2 dX3_shifted_0 q1234 q1135 q153 _ rfl ⟨by omega, by omega⟩ (hp_new fun g1 g1H => ?_)
  have hq : g1.2.2 q = some (true, .inr (2, [(vi sv), (.ref l)])) := (g1H.2.2.2 _ (by omega)).trans hq
  have ho : g1.2.2 l = some (true, .inr (14, [(vi mc), (.ref e), (vi n)])) := (g1H.2.2.2 _ (by omega)).trans ho
  have he : g1.2.2 e = some (w, oaE K cap f) := (g1H.2.2.2 _ (by omega)).trans he
  have hE2 : g1.2.2 e0 = some (false, oaE K 0 (fun _ => none)) := (g1H.2.2.2 _ (by omega)).trans hE2
  have fR : ∀ b, (b < h.1) → g1.2.2 b = h.2.2 b := fun b hb => (g1H.2.2.2 b (by omega)).trans (fR b hb)
  have fg1 : g1.2.2 h.1 = some (true, .inr (2, [(vi 0), .null])) := g1H.2.2.1
  have g11 := g1H.1
  have g12 := g1H.2.1
  refine m_dup (y := yiX3_shifted) dX3_shifted_3 rfl ?_
  refine m_aload_n (y := yiX3_shifted) dX3_shifted_4 rfl ?_
  refine m_getfS (y := yiX3_shifted) kc_2 0 (by decide) dX3_shifted_5 q1142 hq rfl ?_
  refine m_invI (y := yiX3_shifted) [(vi sv)] dX3_shifted_8 q1235 q1137 q153 q1138 rfl rfl (c_X3_init K 4 g1 h.1 e0 sv (by omega) hE1 fg1 ⟨by omega, by omega⟩) pdX3_init ⟨Nat.le_of_ble_eq_true rfl, by decide, by omega⟩ (kk_v fun h8 q8 => ?_) kx_v
  obtain ⟨y8, z8, t8, u8, v8⟩ := q8
  have hq : h8.2.2 q = some (true, .inr (2, [(vi sv), (.ref l)])) := (v8 _ (by omega)).trans hq
  have ho : h8.2.2 l = some (true, .inr (14, [(vi mc), (.ref e), (vi n)])) := (v8 _ (by omega)).trans ho
  have he : h8.2.2 e = some (w, oaE K cap f) := (v8 _ (by omega)).trans he
  have hE2 : h8.2.2 e0 = some (false, oaE K 0 (fun _ => none)) := (v8 _ (by omega)).trans hE2
  have fR : ∀ b, (b < h.1) → h8.2.2 b = h.2.2 b := fun b hb => (v8 b (by omega)).trans (fR b hb)
  refine mw_wf (fun hwf8 => ?_)
  have l_t88 := hwf8 _ _ t8
  have l_u88 := hwf8 _ _ u8
  refine m_astore_n (y := yiX3_shifted) dX3_shifted_11 (by decide) rfl ?_
  show MW K yiX3_shifted d h8 12 [some (.ref q), some (vi m), some (.ref h.1), none, none] [] Q
  refine m_aload_n (y := yiX3_shifted) dX3_shifted_12 rfl ?_
  refine m_getfS (y := yiX3_shifted) kc_2 1 (by decide) dX3_shifted_13 q1144 hq rfl ?_
  refine m_invV (y := yiX3_shifted) (rB := (RJ2, TJ2, 3)) [] dX3_shifted_16 ho rfl q1236 q717 q718 q126 q719 rfl (c_J2_iterator K 2 h8 _ _ _ _ (by omega) ho ⟨by omega, by omega⟩) pdJ2_iterator ⟨Nat.le_of_ble_eq_true rfl, by decide, by omega⟩ (kk_r fun r16 h16 q16 => ?_) kx_r
  obtain ⟨rfl, q16⟩ := q16
  have y16 := q16.1
  have z16 := q16.2.1
  have it16 := q16.2.2.1
  have hq : h16.2.2 q = some (true, .inr (2, [(vi sv), (.ref l)])) := (q16.2.2.2 _ (by omega)).trans hq
  have ho : h16.2.2 l = some (true, .inr (14, [(vi mc), (.ref e), (vi n)])) := (q16.2.2.2 _ (by omega)).trans ho
  have he : h16.2.2 e = some (w, oaE K cap f) := (q16.2.2.2 _ (by omega)).trans he
  have hE2 : h16.2.2 e0 = some (false, oaE K 0 (fun _ => none)) := (q16.2.2.2 _ (by omega)).trans hE2
  have t8 : h16.2.2 h.1 = some (true, .inr (2, [(vi sv), (.ref g1.1)])) := (q16.2.2.2 _ (by omega)).trans t8
  have u8 : h16.2.2 g1.1 = some (true, .inr (14, [(vi 0), (.ref e0), (vi 0)])) := (q16.2.2.2 _ (by omega)).trans u8
  have fR : ∀ b, (b < h.1) → h16.2.2 b = h.2.2 b := fun b hb => (q16.2.2.2 b (by omega)).trans (fR b hb)
  refine mw_wf (fun hwf16 => ?_)
  have l_it1616 := hwf16 _ _ it16
  refine m_astore_n (y := yiX3_shifted) dX3_shifted_19 (by decide) rfl ?_
  show MW K yiX3_shifted d h16 20 [some (.ref q), some (vi m), some (.ref h.1), some (.ref h8.1), none] [] Q
  have L20 : ∀ (N : Nat) (i lr : Int) (e2 : Nat) (p2 : Int → Nat) (g : MH), (n - i).toNat = N → (g.2.2 q = some (true, .inr (2, [(vi sv), (.ref l)]))) → (g.2.2 l = some (true, .inr (14, [(vi mc), (.ref e), (vi n)]))) → (g.2.2 e = some (w, oaE K cap f)) → (g.2.2 e0 = some (false, oaE K 0 (fun _ => none))) → (g.2.2 h.1 = some (true, .inr (2, [(vi sv), (.ref g1.1)]))) → (g.2.2 h8.1 = some (true, .inr (15, [(vi i), (vi lr), (vi mc), (.ref l)]))) → (∀ b, (b < h.1) → g.2.2 b = h.2.2 b) → (0 ≤ i ∧ i ≤ n) → (LsB K g e0 g1.1 e2 i p2) → (e2 = e0 ∨ (h8.1 < e2)) → (∀ c, 0 ≤ c → c < i → g.2.2 (p2 c) = some (true, .inr (3, [vi (fs c), vi (fa c + m), vi (fd c + m)]))) → (h8.1 + 1 ≤ g.1 ∧ (g.1 : Int) ≤ h8.1 + 1 + 2 * i) → (h8.2.1 + 4 ≤ g.2.1 ∧ (g.2.1 : Int) ≤ h8.2.1 + 4 + 15 * i) → MW K yiX3_shifted d g 20 [some (.ref q), some (vi m), some (.ref h.1), some (.ref h8.1), none] [] Q := by
    intro N
    induction N using Nat.strongRecOn with
    | _ N ih20 =>
    intro i lr e2 p2 g hN20 hq ho he hE2 t8 it16 fR hi hL2 hE3 hel hc hs
    refine mw_wf (fun hwf20 => ?_)
    have l_hq20 := hwf20 _ _ hq
    have l_ho20 := hwf20 _ _ ho
    have l_he20 := hwf20 _ _ he
    have l_hE220 := hwf20 _ _ hE2
    have l_t820 := hwf20 _ _ t8
    have l_it1620 := hwf20 _ _ it16
    obtain ⟨w2, cap2, mc2, f2, ho2, he2, hae2, h02, hw2, hcap2, hf2, hno2⟩ := hL2
    have itg := it16
    have l_he2 := hwf20 _ _ he2
    have ho2 : g.2.2 g1.1 = some (true, .inr (14, [(vi mc2), (.ref e2), (vi i)])) := ho2
    have l_ho2 := hwf20 _ _ ho2
    refine m_aload_n (y := yiX3_shifted) dX3_shifted_20 rfl ?_
    refine m_invF (y := yiX3_shifted) (rB := (RJ28, TJ28, 4)) [] dX3_shifted_21 it16 rfl q1238 q746 q745 rfl q748 q750 q751 q749 q747 q156 q752 ⟨by decide, by decide⟩ (by show _ = some 0; decide +kernel) (c_J28_hasNext K 0 g _ _ _ _ _ _ _ it16 ho ⟨by omega, by omega, by omega⟩) pdJ28_hasNext ⟨Nat.le_of_ble_eq_true rfl, by decide, by omega⟩ (kk_z fun r21 h21 q21 => ?_) kx_z
    obtain ⟨rfl, rfl⟩ := q21
    refine mw_top (x' := bz (i ≠ n)) rfl ?_
    refine j_bz_eq (y := yiX3_shifted) 57 dX3_shifted_26 (by decide) (fun c26 => ?_) (fun c26 => ?_)
    · have hin : i = n := by omega
      subst hin
      refine m_aload_n (y := yiX3_shifted) dX3_shifted_57 rfl ?_
      subst hQ; exact m_aret (y := yiX3_shifted) (x := (some h.1)) dX3_shifted_58 rfl (Or.inl ⟨_, rfl⟩) ⟨h.1, rfl, ⟨by omega, by omega, fR, g1.1, e2, p2, t8, ⟨w2, cap2, mc2, f2, ho2, he2, hae2, h02, hw2, hcap2, hf2, hno2⟩, fun c a b => hel c a (by omega)⟩⟩
    · refine m_aload_n (y := yiX3_shifted) dX3_shifted_29 rfl ?_
      refine m_invF (y := yiX3_shifted) (rB := (RJ28, TJ28, 4)) [] dX3_shifted_30 it16 rfl q1240 q759 q758 rfl q760 q762 q763 q761 q747 q156 q764 ⟨by decide, by decide⟩ (by show _ = some 0; decide +kernel) (c_J28_next K 1 g _ _ _ _ _ _ _ _ _ _ _ (by omega) it16 ho he ⟨by omega, by omega, by omega⟩ ⟨by omega, by omega, by omega, by omega⟩ (hf _ (by omega) (by omega))) pdJ28_next ⟨Nat.le_of_ble_eq_true rfl, by decide, by omega⟩ (kk_r fun r30 h30 q30 => ?_) kx_r
      obtain ⟨rfl, q30⟩ := q30
      have y30 := q30.1
      have z30 := q30.2.1
      have it16 := q30.2.2.1
      have hq : h30.2.2 q = some (true, .inr (2, [(vi sv), (.ref l)])) := (q30.2.2.2 _ (by omega)).trans hq
      have ho : h30.2.2 l = some (true, .inr (14, [(vi mc), (.ref e), (vi n)])) := (q30.2.2.2 _ (by omega)).trans ho
      have he : h30.2.2 e = some (w, oaE K cap f) := (q30.2.2.2 _ (by omega)).trans he
      have hE2 : h30.2.2 e0 = some (false, oaE K 0 (fun _ => none)) := (q30.2.2.2 _ (by omega)).trans hE2
      have t8 : h30.2.2 h.1 = some (true, .inr (2, [(vi sv), (.ref g1.1)])) := (q30.2.2.2 _ (by omega)).trans t8
      have ho2 : h30.2.2 g1.1 = some (true, .inr (14, [(vi mc2), (.ref e2), (vi i)])) := (q30.2.2.2 _ (by omega)).trans ho2
      have fR : ∀ b, (b < h.1) → h30.2.2 b = h.2.2 b := fun b hb => (q30.2.2.2 b (by omega)).trans (fR b hb)
      refine mw_wf (fun hwf30 => ?_)
      have l_it1630 := hwf30 _ _ it16
      have lpi := hwf _ _ (hp i (by omega) (by omega))
      have hcl : h30.2.2 (p i) = some (true, .inr (3, [(vi (fs i)), (vi (fa i)), (vi (fd i))])) := (fR _ (hwf _ _ (hp i (by omega) (by omega)))).trans (hp i (by omega) (by omega))
      have l_hcl := hwf30 _ _ hcl
      refine m_cast (y := yiX3_shifted) dX3_shifted_35 hcl rfl q1190 (Or.inl rfl) ?_
      refine m_astore (y := yiX3_shifted) dX3_shifted_38 (by decide) rfl ?_
      show MW K yiX3_shifted d h30 40 [some (.ref q), some (vi m), some (.ref h.1), some (.ref h8.1), some (.ref (p i))] [] Q
      refine m_aload_n (y := yiX3_shifted) dX3_shifted_40 rfl ?_
      refine m_getfS (y := yiX3_shifted) kc_2 1 (by decide) dX3_shifted_41 q1144 t8 rfl ?_
      refine m_aload (y := yiX3_shifted) dX3_shifted_44 rfl ?_
      refine j_iload_n (y := yiX3_shifted) dX3_shifted_46 rfl ?_
      refine m_invV (y := yiX3_shifted) (rB := (RX4, TX4, 3)) [(vi m)] dX3_shifted_47 hcl rfl q1241 q1242 q1243 q155 q1244 rfl (c_X4_shifted (d := 3) m (by omega) hcl ⟨by omega, by omega⟩) pdX4_shifted ⟨Nat.le_of_ble_eq_true rfl, by decide, by omega⟩ (kk_r fun r47 h47 q47 => ?_) kx_r
      obtain ⟨rfl, q47⟩ := q47
      have hcn := q47.2.2.1
      have y47 := q47.1
      have z47 := q47.2.1
      have hq : h47.2.2 q = some (true, .inr (2, [(vi sv), (.ref l)])) := (q47.2.2.2 _ (by omega)).trans hq
      have ho : h47.2.2 l = some (true, .inr (14, [(vi mc), (.ref e), (vi n)])) := (q47.2.2.2 _ (by omega)).trans ho
      have he : h47.2.2 e = some (w, oaE K cap f) := (q47.2.2.2 _ (by omega)).trans he
      have hE2 : h47.2.2 e0 = some (false, oaE K 0 (fun _ => none)) := (q47.2.2.2 _ (by omega)).trans hE2
      have t8 : h47.2.2 h.1 = some (true, .inr (2, [(vi sv), (.ref g1.1)])) := (q47.2.2.2 _ (by omega)).trans t8
      have it16 : h47.2.2 h8.1 = some (true, .inr (15, [(vi (i + 1)), (vi i), (vi mc), (.ref l)])) := (q47.2.2.2 _ (by omega)).trans it16
      have ho2 : h47.2.2 g1.1 = some (true, .inr (14, [(vi mc2), (.ref e2), (vi i)])) := (q47.2.2.2 _ (by omega)).trans ho2
      have hcl : h47.2.2 (p i) = some (true, .inr (3, [(vi (fs i)), (vi (fa i)), (vi (fd i))])) := (q47.2.2.2 _ (by omega)).trans hcl
      have fR : ∀ b, (b < h.1) → h47.2.2 b = h.2.2 b := fun b hb => (q47.2.2.2 b (by omega)).trans (fR b hb)
      refine mw_wf (fun hwf47 => ?_)
      have l_hcn47 := hwf47 _ _ hcn
      have hel9 : ∀ c, 0 ≤ c → c < i → h47.2.2 (p2 c) = some (true, .inr (3, [vi (fs c), vi (fa c + m), vi (fd c + m)])) := fun c a b => (q47.2.2.2 _ (by have := hwf30 _ _ ((q30.2.2.2 _ (ne_oo (hel c a b) itg (by decide))).trans (hel c a b)); omega)).trans ((q30.2.2.2 _ (ne_oo (hel c a b) itg (by decide))).trans (hel c a b))
      refine m_invV (y := yiX3_shifted) (rB := (RJ2, TJ2, 3)) [(.ref h30.1)] dX3_shifted_50 ho2 rfl q1247 q954 q955 q126 q956 rfl (c_Ladd K 6 h47 e0 g1.1 e2 h30.1 i p2 3 (r := _) (by omega) ⟨hE1, hE2⟩ ⟨w2, cap2, mc2, f2, ho2, (q47.2.2.2 _ (by omega)).trans ((q30.2.2.2 _ (by omega)).trans he2), hae2, h02, hw2, hcap2, hf2, hno2⟩ (by omega) rfl (by decide) ⟨_, _, hcn⟩ (fun c a b => ⟨_, _, hel9 c a b⟩) ⟨by omega, by have := grC_8 (n := i) (by omega); omega⟩) pdJ2_add ⟨Nat.le_of_ble_eq_true rfl, by decide, by omega⟩ (kk_z fun r50 h50 q50 => ?_) kx_z
      obtain ⟨rfl, e5, p1, p2', p3, p4, p5⟩ := q50
      have gr5 := grC_8 (n := i) (by omega)
      have hq : h50.2.2 q = some (true, .inr (2, [(vi sv), (.ref l)])) := (p5 _ (by omega)).trans hq
      have ho : h50.2.2 l = some (true, .inr (14, [(vi mc), (.ref e), (vi n)])) := (p5 _ (by omega)).trans ho
      have he : h50.2.2 e = some (w, oaE K cap f) := (p5 _ (by omega)).trans he
      have hE2 : h50.2.2 e0 = some (false, oaE K 0 (fun _ => none)) := (p5 _ (by omega)).trans hE2
      have t8 : h50.2.2 h.1 = some (true, .inr (2, [(vi sv), (.ref g1.1)])) := (p5 _ (by omega)).trans t8
      have it16 : h50.2.2 h8.1 = some (true, .inr (15, [(vi (i + 1)), (vi i), (vi mc), (.ref l)])) := (p5 _ (by omega)).trans it16
      have hcl : h50.2.2 (p i) = some (true, .inr (3, [(vi (fs i)), (vi (fa i)), (vi (fd i))])) := (p5 _ (by omega)).trans hcl
      have hcn : h50.2.2 h30.1 = some (true, .inr (3, [(vi (fs i)), (vi (fa i + m)), (vi (fd i + m))])) := (p5 _ (by omega)).trans hcn
      have fR : ∀ b, (b < h.1) → h50.2.2 b = h.2.2 b := fun b hb => (p5 b (by omega)).trans (fR b hb)
      refine mw_wf (fun hwf50 => ?_)
      refine m_pop (y := yiX3_shifted) dX3_shifted_53 rfl ?_
      refine m_goto (y := yiX3_shifted) 20 dX3_shifted_54 (by decide) ?_
      refine mw_forget 4 ?_
      exact ih20 _ (by omega) _ _ _ _ _ rfl hq ho he hE2 t8 it16 fR (by omega) p4 (by omega) (upn_c (P := fun c x => h50.2.2 x = some (true, .inr (3, [vi (fs c), vi (fa c + m), vi (fd c + m)]))) (fun c a b => (p5 _ ⟨by have := hwf47 _ _ (hel9 c a b); omega, ne_oo (hel9 c a b) ho2 (by decide), Or.inl (ne_oa (hel9 c a b) ((q47.2.2.2 _ (by omega)).trans ((q30.2.2.2 _ (by omega)).trans he2)))⟩).trans (hel9 c a b)) hcn) (⟨by omega, by omega⟩) (⟨by omega, by omega⟩)
  exact L20 _ _ _ _ (fun _ => 0) _ rfl hq ho he hE2 t8 it16 fR (by omega) (⟨false, 0, 0, _, u8, hE2, fun h9 => by omega, fun _ => rfl, fun h9 => absurd rfl h9, ⟨by omega, by omega, by omega⟩, (fun c a b => by omega), fun c _ => rfl⟩) (Or.inl rfl) (fun c a b => by omega) (⟨by omega, by omega⟩) (⟨by omega, by omega⟩)
