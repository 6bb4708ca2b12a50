/-! java.util.PriorityQueue: add, remove -/
section PQ2
variable {K : KT} {d : Nat} {h : MH} {q e : Nat} {n : Int} {p : Int → Nat} {mi rk : Nat → Int}
/-- all of the queue's places, apart from its own cells -/
def PlAll (h : MH) (q e : Nat) (mi rk : Nat → Int) (n : Int) (p : Int → Nat) : Prop := ∀ i, 0 ≤ i → i < n → PlC (exc q e h) (mi (p i)) (rk (p i)) (p i) ∧ PlB (mi (p i)) (rk (p i))
theorem exc_up {a b c e : Nat} {h : MH} (h1 : ∀ q, q ≠ a → q ≠ b → q ≠ c ∧ q ≠ e) : ∀ q x, (exc a b h).2.2 q = some x → (exc c e h).2.2 q = some x := fun q x e9 => by
  have u := exc_at e9
  exact exc_mk u.1 (h1 q u.2.1 u.2.2).1 (h1 q u.2.1 u.2.2).2
theorem grF_at {f : Int → Option Nat} {cap : Nat} {i : Int} (h : 0 ≤ i ∧ i < (cap : Int)) : grF f cap i = f i := by
  unfold grF; rw [if_pos (by omega)]
theorem grF_no {f : Int → Option Nat} {cap : Nat} {i : Int} (h : (cap : Int) ≤ i) : grF f cap i = none := by
  unfold grF; rw [if_neg (by omega)]
theorem c_J40_grow {cap : Nat} {f : Int → Option Nat} {mc : Int} (m : Int) (hd : 3 ≤ d) (hq : h.2.2 q = some (true, .inr (24, [.ref e, vi n, .null, vi mc]))) (he : h.2.2 e = some (true, oaE K cap f)) (hcap : 1 ≤ cap ∧ cap ≤ 9000) (hm : m = (cap : Int) + 1) (hel : ∀ i, 0 ≤ i → i < (cap : Int) → ∀ v, f i = some v → IsO h v) (hz : h.1 + 1 ≤ kC K ∧ h.2.1 + 20000 ≤ kS K) : Mt K yiJ40_grow d [.ref q, vi m] h (Rv fun h' => ∃ cap', (cap < cap' ∧ cap' ≤ 2 * cap + 2) ∧ h'.2.2 q = some (true, .inr (24, [.ref h.1, vi n, .null, vi mc])) ∧ h'.2.2 h.1 = some (true, oaE K cap' (grF f cap)) ∧ h'.1 = h.1 + 1 ∧ h'.2.1 = h.2.1 + cap' ∧ ∀ b, (b < h.1 ∧ b ≠ q) → h'.2.2 b = h.2.2 b) := by
  have hne : q ≠ e := ne_oa hq he
  subst hm
  refine mt_ofQ (by decide) (Nat.le_of_ble_eq_true rfl) (fun Q hQ => ?_)
  show MW K yiJ40_grow d h 0 [some (.ref q), some (vi ((cap : Int) + 1)), none, none] [] Q
  refine mw_wf (fun hwf => ?_)
  have l_hq := hwf _ _ hq
  have l_he := hwf _ _ he
  refine m_aload_n (y := yiJ40_grow) dJ40_grow_0 rfl ?_
  refine m_getfS (y := yiJ40_grow) kc_24 0 (by decide) dJ40_grow_1 q2191 hq rfl ?_
  refine h_alen (y := yiJ40_grow) 5 (by decide) dJ40_grow_4 he ?_
  refine j_istore_n (y := yiJ40_grow) [some (.ref q), some (vi ((cap : Int) + 1)), some (vi ((cap : Nat) : Int)), none] dJ40_grow_5 (by decide) rfl rfl ?_
  refine j_iload_n (y := yiJ40_grow) dJ40_grow_6 rfl ?_
  refine j_iload_n (y := yiJ40_grow) dJ40_grow_7 rfl ?_
  refine j_iload_n (y := yiJ40_grow) dJ40_grow_8 rfl ?_
  refine j_isub (y := yiJ40_grow) dJ40_grow_9 ?_
  refine j_iload_n (y := yiJ40_grow) dJ40_grow_10 rfl ?_
  refine j_bipush (y := yiJ40_grow) dJ40_grow_11 (by decide) ?_
  refine j_icmp_ge (y := yiJ40_grow) 22 dJ40_grow_13 (by decide) ⟨⟨by omega, by omega⟩, ⟨by omega, by omega⟩⟩ (fun c13 => ?_) (fun c13 => ?_)
  · refine j_iload_n (y := yiJ40_grow) dJ40_grow_22 rfl ?_
    refine j_iconst (y := yiJ40_grow) dJ40_grow_23 ?_
    refine j_ishr (y := yiJ40_grow) dJ40_grow_24 ⟨by omega, by omega⟩ ⟨by decide, by decide⟩ ?_
    show MW K yiJ40_grow d h 25 [some (.ref q), some (vi ((cap : Int) + 1)), some (vi ((cap : Nat) : Int)), none] [(vi (((cap : Nat) : Int) / 2)), (vi (((cap : Int) + 1) - ((cap : Nat) : Int))), (vi ((cap : Nat) : Int))] Q
    refine m_invS (y := yiJ40_grow) [(vi ((cap : Nat) : Int)), (vi (((cap : Int) + 1) - ((cap : Nat) : Int))), (vi (((cap : Nat) : Int) / 2))] dJ40_grow_25 q2238 q383 q144 q384 (c_J19_newLength K 1 h ((cap : Nat) : Int) (((cap : Int) + 1) - ((cap : Nat) : Int)) (((cap : Nat) : Int) / 2) (by omega) ⟨by omega, by omega⟩ ⟨by omega, by omega⟩ ⟨by omega, by omega⟩ (by omega)) pdJ19_newLength ⟨Nat.le_of_ble_eq_true rfl, by decide, by omega⟩ (kk_z fun r25 h25 q25 => ?_) kx_z
    obtain ⟨rfl, e25⟩ := q25
    have hr25 : (cap : Int) < r25 ∧ r25 ≤ 2 * (cap : Int) + 2 := by { rw [← e25]; split <;> omega }
    refine j_istore_n (y := yiJ40_grow) [some (.ref q), some (vi ((cap : Int) + 1)), some (vi ((cap : Nat) : Int)), some (vi r25)] dJ40_grow_28 (by decide) rfl rfl ?_
    refine m_aload_n (y := yiJ40_grow) dJ40_grow_29 rfl ?_
    refine m_aload_n (y := yiJ40_grow) dJ40_grow_30 rfl ?_
    refine m_getfS (y := yiJ40_grow) kc_24 0 (by decide) dJ40_grow_31 q2191 hq rfl ?_
    refine j_iload_n (y := yiJ40_grow) dJ40_grow_34 rfl ?_
    refine m_invS (y := yiJ40_grow) [(.ref e), (vi r25)] dJ40_grow_35 q2239 q971 q145 q972 (c_J20_copyOf_2 K 2 h e cap true f r25 (by omega) he ⟨by omega, by omega⟩ hel ⟨by omega, by omega⟩) pdJ20_copyOf_2 ⟨Nat.le_of_ble_eq_true rfl, by decide, by omega⟩ (kk_r fun r35 h35 q35 => ?_) kx_r
    obtain ⟨rfl, q35⟩ := q35
    have y35 := q35.1
    have z35 := q35.2.1
    have hn35 := q35.2.2.1
    have hq : h35.2.2 q = some (true, .inr (24, [(.ref e), (vi n), .null, (vi mc)])) := (q35.2.2.2 _ (by omega)).trans hq
    have he : h35.2.2 e = some (true, oaE K cap f) := (q35.2.2.2 _ (by omega)).trans he
    refine mw_wf (fun hwf35 => ?_)
    have l_hn3535 := hwf35 _ _ hn35
    refine m_putfS (y := yiJ40_grow) kc_24 0 (by decide) dJ40_grow_38 q2191 rfl hq rfl rfl (hp_put fun g1 g1H => ?_)
    have he : g1.2.2 e = some (true, oaE K cap f) := (g1H.2.2.2 _ (by omega)).trans he
    have hn35 : g1.2.2 h.1 = some (true, oaE K r25.toNat (grF f cap)) := (g1H.2.2.2 _ (by omega)).trans hn35
    have hq : g1.2.2 q = some (true, .inr (24, [(.ref h.1), (vi n), .null, (vi mc)])) := g1H.2.2.1
    have g11 := g1H.1
    have g12 := g1H.2.1
    subst hQ; exact j_vret (y := yiJ40_grow) dJ40_grow_41 rfl (⟨r25.toNat, by omega, hq, hn35, by omega, by omega, fun b hb => (g1H.2.2.2 b hb.2).trans (q35.2.2.2 b (by omega))⟩)
  · refine j_iload_n (y := yiJ40_grow) dJ40_grow_16 rfl ?_
    refine j_iconst (y := yiJ40_grow) dJ40_grow_17 ?_
    refine j_iadd (y := yiJ40_grow) dJ40_grow_18 ?_
    refine m_goto (y := yiJ40_grow) 25 dJ40_grow_19 (by decide) ?_
    refine m_invS (y := yiJ40_grow) [(vi ((cap : Nat) : Int)), (vi (((cap : Int) + 1) - ((cap : Nat) : Int))), (vi (((cap : Nat) : Int) + 2))] dJ40_grow_25 q2238 q383 q144 q384 (c_J19_newLength K 1 h ((cap : Nat) : Int) (((cap : Int) + 1) - ((cap : Nat) : Int)) (((cap : Nat) : Int) + 2) (by omega) ⟨by omega, by omega⟩ ⟨by omega, by omega⟩ ⟨by omega, by omega⟩ (by omega)) pdJ19_newLength ⟨Nat.le_of_ble_eq_true rfl, by decide, by omega⟩ (kk_z fun r25 h25 q25 => ?_) kx_z
    obtain ⟨rfl, e25⟩ := q25
    have hr25 : (cap : Int) < r25 ∧ r25 ≤ 2 * (cap : Int) + 2 := by { rw [← e25]; split <;> omega }
    refine j_istore_n (y := yiJ40_grow) [some (.ref q), some (vi ((cap : Int) + 1)), some (vi ((cap : Nat) : Int)), some (vi r25)] dJ40_grow_28 (by decide) rfl rfl ?_
    refine m_aload_n (y := yiJ40_grow) dJ40_grow_29 rfl ?_
    refine m_aload_n (y := yiJ40_grow) dJ40_grow_30 rfl ?_
    refine m_getfS (y := yiJ40_grow) kc_24 0 (by decide) dJ40_grow_31 q2191 hq rfl ?_
    refine j_iload_n (y := yiJ40_grow) dJ40_grow_34 rfl ?_
    refine m_invS (y := yiJ40_grow) [(.ref e), (vi r25)] dJ40_grow_35 q2239 q971 q145 q972 (c_J20_copyOf_2 K 2 h e cap true f r25 (by omega) he ⟨by omega, by omega⟩ hel ⟨by omega, by omega⟩) pdJ20_copyOf_2 ⟨Nat.le_of_ble_eq_true rfl, by decide, by omega⟩ (kk_r fun r35 h35 q35 => ?_) kx_r
    obtain ⟨rfl, q35⟩ := q35
    have y35 := q35.1
    have z35 := q35.2.1
    have hn35 := q35.2.2.1
    have hq : h35.2.2 q = some (true, .inr (24, [(.ref e), (vi n), .null, (vi mc)])) := (q35.2.2.2 _ (by omega)).trans hq
    have he : h35.2.2 e = some (true, oaE K cap f) := (q35.2.2.2 _ (by omega)).trans he
    refine mw_wf (fun hwf35 => ?_)
    have l_hn3535 := hwf35 _ _ hn35
    refine m_putfS (y := yiJ40_grow) kc_24 0 (by decide) dJ40_grow_38 q2191 rfl hq rfl rfl (hp_put fun g2 g2H => ?_)
    have he : g2.2.2 e = some (true, oaE K cap f) := (g2H.2.2.2 _ (by omega)).trans he
    have hn35 : g2.2.2 h.1 = some (true, oaE K r25.toNat (grF f cap)) := (g2H.2.2.2 _ (by omega)).trans hn35
    have hq : g2.2.2 q = some (true, .inr (24, [(.ref h.1), (vi n), .null, (vi mc)])) := g2H.2.2.1
    have g21 := g2H.1
    have g22 := g2H.2.1
    subst hQ; exact j_vret (y := yiJ40_grow) dJ40_grow_41 rfl (⟨r25.toNat, by omega, hq, hn35, by omega, by omega, fun b hb => (g2H.2.2.2 b hb.2).trans (q35.2.2.2 b (by omega))⟩)
theorem c_J40_siftUp {cap : Nat} {f : Int → Option Nat} {mc : Int} (k : Int) (x : Nat) (hd : 4 ≤ d) (hq : h.2.2 q = some (true, .inr (24, [.ref e, vi n, .null, vi mc]))) (he : h.2.2 e = some (true, oaE K cap f)) (hcap : cap ≤ 100000) (hk : 0 ≤ k ∧ k < (cap : Int)) (hf : ∀ i, 0 ≤ i → i < k → f i = some (p i)) (hp : ∀ i, 0 ≤ i → i < k → PlC (exc e e h) (mi (p i)) (rk (p i)) (p i) ∧ PlB (mi (p i)) (rk (p i))) (hx : PlC (exc e e h) (mi x) (rk x) x ∧ PlB (mi x) (rk x)) (hO : HOk (kyP mi rk) k p) : Mt K yiJ40_siftUp d [.ref q, vi k, .ref x] h (Rv fun h' => ∃ f' p', h'.2.2 e = some (true, oaE K cap f') ∧ (∀ i, 0 ≤ i → i < k + 1 → f' i = some (p' i)) ∧ (∀ i, k < i → f' i = f i) ∧ HOk (kyP mi rk) (k + 1) p' ∧ (∀ a, (∃ i, 0 ≤ i ∧ i < k + 1 ∧ p' i = a) ↔ (a = x ∨ ∃ i, 0 ≤ i ∧ i < k ∧ p i = a)) ∧ h'.1 = h.1 ∧ h'.2.1 = h.2.1 ∧ ∀ b, b ≠ e → h'.2.2 b = h.2.2 b) := by
  have hne : q ≠ e := ne_oa hq he
  refine mt_ofQ (by decide) (Nat.le_of_ble_eq_true rfl) (fun Q hQ => ?_)
  show MW K yiJ40_siftUp d h 0 [some (.ref q), some (vi k), some (.ref x)] [] Q
  refine mw_wf (fun hwf => ?_)
  have l_hq := hwf _ _ hq
  refine m_aload_n (y := yiJ40_siftUp) dJ40_siftUp_0 rfl ?_
  refine m_getfS (y := yiJ40_siftUp) kc_24 2 (by decide) dJ40_siftUp_1 q2193 hq rfl ?_
  refine m_ifnull (y := yiJ40_siftUp) (x := none) 23 dJ40_siftUp_4 (by decide) (fun _ => ?_) (fun _ h9 => nomatch h9)
  refine j_iload_n (y := yiJ40_siftUp) dJ40_siftUp_23 rfl ?_
  refine m_aload_n (y := yiJ40_siftUp) dJ40_siftUp_24 rfl ?_
  refine m_aload_n (y := yiJ40_siftUp) dJ40_siftUp_25 rfl ?_
  refine m_getfS (y := yiJ40_siftUp) kc_24 0 (by decide) dJ40_siftUp_26 q2191 hq rfl ?_
  refine m_invS (y := yiJ40_siftUp) [(vi k), (.ref x), (.ref e)] dJ40_siftUp_29 q2249 q2250 q177 q2251 (c_J40_siftUpC (d := 3) k x p (by omega) he hcap hk hf hp hx hO) pdJ40_siftUpComparable ⟨Nat.le_of_ble_eq_true rfl, by decide, by omega⟩ (kk_v fun h29 q29 => ?_) kx_v
  obtain ⟨f', p', s1, s2, s3, s4, s5, s6, s7, s8⟩ := q29
  have hq : h29.2.2 q = some (true, .inr (24, [(.ref e), (vi n), .null, (vi mc)])) := (s8 _ (by omega)).trans hq
  refine mw_wf (fun hwf29 => ?_)
  subst hQ; exact j_vret (y := yiJ40_siftUp) dJ40_siftUp_32 rfl (⟨f', p', s1, s2, s3, s4, s5, s6, s7, s8⟩)
/-- behind an add -/
def PqQ (K : KT) (h h' : MH) (q e x : Nat) (n : Int) (p : Int → Nat) (mi rk : Nat → Int) : Prop := ∃ (e' : Nat) (p' : Int → Nat), (e' = e ∨ h.1 ≤ e') ∧ PqA K h' q e' (n + 1) p' ∧ HOk (kyP mi rk) (n + 1) p' ∧ (∀ a, (∃ i, 0 ≤ i ∧ i < n + 1 ∧ p' i = a) ↔ (a = x ∨ ∃ i, 0 ≤ i ∧ i < n ∧ p i = a)) ∧ (h.1 ≤ h'.1 ∧ h'.1 ≤ h.1 + 1) ∧ (h.2.1 ≤ h'.2.1 ∧ (h'.2.1 : Int) ≤ h.2.1 + (if e' = e then 0 else 2 * n + 2)) ∧ ∀ b, (b < h.1 ∧ b ≠ q ∧ b ≠ e) → h'.2.2 b = h.2.2 b
theorem c_J40_offer (x : Nat) (hd : 5 ≤ d) (hA : PqA K h q e n p) (hO : HOk (kyP mi rk) n p) (hp : PlAll h q e mi rk n p) (hx : PlC (exc q e h) (mi x) (rk x) x ∧ PlB (mi x) (rk x)) (hn : n ≤ 8000) (hz : h.1 + 1 ≤ kC K ∧ h.2.1 + 20000 ≤ kS K) (hwf : ∀ b e, h.2.2 b = some e → b < h.1) : Mt K yiJ40_offer d [.ref q, .ref x] h (Rz fun r h' => 1 = r ∧ PqQ K h h' q e x n p mi rk) := by
  obtain ⟨cap, mc, f, hq, he, hcap, hf, hfn⟩ := hA
  have hne : q ≠ e := ne_oa hq he
  obtain ⟨a0, a1, a2, a3, hxc⟩ := hx.1.cell4
  have hxc9 := exc_at hxc
  have lq := hwf _ _ hq
  have le := hwf _ _ he
  by_cases hfull : n < (cap : Int)
  · refine mt_ofQ (by decide) (Nat.le_of_ble_eq_true rfl) (fun Q hQ => ?_)
    show MW K yiJ40_offer d h 0 [some (.ref q), some (.ref x), none] [] Q
    refine mw_wf (fun hwf => ?_)
    have l_hq := hwf _ _ hq
    have l_he := hwf _ _ he
    refine m_aload_n (y := yiJ40_offer) dJ40_offer_0 rfl ?_
    refine m_ifnonnull (y := yiJ40_offer) (x := (some x)) 12 dJ40_offer_1 (by decide) (fun _ _ => ?_) (fun h9 => nomatch h9)
    refine m_aload_n (y := yiJ40_offer) dJ40_offer_12 rfl ?_
    refine m_dup (y := yiJ40_offer) dJ40_offer_13 rfl ?_
    refine m_getfS (y := yiJ40_offer) kc_24 3 (by decide) dJ40_offer_14 q2194 hq rfl ?_
    refine j_iconst (y := yiJ40_offer) dJ40_offer_17 ?_
    refine j_iadd (y := yiJ40_offer) dJ40_offer_18 ?_
    refine m_putfS (y := yiJ40_offer) kc_24 3 (by decide) dJ40_offer_19 q2194 rfl hq rfl rfl (hp_put fun g1 g1H => ?_)
    have he : g1.2.2 e = some (true, oaE K cap f) := (g1H.2.2.2 _ (by omega)).trans he
    have hq : g1.2.2 q = some (true, .inr (24, [(.ref e), (vi n), .null, (vi (mc + 1))])) := g1H.2.2.1
    have g11 := g1H.1
    have g12 := g1H.2.1
    refine m_aload_n (y := yiJ40_offer) dJ40_offer_22 rfl ?_
    refine m_getfS (y := yiJ40_offer) kc_24 1 (by decide) dJ40_offer_23 q2192 hq rfl ?_
    refine j_istore_n (y := yiJ40_offer) [some (.ref q), some (.ref x), some (vi n)] dJ40_offer_26 (by decide) rfl rfl ?_
    refine j_iload_n (y := yiJ40_offer) dJ40_offer_27 rfl ?_
    refine m_aload_n (y := yiJ40_offer) dJ40_offer_28 rfl ?_
    refine m_getfS (y := yiJ40_offer) kc_24 0 (by decide) dJ40_offer_29 q2191 hq rfl ?_
    refine h_alen (y := yiJ40_offer) 5 (by decide) dJ40_offer_32 he ?_
    refine j_icmp_lt (y := yiJ40_offer) 43 dJ40_offer_33 (by decide) ⟨⟨by omega, by omega⟩, ⟨by omega, by omega⟩⟩ (fun c33 => ?_) (fun c33 => False.elim (by omega))
    refine m_aload_n (y := yiJ40_offer) dJ40_offer_43 rfl ?_
    refine j_iload_n (y := yiJ40_offer) dJ40_offer_44 rfl ?_
    refine m_aload_n (y := yiJ40_offer) dJ40_offer_45 rfl ?_
    have hpp : ∀ b c, (exc q e h).2.2 b = some c → (exc e e g1).2.2 b = some c := fun b c e9 => by { have u9 := exc_at e9; exact exc_mk ((g1H.2.2.2 b u9.2.1).trans u9.1) u9.2.2 u9.2.2 }
    refine m_invV (y := yiJ40_offer) (rB := (RJ40, TJ40, 4)) [(vi n), (.ref x)] dJ40_offer_46 hq rfl q2240 q2242 qs49 q177 q2243 rfl (c_J40_siftUp (d := 4) (p := p) (mi := mi) (rk := rk) n x (by omega) hq he (by omega) ⟨by omega, by omega⟩ hf (fun i a b => ⟨(hp i a b).1.up hpp, (hp i a b).2⟩) ⟨hx.1.up hpp, hx.2⟩ hO) pdJ40_siftUp ⟨Nat.le_of_ble_eq_true rfl, by decide, by omega⟩ (kk_v fun h46 q46 => ?_) kx_v
    obtain ⟨f', p', s1, s2, s3, s4, s5, s6, s7, s8⟩ := q46
    have hq : h46.2.2 q = some (true, .inr (24, [(.ref e), (vi n), .null, (vi (mc + 1))])) := (s8 _ (by omega)).trans hq
    refine mw_wf (fun hwf46 => ?_)
    have l_s146 := hwf46 _ _ s1
    refine m_aload_n (y := yiJ40_offer) dJ40_offer_49 rfl ?_
    refine j_iload_n (y := yiJ40_offer) dJ40_offer_50 rfl ?_
    refine j_iconst (y := yiJ40_offer) dJ40_offer_51 ?_
    refine j_iadd (y := yiJ40_offer) dJ40_offer_52 ?_
    refine m_putfS (y := yiJ40_offer) kc_24 1 (by decide) dJ40_offer_53 q2192 rfl hq rfl rfl (hp_put fun g2 g2H => ?_)
    have s1 : g2.2.2 e = some (true, oaE K cap f') := (g2H.2.2.2 _ (by omega)).trans s1
    have hq : g2.2.2 q = some (true, .inr (24, [(.ref e), (vi (n + 1)), .null, (vi (mc + 1))])) := g2H.2.2.1
    have g21 := g2H.1
    have g22 := g2H.2.1
    refine j_iconst (y := yiJ40_offer) dJ40_offer_56 ?_
    subst hQ; exact j_zret (y := yiJ40_offer) dJ40_offer_57 rfl (by omega) (⟨rfl, e, p', Or.inl rfl, ⟨cap, mc + 1, f', hq, s1, ⟨by omega, by omega, by omega⟩, s2, fun i a => (s3 i (by omega)).trans (hfn i (by omega))⟩, s4, s5, by omega, ⟨by omega, by rw [if_pos rfl]; omega⟩, fun b hb => (g2H.2.2.2 b hb.2.1).trans ((s8 b hb.2.2).trans (g1H.2.2.2 b hb.2.1))⟩)
  · have hcapn : (cap : Int) = n := by omega
    have hel : ∀ g : MH, (∀ b, b ≠ q → g.2.2 b = h.2.2 b) → ∀ i, 0 ≤ i → i < (cap : Int) → ∀ v, f i = some v → IsO g v := fun g hg i a b v hv => by
      have h1 := hf i a (by omega)
      rw [hv] at h1
      have h2 : v = p i := Option.some.inj h1
      obtain ⟨b0, b1, b2, b3, hc⟩ := (hp i a (by omega)).1.cell4
      have u9 := exc_at hc
      rw [h2]
      exact iso_of ((hg _ u9.2.1).trans u9.1) rfl
    refine mt_ofQ (by decide) (Nat.le_of_ble_eq_true rfl) (fun Q hQ => ?_)
    show MW K yiJ40_offer d h 0 [some (.ref q), some (.ref x), none] [] Q
    refine mw_wf (fun hwf => ?_)
    have l_hq := hwf _ _ hq
    have l_he := hwf _ _ he
    refine m_aload_n (y := yiJ40_offer) dJ40_offer_0 rfl ?_
    refine m_ifnonnull (y := yiJ40_offer) (x := (some x)) 12 dJ40_offer_1 (by decide) (fun _ _ => ?_) (fun h9 => nomatch h9)
    refine m_aload_n (y := yiJ40_offer) dJ40_offer_12 rfl ?_
    refine m_dup (y := yiJ40_offer) dJ40_offer_13 rfl ?_
    refine m_getfS (y := yiJ40_offer) kc_24 3 (by decide) dJ40_offer_14 q2194 hq rfl ?_
    refine j_iconst (y := yiJ40_offer) dJ40_offer_17 ?_
    refine j_iadd (y := yiJ40_offer) dJ40_offer_18 ?_
    refine m_putfS (y := yiJ40_offer) kc_24 3 (by decide) dJ40_offer_19 q2194 rfl hq rfl rfl (hp_put fun g1 g1H => ?_)
    have he : g1.2.2 e = some (true, oaE K cap f) := (g1H.2.2.2 _ (by omega)).trans he
    have hq : g1.2.2 q = some (true, .inr (24, [(.ref e), (vi n), .null, (vi (mc + 1))])) := g1H.2.2.1
    have g11 := g1H.1
    have g12 := g1H.2.1
    refine m_aload_n (y := yiJ40_offer) dJ40_offer_22 rfl ?_
    refine m_getfS (y := yiJ40_offer) kc_24 1 (by decide) dJ40_offer_23 q2192 hq rfl ?_
    refine j_istore_n (y := yiJ40_offer) [some (.ref q), some (.ref x), some (vi n)] dJ40_offer_26 (by decide) rfl rfl ?_
    refine j_iload_n (y := yiJ40_offer) dJ40_offer_27 rfl ?_
    refine m_aload_n (y := yiJ40_offer) dJ40_offer_28 rfl ?_
    refine m_getfS (y := yiJ40_offer) kc_24 0 (by decide) dJ40_offer_29 q2191 hq rfl ?_
    refine h_alen (y := yiJ40_offer) 5 (by decide) dJ40_offer_32 he ?_
    refine j_icmp_lt (y := yiJ40_offer) 43 dJ40_offer_33 (by decide) ⟨⟨by omega, by omega⟩, ⟨by omega, by omega⟩⟩ (fun c33 => False.elim (by omega)) (fun c33 => ?_)
    refine m_aload_n (y := yiJ40_offer) dJ40_offer_36 rfl ?_
    refine j_iload_n (y := yiJ40_offer) dJ40_offer_37 rfl ?_
    refine j_iconst (y := yiJ40_offer) dJ40_offer_38 ?_
    refine j_iadd (y := yiJ40_offer) dJ40_offer_39 ?_
    refine m_invV (y := yiJ40_offer) (rB := (RJ40, TJ40, 4)) [(vi (n + 1))] dJ40_offer_40 hq rfl q2234 q2236 qs48 q177 q2237 rfl (c_J40_grow (d := 3) (n + 1) (by omega) hq he ⟨by omega, by omega⟩ (by omega) (hel _ g1H.2.2.2) ⟨by omega, by omega⟩) pdJ40_grow ⟨Nat.le_of_ble_eq_true rfl, by decide, by omega⟩ (kk_v fun h40 q40 => ?_) kx_v
    obtain ⟨cap', w1, hq2, he2, y40, z40, w6⟩ := q40
    refine mw_wf (fun hwf40 => ?_)
    have l_hq240 := hwf40 _ _ hq2
    have l_he240 := hwf40 _ _ he2
    refine m_aload_n (y := yiJ40_offer) dJ40_offer_43 rfl ?_
    refine j_iload_n (y := yiJ40_offer) dJ40_offer_44 rfl ?_
    refine m_aload_n (y := yiJ40_offer) dJ40_offer_45 rfl ?_
    have hpp : ∀ b c, (exc q e h).2.2 b = some c → (exc g1.1 g1.1 h40).2.2 b = some c := fun b c e9 => by { have u9 := exc_at e9; have l9 := hwf _ _ u9.1; exact exc_mk ((w6 b ⟨by omega, u9.2.1⟩).trans ((g1H.2.2.2 b u9.2.1).trans u9.1)) (by omega) (by omega) }
    refine m_invV (y := yiJ40_offer) (rB := (RJ40, TJ40, 4)) [(vi n), (.ref x)] dJ40_offer_46 hq2 rfl q2240 q2242 qs49 q177 q2243 rfl (c_J40_siftUp (d := 4) (p := p) (mi := mi) (rk := rk) n x (by omega) hq2 he2 (by omega) ⟨by omega, by omega⟩ (fun i a b => (grF_at ⟨a, by omega⟩).trans (hf i a b)) (fun i a b => ⟨(hp i a b).1.up hpp, (hp i a b).2⟩) ⟨hx.1.up hpp, hx.2⟩ hO) pdJ40_siftUp ⟨Nat.le_of_ble_eq_true rfl, by decide, by omega⟩ (kk_v fun h46 q46 => ?_) kx_v
    obtain ⟨f', p', s1, s2, s3, s4, s5, s6, s7, s8⟩ := q46
    have hq2 : h46.2.2 q = some (true, .inr (24, [(.ref g1.1), (vi n), .null, (vi (mc + 1))])) := (s8 _ (by omega)).trans hq2
    refine mw_wf (fun hwf46 => ?_)
    have l_s146 := hwf46 _ _ s1
    refine m_aload_n (y := yiJ40_offer) dJ40_offer_49 rfl ?_
    refine j_iload_n (y := yiJ40_offer) dJ40_offer_50 rfl ?_
    refine j_iconst (y := yiJ40_offer) dJ40_offer_51 ?_
    refine j_iadd (y := yiJ40_offer) dJ40_offer_52 ?_
    refine m_putfS (y := yiJ40_offer) kc_24 1 (by decide) dJ40_offer_53 q2192 rfl hq2 rfl rfl (hp_put fun g2 g2H => ?_)
    have s1 : g2.2.2 g1.1 = some (true, oaE K cap' f') := (g2H.2.2.2 _ (by omega)).trans s1
    have hq2 : g2.2.2 q = some (true, .inr (24, [(.ref g1.1), (vi (n + 1)), .null, (vi (mc + 1))])) := g2H.2.2.1
    have g21 := g2H.1
    have g22 := g2H.2.1
    refine j_iconst (y := yiJ40_offer) dJ40_offer_56 ?_
    subst hQ; exact j_zret (y := yiJ40_offer) dJ40_offer_57 rfl (by omega) (⟨rfl, g1.1, p', Or.inr (by omega), ⟨cap', mc + 1, f', hq2, s1, ⟨by omega, by omega, by omega⟩, s2, fun i a => (s3 i (by omega)).trans (grF_no (by omega))⟩, s4, s5, by omega, ⟨by omega, by rw [if_neg (by omega)]; omega⟩, fun b hb => (g2H.2.2.2 b hb.2.1).trans ((s8 b (by omega)).trans ((w6 b ⟨by omega, hb.2.1⟩).trans (g1H.2.2.2 b hb.2.1)))⟩)
theorem c_J40_add (x : Nat) (hd : 6 ≤ d) (hA : PqA K h q e n p) (hO : HOk (kyP mi rk) n p) (hp : PlAll h q e mi rk n p) (hx : PlC (exc q e h) (mi x) (rk x) x ∧ PlB (mi x) (rk x)) (hn : n ≤ 8000) (hz : h.1 + 1 ≤ kC K ∧ h.2.1 + 20000 ≤ kS K) (hwf : ∀ b e, h.2.2 b = some e → b < h.1) : Mt K yiJ40_add d [.ref q, .ref x] h (Rz fun r h' => 1 = r ∧ PqQ K h h' q e x n p mi rk) := by
  have hA' := hA
  obtain ⟨cap, mc, f, hq, he, hcap, hf, hfn⟩ := hA
  refine mt_ofQ (by decide) (Nat.le_of_ble_eq_true rfl) (fun Q hQ => ?_)
  show MW K yiJ40_add d h 0 [some (.ref q), some (.ref x)] [] Q
  refine mw_wf (fun hwf => ?_)
  have l_hq := hwf _ _ hq
  refine m_aload_n (y := yiJ40_add) dJ40_add_0 rfl ?_
  refine m_aload_n (y := yiJ40_add) dJ40_add_1 rfl ?_
  refine m_invV (y := yiJ40_add) (rB := (RJ40, TJ40, 4)) [(.ref x)] dJ40_add_2 hq rfl q2230 q2231 q2232 q177 q2233 rfl (c_J40_offer (d := 5) x (by omega) hA' hO hp hx hn hz hwf) pdJ40_offer ⟨Nat.le_of_ble_eq_true rfl, by decide, by omega⟩ (kk_z fun r2 h2 q2 => ?_) kx_z
  obtain ⟨rfl, e', p', r1, r2, r3, r4, r5, r6, r7⟩ := q2
  refine mw_wf (fun hwf2 => ?_)
  subst hQ; exact j_zret (y := yiJ40_add) dJ40_add_5 rfl (by omega) (⟨rfl, e', p', r1, r2, r3, r4, r5, r6, r7⟩)
/-- the least place is taken -/
theorem c_J40_poll (hd : 4 ≤ d) (hA : PqA K h q e n p) (hO : HOk (kyP mi rk) n p) (hp : PlAll h q e mi rk n p) (hn : 1 ≤ n) : Mt K yiJ40_poll d [.ref q] h (Rr fun r h' => p 0 = r ∧ ∃ p', PqA K h' q e (n - 1) p' ∧ HOk (kyP mi rk) (n - 1) p' ∧ (∀ a, (∃ i, 0 ≤ i ∧ i < n - 1 ∧ p' i = a) ↔ ∃ i, 1 ≤ i ∧ i < n ∧ p i = a) ∧ h'.1 = h.1 ∧ h'.2.1 = h.2.1 ∧ ∀ b, (b ≠ q ∧ b ≠ e) → h'.2.2 b = h.2.2 b) := by
  obtain ⟨cap, mc, f, hq, he, hcap, hf, hfn⟩ := hA
  have hne : q ≠ e := ne_oa hq he
  by_cases h1 : n = 1
  · refine mt_ofQ (by decide) (Nat.le_of_ble_eq_true rfl) (fun Q hQ => ?_)
    show MW K yiJ40_poll d h 0 [some (.ref q), none, none, none, none, none] [] Q
    refine mw_wf (fun hwf => ?_)
    have l_hq := hwf _ _ hq
    have l_he := hwf _ _ he
    refine m_aload_n (y := yiJ40_poll) dJ40_poll_0 rfl ?_
    refine m_getfS (y := yiJ40_poll) kc_24 0 (by decide) dJ40_poll_1 q2191 hq rfl ?_
    refine m_dup (y := yiJ40_poll) dJ40_poll_4 rfl ?_
    refine m_astore_n (y := yiJ40_poll) dJ40_poll_5 (by decide) rfl ?_
    show MW K yiJ40_poll d h 6 [some (.ref q), some (.ref e), none, none, none, none] [(.ref e)] Q
    refine j_iconst (y := yiJ40_poll) dJ40_poll_6 ?_
    refine h_aald5 (y := yiJ40_poll) dJ40_poll_7 he ⟨by omega, by omega⟩ (by omega) ?_
    rw [hf 0 (by omega) (by omega)]
    show MW K yiJ40_poll d h 8 [some (.ref q), some (.ref e), none, none, none, none] [(.ref (p 0))] Q
    refine m_dup (y := yiJ40_poll) dJ40_poll_8 rfl ?_
    refine m_astore_n (y := yiJ40_poll) dJ40_poll_9 (by decide) rfl ?_
    show MW K yiJ40_poll d h 10 [some (.ref q), some (.ref e), some (.ref (p 0)), none, none, none] [(.ref (p 0))] Q
    refine m_ifnull (y := yiJ40_poll) (x := (some (p 0))) 79 dJ40_poll_10 (by decide) (fun h9 => nomatch h9) (fun _ _ => ?_)
    refine m_aload_n (y := yiJ40_poll) dJ40_poll_13 rfl ?_
    refine m_dup (y := yiJ40_poll) dJ40_poll_14 rfl ?_
    refine m_getfS (y := yiJ40_poll) kc_24 3 (by decide) dJ40_poll_15 q2194 hq rfl ?_
    refine j_iconst (y := yiJ40_poll) dJ40_poll_18 ?_
    refine j_iadd (y := yiJ40_poll) dJ40_poll_19 ?_
    refine m_putfS (y := yiJ40_poll) kc_24 3 (by decide) dJ40_poll_20 q2194 rfl hq rfl rfl (hp_put fun g1 g1H => ?_)
    have he : g1.2.2 e = some (true, oaE K cap f) := (g1H.2.2.2 _ (by omega)).trans he
    have hq : g1.2.2 q = some (true, .inr (24, [(.ref e), (vi n), .null, (vi (mc + 1))])) := g1H.2.2.1
    have g11 := g1H.1
    have g12 := g1H.2.1
    refine m_aload_n (y := yiJ40_poll) dJ40_poll_23 rfl ?_
    refine m_aload_n (y := yiJ40_poll) dJ40_poll_24 rfl ?_
    refine m_dup (y := yiJ40_poll) dJ40_poll_25 rfl ?_
    refine m_getfS (y := yiJ40_poll) kc_24 1 (by decide) dJ40_poll_26 q2192 hq rfl ?_
    refine j_iconst (y := yiJ40_poll) dJ40_poll_29 ?_
    refine j_isub (y := yiJ40_poll) dJ40_poll_30 ?_
    refine m_dup_x1 (y := yiJ40_poll) dJ40_poll_31 rfl rfl ?_
    refine m_putfS (y := yiJ40_poll) kc_24 1 (by decide) dJ40_poll_32 q2192 rfl hq rfl rfl (hp_put fun g2 g2H => ?_)
    have he : g2.2.2 e = some (true, oaE K cap f) := (g2H.2.2.2 _ (by omega)).trans he
    have hq : g2.2.2 q = some (true, .inr (24, [(.ref e), (vi (n - 1)), .null, (vi (mc + 1))])) := g2H.2.2.1
    have g21 := g2H.1
    have g22 := g2H.2.1
    refine m_dup (y := yiJ40_poll) dJ40_poll_35 rfl ?_
    refine j_istore_n (y := yiJ40_poll) [some (.ref q), some (.ref e), some (.ref (p 0)), some (vi (n - 1)), none, none] dJ40_poll_36 (by decide) rfl rfl ?_
    refine h_aald5 (y := yiJ40_poll) dJ40_poll_37 he ⟨by omega, by omega⟩ (by omega) ?_
    rw [hf (n - 1) (by omega) (by omega)]
    show MW K yiJ40_poll d g2 38 [some (.ref q), some (.ref e), some (.ref (p 0)), some (vi (n - 1)), none, none] [(.ref (p (n - 1)))] Q
    refine m_astore (y := yiJ40_poll) dJ40_poll_38 (by decide) rfl ?_
    show MW K yiJ40_poll d g2 40 [some (.ref q), some (.ref e), some (.ref (p 0)), some (vi (n - 1)), some (.ref (p (n - 1))), none] [] Q
    refine m_aload_n (y := yiJ40_poll) dJ40_poll_40 rfl ?_
    refine j_iload_n (y := yiJ40_poll) dJ40_poll_41 rfl ?_
    refine m_null (y := yiJ40_poll) dJ40_poll_42 ?_
    refine h_aastN (y := yiJ40_poll) dJ40_poll_43 he ⟨by omega, by omega⟩ (by omega) (hp_put fun g3 g3H => ?_)
    have hq : g3.2.2 q = some (true, .inr (24, [(.ref e), (vi (n - 1)), .null, (vi (mc + 1))])) := (g3H.2.2.2 _ (by omega)).trans hq
    have he : g3.2.2 e = some (true, oaE K cap (upq f (n - 1) none)) := g3H.2.2.1
    have g31 := g3H.1
    have g32 := g3H.2.1
    refine j_iload_n (y := yiJ40_poll) dJ40_poll_44 rfl ?_
    refine j_if_le (y := yiJ40_poll) 79 dJ40_poll_45 (by decide) ⟨by omega, by omega⟩ (fun c45 => ?_) (fun c45 => False.elim (by omega))
    refine m_aload_n (y := yiJ40_poll) dJ40_poll_79 rfl ?_
    subst hQ; exact m_aret (y := yiJ40_poll) (x := (some (p 0))) dJ40_poll_80 rfl (Or.inl ⟨_, rfl⟩) ⟨(p 0), rfl, ⟨rfl, p, ⟨cap, mc + 1, upq f (n - 1) none, hq, he, ⟨by omega, by omega, by omega⟩, fun i a b => by omega, fun i a => by { unfold upq; by_cases e9 : i = n - 1; { rw [if_pos e9] }; { rw [if_neg e9]; exact hfn i (by omega) } }⟩, fun i a b => by omega, fun a => ⟨fun ⟨i, a1, a2, _⟩ => by omega, fun ⟨i, a1, a2, _⟩ => by omega⟩, by omega, by omega, fun b hb => (g3H.2.2.2 b hb.2).trans ((g2H.2.2.2 b hb.1).trans (g1H.2.2.2 b hb.1))⟩⟩
  · refine mt_ofQ (by decide) (Nat.le_of_ble_eq_true rfl) (fun Q hQ => ?_)
    show MW K yiJ40_poll d h 0 [some (.ref q), none, none, none, none, none] [] Q
    refine mw_wf (fun hwf => ?_)
    have l_hq := hwf _ _ hq
    have l_he := hwf _ _ he
    refine m_aload_n (y := yiJ40_poll) dJ40_poll_0 rfl ?_
    refine m_getfS (y := yiJ40_poll) kc_24 0 (by decide) dJ40_poll_1 q2191 hq rfl ?_
    refine m_dup (y := yiJ40_poll) dJ40_poll_4 rfl ?_
    refine m_astore_n (y := yiJ40_poll) dJ40_poll_5 (by decide) rfl ?_
    show MW K yiJ40_poll d h 6 [some (.ref q), some (.ref e), none, none, none, none] [(.ref e)] Q
    refine j_iconst (y := yiJ40_poll) dJ40_poll_6 ?_
    refine h_aald5 (y := yiJ40_poll) dJ40_poll_7 he ⟨by omega, by omega⟩ (by omega) ?_
    rw [hf 0 (by omega) (by omega)]
    show MW K yiJ40_poll d h 8 [some (.ref q), some (.ref e), none, none, none, none] [(.ref (p 0))] Q
    refine m_dup (y := yiJ40_poll) dJ40_poll_8 rfl ?_
    refine m_astore_n (y := yiJ40_poll) dJ40_poll_9 (by decide) rfl ?_
    show MW K yiJ40_poll d h 10 [some (.ref q), some (.ref e), some (.ref (p 0)), none, none, none] [(.ref (p 0))] Q
    refine m_ifnull (y := yiJ40_poll) (x := (some (p 0))) 79 dJ40_poll_10 (by decide) (fun h9 => nomatch h9) (fun _ _ => ?_)
    refine m_aload_n (y := yiJ40_poll) dJ40_poll_13 rfl ?_
    refine m_dup (y := yiJ40_poll) dJ40_poll_14 rfl ?_
    refine m_getfS (y := yiJ40_poll) kc_24 3 (by decide) dJ40_poll_15 q2194 hq rfl ?_
    refine j_iconst (y := yiJ40_poll) dJ40_poll_18 ?_
    refine j_iadd (y := yiJ40_poll) dJ40_poll_19 ?_
    refine m_putfS (y := yiJ40_poll) kc_24 3 (by decide) dJ40_poll_20 q2194 rfl hq rfl rfl (hp_put fun g1 g1H => ?_)
    have he : g1.2.2 e = some (true, oaE K cap f) := (g1H.2.2.2 _ (by omega)).trans he
    have hq : g1.2.2 q = some (true, .inr (24, [(.ref e), (vi n), .null, (vi (mc + 1))])) := g1H.2.2.1
    have g11 := g1H.1
    have g12 := g1H.2.1
    refine m_aload_n (y := yiJ40_poll) dJ40_poll_23 rfl ?_
    refine m_aload_n (y := yiJ40_poll) dJ40_poll_24 rfl ?_
    refine m_dup (y := yiJ40_poll) dJ40_poll_25 rfl ?_
    refine m_getfS (y := yiJ40_poll) kc_24 1 (by decide) dJ40_poll_26 q2192 hq rfl ?_
    refine j_iconst (y := yiJ40_poll) dJ40_poll_29 ?_
    refine j_isub (y := yiJ40_poll) dJ40_poll_30 ?_
    refine m_dup_x1 (y := yiJ40_poll) dJ40_poll_31 rfl rfl ?_
    refine m_putfS (y := yiJ40_poll) kc_24 1 (by decide) dJ40_poll_32 q2192 rfl hq rfl rfl (hp_put fun g2 g2H => ?_)
    have he : g2.2.2 e = some (true, oaE K cap f) := (g2H.2.2.2 _ (by omega)).trans he
    have hq : g2.2.2 q = some (true, .inr (24, [(.ref e), (vi (n - 1)), .null, (vi (mc + 1))])) := g2H.2.2.1
    have g21 := g2H.1
    have g22 := g2H.2.1
    refine m_dup (y := yiJ40_poll) dJ40_poll_35 rfl ?_
    refine j_istore_n (y := yiJ40_poll) [some (.ref q), some (.ref e), some (.ref (p 0)), some (vi (n - 1)), none, none] dJ40_poll_36 (by decide) rfl rfl ?_
    refine h_aald5 (y := yiJ40_poll) dJ40_poll_37 he ⟨by omega, by omega⟩ (by omega) ?_
    rw [hf (n - 1) (by omega) (by omega)]
    show MW K yiJ40_poll d g2 38 [some (.ref q), some (.ref e), some (.ref (p 0)), some (vi (n - 1)), none, none] [(.ref (p (n - 1)))] Q
    refine m_astore (y := yiJ40_poll) dJ40_poll_38 (by decide) rfl ?_
    show MW K yiJ40_poll d g2 40 [some (.ref q), some (.ref e), some (.ref (p 0)), some (vi (n - 1)), some (.ref (p (n - 1))), none] [] Q
    refine m_aload_n (y := yiJ40_poll) dJ40_poll_40 rfl ?_
    refine j_iload_n (y := yiJ40_poll) dJ40_poll_41 rfl ?_
    refine m_null (y := yiJ40_poll) dJ40_poll_42 ?_
    refine h_aastN (y := yiJ40_poll) dJ40_poll_43 he ⟨by omega, by omega⟩ (by omega) (hp_put fun g3 g3H => ?_)
    have hq : g3.2.2 q = some (true, .inr (24, [(.ref e), (vi (n - 1)), .null, (vi (mc + 1))])) := (g3H.2.2.2 _ (by omega)).trans hq
    have he : g3.2.2 e = some (true, oaE K cap (upq f (n - 1) none)) := g3H.2.2.1
    have g31 := g3H.1
    have g32 := g3H.2.1
    refine j_iload_n (y := yiJ40_poll) dJ40_poll_44 rfl ?_
    refine j_if_le (y := yiJ40_poll) 79 dJ40_poll_45 (by decide) ⟨by omega, by omega⟩ (fun c45 => False.elim (by omega)) (fun c45 => ?_)
    refine m_aload_n (y := yiJ40_poll) dJ40_poll_48 rfl ?_
    refine m_getfS (y := yiJ40_poll) kc_24 2 (by decide) dJ40_poll_49 q2193 hq rfl ?_
    refine m_dup (y := yiJ40_poll) dJ40_poll_52 rfl ?_
    refine m_astoreN (y := yiJ40_poll) dJ40_poll_53 (by decide) rfl ?_
    show MW K yiJ40_poll d g3 55 [some (.ref q), some (.ref e), some (.ref (p 0)), some (vi (n - 1)), some (.ref (p (n - 1))), some .null] [.null] Q
    refine m_ifnonnull (y := yiJ40_poll) (x := none) 69 dJ40_poll_55 (by decide) (fun _ h9 => nomatch h9) (fun _ => ?_)
    refine j_iconst (y := yiJ40_poll) dJ40_poll_58 ?_
    refine m_aload (y := yiJ40_poll) dJ40_poll_59 rfl ?_
    refine m_aload_n (y := yiJ40_poll) dJ40_poll_61 rfl ?_
    refine j_iload_n (y := yiJ40_poll) dJ40_poll_62 rfl ?_
    have hpp : ∀ b c, (exc q e h).2.2 b = some c → (exc e e g3).2.2 b = some c := fun b c e9 => by { have u9 := exc_at e9; exact exc_mk ((g3H.2.2.2 b u9.2.2).trans ((g2H.2.2.2 b u9.2.1).trans ((g1H.2.2.2 b u9.2.1).trans u9.1))) u9.2.2 u9.2.2 }
    refine m_invS (y := yiJ40_poll) [(vi 0), (.ref (p (n - 1))), (.ref e), (vi (n - 1))] dJ40_poll_63 q2299 q2300 q177 q2301 (c_J40_siftDownC (d := 3) (mi := mi) (rk := rk) (n - 1) (p (n - 1)) p (by omega) he (by omega) ⟨by omega, by omega⟩ (fun i a b => by { unfold upq; rw [if_neg (by omega)]; exact hf i a (by omega) }) (fun i a b => ⟨(hp i a (by omega)).1.up hpp, (hp i a (by omega)).2⟩) ⟨(hp (n - 1) (by omega) (by omega)).1.up hpp, (hp (n - 1) (by omega) (by omega)).2⟩ (by rw [show n - 1 + 1 = n by omega]; exact hO)) pdJ40_siftDownComparable ⟨Nat.le_of_ble_eq_true rfl, by decide, by omega⟩ (kk_v fun h63 q63 => ?_) kx_v
    obtain ⟨f', p', s1, s2, s3, s4, s5, s6, s7, s8⟩ := q63
    have hq : h63.2.2 q = some (true, .inr (24, [(.ref e), (vi (n - 1)), .null, (vi (mc + 1))])) := (s8 _ (by omega)).trans hq
    refine mw_wf (fun hwf63 => ?_)
    have l_s163 := hwf63 _ _ s1
    refine m_goto (y := yiJ40_poll) 79 dJ40_poll_66 (by decide) ?_
    refine m_aload_n (y := yiJ40_poll) dJ40_poll_79 rfl ?_
    subst hQ; exact m_aret (y := yiJ40_poll) (x := (some (p 0))) dJ40_poll_80 rfl (Or.inl ⟨_, rfl⟩) ⟨(p 0), rfl, ⟨rfl, p', ⟨cap, mc + 1, f', hq, s1, ⟨by omega, by omega, by omega⟩, s2, fun i a => (s3 i a).trans (by { unfold upq; by_cases e9 : i = n - 1; { rw [if_pos e9] }; { rw [if_neg e9]; exact hfn i (by omega) } })⟩, s4, fun a => (s5 a).trans ⟨fun w => by { rcases w with w | ⟨i, w1, w2, w3⟩; { exact ⟨n - 1, by omega, by omega, w.symm⟩ }; { exact ⟨i, w1, by omega, w3⟩ } }, fun ⟨i, w1, w2, w3⟩ => by { by_cases e9 : i = n - 1; { rw [e9] at w3; exact Or.inl w3.symm }; { exact Or.inr ⟨i, w1, by omega, w3⟩ } }⟩, by omega, by omega, fun b hb => (s8 b hb.2).trans ((g3H.2.2.2 b hb.2).trans ((g2H.2.2.2 b hb.1).trans (g1H.2.2.2 b hb.1)))⟩⟩
theorem c_J40_size {cap : Nat} {f : Int → Option Nat} {mc : Int} (hq : h.2.2 q = some (true, .inr (24, [.ref e, vi n, .null, vi mc]))) : Mt K yiJ40_size d [.ref q] h (Rz fun r h' => h = h' ∧ n = r) := by
  refine mt_ofQ (by decide) (Nat.le_of_ble_eq_true rfl) (fun Q hQ => ?_)
  show MW K yiJ40_size d h 0 [some (.ref q)] [] Q
  refine mw_wf (fun hwf => ?_)
  have l_hq := hwf _ _ hq
  refine m_aload_n (y := yiJ40_size) dJ40_size_0 rfl ?_
  refine m_getfS (y := yiJ40_size) kc_24 1 (by decide) dJ40_size_1 q2192 hq rfl ?_
  subst hQ; exact j_iret (y := yiJ40_size) dJ40_size_4 rfl (⟨rfl, rfl⟩)
theorem c_J0_isEmptyQ {mc : Int} (hd : 1 ≤ d) (hn : 0 ≤ n ∧ n ≤ 100000) (hq : h.2.2 q = some (true, .inr (24, [.ref e, vi n, .null, vi mc]))) : Mt K yiJ0_isEmpty d [.ref q] h (Rz fun r h' => h = h' ∧ bz (n = 0) = r) := by
  refine mt_ofQ (by decide) (Nat.le_of_ble_eq_true rfl) (fun Q hQ => ?_)
  show MW K yiJ0_isEmpty d h 0 [some (.ref q)] [] Q
  refine mw_wf (fun hwf => ?_)
  have l_hq := hwf _ _ hq
  refine m_aload_n (y := yiJ0_isEmpty) dJ0_isEmpty_0 rfl ?_
  refine m_invA (y := yiJ0_isEmpty) (owner := "java/util/AbstractCollection") (rB := (RJ40, TJ40, 4)) [] dJ0_isEmpty_1 hq rfl q2261 q2263 q2262 q2271 q2272 q177 q2273 ⟨by decide, by decide, by show _ = some 0; decide +kernel⟩ (c_J40_size (d := 0) (cap := 0) (f := fun _ => none) hq) ⟨Nat.le_of_ble_eq_true rfl, by decide, by omega⟩ (kk_z fun r1 h1 q1 => ?_) kx_z
  obtain ⟨rfl, rfl⟩ := q1
  refine mw_top (x' := n) rfl ?_
  refine j_if_ne (y := yiJ0_isEmpty) 11 dJ0_isEmpty_4 (by decide) ⟨by omega, by omega⟩ (fun c4 => ?_) (fun c4 => ?_)
  · refine j_iconst (y := yiJ0_isEmpty) dJ0_isEmpty_11 ?_
    subst hQ; exact j_zret (y := yiJ0_isEmpty) dJ0_isEmpty_12 rfl (by omega) (⟨rfl, by first | exact (bz_t (by omega)).symm | exact (bz_f (by omega)).symm⟩)
  · refine j_iconst (y := yiJ0_isEmpty) dJ0_isEmpty_7 ?_
    refine m_goto (y := yiJ0_isEmpty) 12 dJ0_isEmpty_8 (by decide) ?_
    subst hQ; exact j_zret (y := yiJ0_isEmpty) dJ0_isEmpty_12 rfl (by omega) (⟨rfl, by first | exact (bz_t (by omega)).symm | exact (bz_f (by omega)).symm⟩)
theorem c_J39_init (K : KT) (d : Nat) (h : MH) (a : Nat) (hd : 2 ≤ d) : Mt K yiJ39_init d [.ref a] h (Rv fun h' => h = h') := by
  refine mt_ofQ (by decide) (Nat.le_of_ble_eq_true rfl) (fun Q hQ => ?_)
  show MW K yiJ39_init d h 0 [some (.ref a)] [] Q
  refine mw_wf (fun hwf => ?_)
  refine m_aload_n (y := yiJ39_init) dJ39_init_0 rfl ?_
  refine m_invI (y := yiJ39_init) [] dJ39_init_1 q2187 q208 q124 q209 rfl rfl (c_J0_init K 1 h a (by omega)) pdJ0_init ⟨Nat.le_of_ble_eq_true rfl, by decide, by omega⟩ (kk_v fun h1 q1 => ?_) kx_v
  obtain rfl := q1
  subst hQ; exact j_vret (y := yiJ39_init) dJ39_init_4 rfl rfl
theorem c_J40_init_2 (hd : 3 ≤ d) (hq : h.2.2 q = some (true, .inr (24, [.null, vi 0, .null, vi 0]))) (hz : h.1 + 1 ≤ kC K ∧ h.2.1 + 11 ≤ kS K) : Mt K yiJ40_init_2 d [.ref q, vi 11, .null] h (Rv fun h' => h'.2.2 q = some (true, .inr (24, [.ref h.1, vi 0, .null, vi 0])) ∧ h'.2.2 h.1 = some (true, oaE K 11 (fun _ => none)) ∧ h'.1 = h.1 + 1 ∧ h'.2.1 = h.2.1 + 11 ∧ ∀ b, (b < h.1 ∧ b ≠ q) → h'.2.2 b = h.2.2 b) := by
  refine mt_ofQ (by decide) (Nat.le_of_ble_eq_true rfl) (fun Q hQ => ?_)
  show MW K yiJ40_init_2 d h 0 [some (.ref q), some (vi 11), some .null] [] Q
  refine mw_wf (fun hwf => ?_)
  have l_hq := hwf _ _ hq
  refine m_aload_n (y := yiJ40_init_2) dJ40_init_2_0 rfl ?_
  refine m_invI (y := yiJ40_init_2) [] dJ40_init_2_1 q2184 q2185 q176 q2186 rfl rfl (c_J39_init K 2 h q (by omega)) pdJ39_init ⟨Nat.le_of_ble_eq_true rfl, by decide, by omega⟩ (kk_v fun h1 q1 => ?_) kx_v
  obtain rfl := q1
  refine j_iload_n (y := yiJ40_init_2) dJ40_init_2_4 rfl ?_
  refine j_iconst (y := yiJ40_init_2) dJ40_init_2_5 ?_
  refine j_icmp_ge (y := yiJ40_init_2) 17 dJ40_init_2_6 (by decide) ⟨⟨by omega, by omega⟩, ⟨by omega, by omega⟩⟩ (fun c6 => ?_) (fun c6 => False.elim (by omega))
  refine m_aload_n (y := yiJ40_init_2) dJ40_init_2_17 rfl ?_
  refine j_iload_n (y := yiJ40_init_2) dJ40_init_2_18 rfl ?_
  refine h_anewO (y := yiJ40_init_2) dJ40_init_2_19 q2190 ⟨by omega, by omega⟩ ⟨by omega, by omega⟩ (hp_new fun g1 g1H => ?_)
  have hq : g1.2.2 q = some (true, .inr (24, [.null, (vi 0), .null, (vi 0)])) := (g1H.2.2.2 _ (by omega)).trans hq
  have fg1 : g1.2.2 h.1 = some (true, oaE K ((11 : Int).toNat) (fun _ => none)) := g1H.2.2.1
  have g11 := g1H.1
  have g12 := g1H.2.1
  refine m_putfS (y := yiJ40_init_2) kc_24 0 (by decide) dJ40_init_2_22 q2191 rfl hq rfl rfl (hp_put fun g2 g2H => ?_)
  have fg1 : g2.2.2 h.1 = some (true, oaE K ((11 : Int).toNat) (fun _ => none)) := (g2H.2.2.2 _ (by omega)).trans fg1
  have hq : g2.2.2 q = some (true, .inr (24, [(.ref h.1), (vi 0), .null, (vi 0)])) := g2H.2.2.1
  have g21 := g2H.1
  have g22 := g2H.2.1
  refine m_aload_n (y := yiJ40_init_2) dJ40_init_2_25 rfl ?_
  refine m_aload_nN (y := yiJ40_init_2) dJ40_init_2_26 rfl ?_
  refine m_putfF (y := yiJ40_init_2) kc_24 2 (by decide) dJ40_init_2_27 q2193 rfl rfl rfl hq rfl rfl (hp_put fun g3 g3H => ?_)
  have fg1 : g3.2.2 h.1 = some (true, oaE K ((11 : Int).toNat) (fun _ => none)) := (g3H.2.2.2 _ (by omega)).trans fg1
  have hq : g3.2.2 q = some (true, .inr (24, [(.ref h.1), (vi 0), .null, (vi 0)])) := g3H.2.2.1
  have g31 := g3H.1
  have g32 := g3H.2.1
  subst hQ; exact j_vret (y := yiJ40_init_2) dJ40_init_2_30 rfl (⟨hq, fg1, by omega, by omega, fun b hb => (g3H.2.2.2 b hb.2).trans ((g2H.2.2.2 b hb.2).trans (g1H.2.2.2 b (by omega)))⟩)
theorem c_J40_init (hd : 4 ≤ d) (hq : h.2.2 q = some (true, .inr (24, [.null, vi 0, .null, vi 0]))) (hz : h.1 + 1 ≤ kC K ∧ h.2.1 + 11 ≤ kS K) : Mt K yiJ40_init d [.ref q] h (Rv fun h' => PqA K h' q h.1 0 (fun _ => 0) ∧ h'.1 = h.1 + 1 ∧ h'.2.1 = h.2.1 + 11 ∧ ∀ b, (b < h.1 ∧ b ≠ q) → h'.2.2 b = h.2.2 b) := by
  refine mt_ofQ (by decide) (Nat.le_of_ble_eq_true rfl) (fun Q hQ => ?_)
  show MW K yiJ40_init d h 0 [some (.ref q)] [] Q
  refine mw_wf (fun hwf => ?_)
  have l_hq := hwf _ _ hq
  refine m_aload_n (y := yiJ40_init) dJ40_init_0 rfl ?_
  refine j_bipush (y := yiJ40_init) dJ40_init_1 (by decide) ?_
  refine m_null (y := yiJ40_init) dJ40_init_3 ?_
  refine m_invI (y := yiJ40_init) [(vi 11), .null] dJ40_init_4 q2181 q2182 q177 q2183 rfl rfl (c_J40_init_2 (d := 3) (by omega) hq hz) pdJ40_init_2 ⟨Nat.le_of_ble_eq_true rfl, by decide, by omega⟩ (kk_v fun h4 q4 => ?_) kx_v
  obtain ⟨s1, s2, s3, s4, s5⟩ := q4
  refine mw_wf (fun hwf4 => ?_)
  subst hQ; exact j_vret (y := yiJ40_init) dJ40_init_7 rfl (⟨⟨11, 0, fun _ => none, s1, s2, by omega, fun i a b => by omega, fun _ _ => rfl⟩, s3, s4, s5⟩)
end PQ2
