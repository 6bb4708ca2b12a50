/-! Lastbus: lateness told -/
theorem c_J25_valueOf2 (K : KT) (d : Nat) (h hc : MH) (cc : Nat) (i : Int) (hd : 3 ≤ d) (h9 : kV K 9 = vi 127) (h10 : kV K 10 = .ref cc) (hC : ICa K hc cc) (hu : ∀ b c, hc.2.2 b = some c → h.2.2 b = some c) (hi : In i) (hz : h.1 + 1 ≤ kC K ∧ h.2.1 + 1 ≤ kS K) : Mt K yiJ25_valueOf d [vi i] h (Rr fun r h' => IgA h' r i ∧ (h.1 ≤ h'.1 ∧ h'.1 ≤ h.1 + 1) ∧ (h.2.1 ≤ h'.2.1 ∧ h'.2.1 ≤ h.2.1 + 1) ∧ r < h'.1 ∧ (∀ b, b < h.1 → h'.2.2 b = h.2.2 b) ∧ (h.1 ≤ r ∨ IgA hc r i)) := by
  obtain ⟨n, f, hc0, hn, hf⟩ := hC
  have hcc := hu _ _ hc0
  have i1 := hi.1
  have i2 := hi.2
  by_cases hs : -128 ≤ i ∧ i ≤ 127
  · obtain ⟨q, e1, wq, e2⟩ := hf i hs.1 hs.2
    refine mt_ofQ (by decide) (Nat.le_of_ble_eq_true rfl) (fun Q hQ => ?_)
    show MW K yiJ25_valueOf d h 0 [some (vi i)] [] Q
    refine mw_wf (fun hwf => ?_)
    have l_hcc := hwf _ _ hcc
    refine j_iload_n (y := yiJ25_valueOf) dJ25_valueOf_0 rfl ?_
    refine j_bipush (y := yiJ25_valueOf) dJ25_valueOf_1 (by decide) ?_
    refine j_icmp_lt (y := yiJ25_valueOf) 23 dJ25_valueOf_3 (by decide) ⟨⟨by omega, by omega⟩, ⟨by omega, by omega⟩⟩ (fun c3 => False.elim (by omega)) (fun c3 => ?_)
    refine j_iload_n (y := yiJ25_valueOf) dJ25_valueOf_6 rfl ?_
    refine m_gets (y := yiJ25_valueOf) (ref := "") 9 rfl dJ25_valueOf_7 q1381 h9 ?_
    refine j_icmp_gt (y := yiJ25_valueOf) 23 dJ25_valueOf_10 (by decide) ⟨⟨by omega, by omega⟩, ⟨by omega, by omega⟩⟩ (fun c10 => False.elim (by omega)) (fun c10 => ?_)
    refine m_gets (y := yiJ25_valueOf) (ref := "") 10 rfl dJ25_valueOf_13 q1383 h10 ?_
    refine j_iload_n (y := yiJ25_valueOf) dJ25_valueOf_16 rfl ?_
    refine j_sipush (y := yiJ25_valueOf) dJ25_valueOf_17 (by decide) ?_
    refine j_iadd (y := yiJ25_valueOf) dJ25_valueOf_20 ?_
    refine h_aald7 (y := yiJ25_valueOf) dJ25_valueOf_21 hcc ⟨by omega, by omega⟩ (by omega) ?_
    rw [e1]
    show MW K yiJ25_valueOf d h 22 [some (vi i)] [(.ref q)] Q
    subst hQ; exact m_aret (y := yiJ25_valueOf) (x := (some q)) dJ25_valueOf_22 rfl (Or.inl ⟨_, rfl⟩) ⟨q, rfl, ⟨⟨wq, hu _ _ e2⟩, by omega, by omega, hwf _ _ (hu _ _ e2), fun _ _ => rfl, Or.inr ⟨wq, e2⟩⟩⟩
  · refine mt_ofQ (by decide) (Nat.le_of_ble_eq_true rfl) (fun Q hQ => ?_)
    show MW K yiJ25_valueOf d h 0 [some (vi i)] [] Q
    refine mw_wf (fun hwf => ?_)
    have fR : ∀ b, (b < h.1) → h.2.2 b = h.2.2 b := fun _ _ => rfl
    refine j_iload_n (y := yiJ25_valueOf) dJ25_valueOf_0 rfl ?_
    refine j_bipush (y := yiJ25_valueOf) dJ25_valueOf_1 (by decide) ?_
    refine j_icmp_lt (y := yiJ25_valueOf) 23 dJ25_valueOf_3 (by decide) ⟨⟨by omega, by omega⟩, ⟨by omega, by omega⟩⟩ (fun c3 => ?_) (fun c3 => ?_)
    · refine m_new (y := yiJ25_valueOf) kc_22 1 dJ25_valueOf_23 q1385 q1386 q151 _ rfl ⟨by omega, by omega⟩ (hp_new fun g1 g1H => ?_)
      have fR : ∀ b, (b < h.1) → g1.2.2 b = h.2.2 b := fun b hb => (g1H.2.2.2 b (by omega)).trans (fR b hb)
      have fg1 : g1.2.2 h.1 = some (true, .inr (22, [(vi 0)])) := g1H.2.2.1
      have g11 := g1H.1
      have g12 := g1H.2.1
      refine m_dup (y := yiJ25_valueOf) dJ25_valueOf_26 rfl ?_
      refine j_iload_n (y := yiJ25_valueOf) dJ25_valueOf_27 rfl ?_
      refine m_invI (y := yiJ25_valueOf) [(vi i)] dJ25_valueOf_28 q1387 q1388 q151 q1389 rfl rfl (c_J25_init K 2 g1 h.1 i (by omega) fg1) pdJ25_init ⟨Nat.le_of_ble_eq_true rfl, by decide, by omega⟩ (kk_v fun h28 q28 => ?_) kx_v
      obtain q28 := q28
      have y28 := q28.1
      have z28 := q28.2.1
      have fn := q28.2.2.1
      have fR : ∀ b, (b < h.1) → h28.2.2 b = h.2.2 b := fun b hb => (q28.2.2.2 b (by omega)).trans (fR b hb)
      refine mw_wf (fun hwf28 => ?_)
      have l_fn28 := hwf28 _ _ fn
      subst hQ; exact m_aret (y := yiJ25_valueOf) (x := (some h.1)) dJ25_valueOf_31 rfl (Or.inl ⟨_, rfl⟩) ⟨h.1, rfl, ⟨⟨true, fn⟩, by omega, by omega, by omega, fR, Or.inl (by omega)⟩⟩
    · refine j_iload_n (y := yiJ25_valueOf) dJ25_valueOf_6 rfl ?_
      refine m_gets (y := yiJ25_valueOf) (ref := "") 9 rfl dJ25_valueOf_7 q1381 h9 ?_
      refine j_icmp_gt (y := yiJ25_valueOf) 23 dJ25_valueOf_10 (by decide) ⟨⟨by omega, by omega⟩, ⟨by omega, by omega⟩⟩ (fun c10 => ?_) (fun c10 => ?_)
      · refine m_new (y := yiJ25_valueOf) kc_22 1 dJ25_valueOf_23 q1385 q1386 q151 _ rfl ⟨by omega, by omega⟩ (hp_new fun g2 g2H => ?_)
        have fR : ∀ b, (b < h.1) → g2.2.2 b = h.2.2 b := fun b hb => (g2H.2.2.2 b (by omega)).trans (fR b hb)
        have fg2 : g2.2.2 h.1 = some (true, .inr (22, [(vi 0)])) := g2H.2.2.1
        have g21 := g2H.1
        have g22 := g2H.2.1
        refine m_dup (y := yiJ25_valueOf) dJ25_valueOf_26 rfl ?_
        refine j_iload_n (y := yiJ25_valueOf) dJ25_valueOf_27 rfl ?_
        refine m_invI (y := yiJ25_valueOf) [(vi i)] dJ25_valueOf_28 q1387 q1388 q151 q1389 rfl rfl (c_J25_init K 2 g2 h.1 i (by omega) fg2) pdJ25_init ⟨Nat.le_of_ble_eq_true rfl, by decide, by omega⟩ (kk_v fun h28 q28 => ?_) kx_v
        obtain q28 := q28
        have y28 := q28.1
        have z28 := q28.2.1
        have fn := q28.2.2.1
        have fR : ∀ b, (b < h.1) → h28.2.2 b = h.2.2 b := fun b hb => (q28.2.2.2 b (by omega)).trans (fR b hb)
        refine mw_wf (fun hwf28 => ?_)
        have l_fn28 := hwf28 _ _ fn
        subst hQ; exact m_aret (y := yiJ25_valueOf) (x := (some h.1)) dJ25_valueOf_31 rfl (Or.inl ⟨_, rfl⟩) ⟨h.1, rfl, ⟨⟨true, fn⟩, by omega, by omega, by omega, fR, Or.inl (by omega)⟩⟩
      · exact absurd ⟨by omega, by omega⟩ hs
theorem TmF.up {h h' : MH} {m : Nat} {L : List Nat} {ko : Nat → Nat} {vl lf rt pa : Nat → Option Nat} {co : Nat → Int} {root : Option Nat} {sz mc : Int} (e1 : ∀ b c, h.2.2 b = some c → h'.2.2 b = some c) (H : TmF h m L ko vl lf rt pa co root sz mc) : TmF h' m L ko vl lf rt pa co root sz mc := ⟨e1 _ _ H.1, fun a ha => e1 _ _ (H.2.1 a ha), H.2.2⟩
/-- the lateness that the entries tell -/
def LtV (h : MH) (L : List Nat) (key : Nat → Int) (vl : Nat → Option Nat) (sg : TS) : Prop := (L.length : Int) = sg.1 14 ∧
  (∀ a, a ∈ L → ∃ q i, vl a = some q ∧ (0 ≤ i ∧ i < sg.1 14) ∧ key a = 24 * sg.2 15 i + sg.2 16 i ∧ h.2.2 q = some (true, .inr (6, [vi (sg.2 17 i), vi (sg.2 18 i)]))) ∧
  (∀ i, 0 ≤ i → i < sg.1 14 → ∃ a, a ∈ L ∧ key a = 24 * sg.2 15 i + sg.2 16 i) ∧
  ∀ i j, 0 ≤ i → i < sg.1 14 → 0 ≤ j → j < sg.1 14 → 24 * sg.2 15 i + sg.2 16 i = 24 * sg.2 15 j + sg.2 16 j → i = j
def sgLA (sg : TS) (y t c mi : Int) : TS := ovr sg [(14, sg.1 14 + 1)] [(15, upz (sg.2 15) (sg.1 14) y), (16, upz (sg.2 16) (sg.1 14) t), (17, upz (sg.2 17) (sg.1 14) c), (18, upz (sg.2 18) (sg.1 14) mi)]
def sgLS (sg : TS) (I y t c mi : Int) : TS := ovr sg [] [(15, upz (sg.2 15) I y), (16, upz (sg.2 16) I t), (17, upz (sg.2 17) I c), (18, upz (sg.2 18) I mi)]
def sgLD (sg : TS) (I : Int) : TS := ovr sg [(14, sg.1 14 - 1)] [(15, upz (sg.2 15) I (sg.2 15 (sg.1 14 - 1))), (16, upz (sg.2 16) I (sg.2 16 (sg.1 14 - 1))), (17, upz (sg.2 17) I (sg.2 17 (sg.1 14 - 1))), (18, upz (sg.2 18) I (sg.2 18 (sg.1 14 - 1)))]
section LTV
variable {h h' : MH} {L : List Nat} {key : Nat → Int} {vl : Nat → Option Nat} {sg : TS} {y t c mi : Int}
theorem LtV.add {x v : Nat} (H : LtV h L key vl sg) (hn : 0 ≤ sg.1 14) (hu : ∀ q u w, h.2.2 q = some (true, .inr (6, [vi u, vi w])) → h'.2.2 q = some (true, .inr (6, [vi u, vi w]))) (hx : x ∉ L) (hno : ∀ a, a ∈ L → key a ≠ 24 * y + t) (hv : h'.2.2 v = some (true, .inr (6, [vi c, vi mi]))) : LtV h' (x :: L) (upI key x (24 * y + t)) (upo vl x (some v)) (sgLA sg y t c mi) := by
  obtain ⟨h1, h2, h3, h4⟩ := H
  have nx : ∀ a, a ∈ L → a ≠ x := fun a ha e => hx (by rw [← e]; exact ha)
  refine ⟨?_, fun a ha => ?_, fun i i0 i1 => ?_, fun i j i0 i1 j0 j1 => ?_⟩
  · show ((x :: L).length : Int) = sg.1 14 + 1
    rw [List.length_cons, ← h1]; rfl
  · show ∃ q i, upo vl x (some v) a = some q ∧ (0 ≤ i ∧ i < sg.1 14 + 1) ∧ upI key x (24 * y + t) a = 24 * upz (sg.2 15) (sg.1 14) y i + upz (sg.2 16) (sg.1 14) t i ∧ h'.2.2 q = some (true, .inr (6, [vi (upz (sg.2 17) (sg.1 14) c i), vi (upz (sg.2 18) (sg.1 14) mi i)]))
    rcases List.mem_cons.mp ha with e | e
    · subst e
      exact ⟨v, sg.1 14, upo_at, ⟨by omega, by omega⟩, by rw [upI_at, upz_at, upz_at], by rw [upz_at, upz_at]; exact hv⟩
    · obtain ⟨q, i, r1, r2, r3, r4⟩ := h2 a e
      have ni : i ≠ sg.1 14 := by omega
      exact ⟨q, i, by rw [upo_ne (nx a e)]; exact r1, ⟨by omega, by omega⟩, by rw [upI_ne (nx a e), upz_ne ni, upz_ne ni]; exact r3, by rw [upz_ne ni, upz_ne ni]; exact hu _ _ _ r4⟩
  · show ∃ a, a ∈ x :: L ∧ upI key x (24 * y + t) a = 24 * upz (sg.2 15) (sg.1 14) y i + upz (sg.2 16) (sg.1 14) t i
    by_cases e : i = sg.1 14
    · exact ⟨x, List.mem_cons_self, by rw [e, upI_at, upz_at, upz_at]⟩
    · obtain ⟨a, r1, r2⟩ := h3 i i0 (by have : i < sg.1 14 + 1 := i1; omega)
      exact ⟨a, List.mem_cons_of_mem _ r1, by rw [upI_ne (nx a r1), upz_ne e, upz_ne e]; exact r2⟩
  · show 24 * upz (sg.2 15) (sg.1 14) y i + upz (sg.2 16) (sg.1 14) t i = 24 * upz (sg.2 15) (sg.1 14) y j + upz (sg.2 16) (sg.1 14) t j → i = j
    have i1 : i < sg.1 14 + 1 := i1
    have j1 : j < sg.1 14 + 1 := j1
    by_cases e : i = sg.1 14
    · by_cases e2 : j = sg.1 14
      · intro _; omega
      · rw [e, upz_at, upz_at, upz_ne e2, upz_ne e2]
        intro h9
        obtain ⟨a, r1, r2⟩ := h3 j j0 (by omega)
        exact absurd (r2.trans h9.symm) (hno a r1)
    · by_cases e2 : j = sg.1 14
      · rw [e2, upz_at, upz_at, upz_ne e, upz_ne e]
        intro h9
        obtain ⟨a, r1, r2⟩ := h3 i i0 (by omega)
        exact absurd (r2.trans h9) (hno a r1)
      · rw [upz_ne e, upz_ne e, upz_ne e2, upz_ne e2]
        exact h4 i j i0 (by omega) j0 (by omega)
theorem upz_sf {f : Int → Int} {i v : Int} (e : f i = v) : upz f i v = f := by
  funext j
  by_cases e2 : j = i
  · rw [e2, upz_at, e]
  · rw [upz_ne e2]
theorem LtV.set {a v : Nat} {I : Int} (H : LtV h L key vl sg) (hu : ∀ q u w, h.2.2 q = some (true, .inr (6, [vi u, vi w])) → h'.2.2 q = some (true, .inr (6, [vi u, vi w]))) (ha : a ∈ L) (hk : key a = 24 * y + t) (hI : 0 ≤ I ∧ I < sg.1 14) (e1 : sg.2 15 I = y) (e2 : sg.2 16 I = t) (hinj : ∀ a b, a ∈ L → b ∈ L → key a = key b → a = b) (hv : h'.2.2 v = some (true, .inr (6, [vi c, vi mi]))) : LtV h' L key (upo vl a (some v)) (sgLS sg I y t c mi) := by
  obtain ⟨h1, h2, h3, h4⟩ := H
  have g1 : (sgLS sg I y t c mi).2 15 = sg.2 15 := upz_sf e1
  have g2 : (sgLS sg I y t c mi).2 16 = sg.2 16 := upz_sf e2
  refine ⟨h1, fun b hb => ?_, fun i i0 i1 => ?_, fun i j i0 i1 j0 j1 => ?_⟩
  · rw [g1, g2]
    show ∃ q i, upo vl a (some v) b = some q ∧ (0 ≤ i ∧ i < sg.1 14) ∧ key b = 24 * sg.2 15 i + sg.2 16 i ∧ h'.2.2 q = some (true, .inr (6, [vi (upz (sg.2 17) I c i), vi (upz (sg.2 18) I mi i)]))
    by_cases e : b = a
    · subst e
      exact ⟨v, I, upo_at, hI, by rw [e1, e2]; exact hk, by rw [upz_at, upz_at]; exact hv⟩
    · obtain ⟨q, i, r1, r2, r3, r4⟩ := h2 b hb
      have ni : i ≠ I := fun e9 => e (hinj b a hb ha (by rw [r3, hk, e9, e1, e2]))
      exact ⟨q, i, by rw [upo_ne e]; exact r1, r2, r3, by rw [upz_ne ni, upz_ne ni]; exact hu _ _ _ r4⟩
  · rw [g1, g2]; exact h3 i i0 i1
  · rw [g1, g2]; exact h4 i j i0 i1 j0 j1
theorem LtV.del {p : Nat} {I : Int} {L' : List Nat} {key' : Nat → Int} {vl' : Nat → Option Nat} (H : LtV h L key vl sg) (hu : ∀ q u w, h.2.2 q = some (true, .inr (6, [vi u, vi w])) → h'.2.2 q = some (true, .inr (6, [vi u, vi w]))) (hp : p ∈ L) (hk : key p = 24 * sg.2 15 I + sg.2 16 I) (hI : 0 ≤ I ∧ I < sg.1 14) (hinj : ∀ a b, a ∈ L → b ∈ L → key a = key b → a = b) (d1 : L'.length + 1 = L.length) (d2 : ∀ a, a ∈ L' → ∃ b, b ∈ L ∧ b ≠ p ∧ key' a = key b ∧ vl' a = vl b) (d3 : ∀ b, b ∈ L → b ≠ p → ∃ a, a ∈ L' ∧ key' a = key b ∧ vl' a = vl b) : LtV h' L' key' vl' (sgLD sg I) := by
  obtain ⟨h1, h2, h3, h4⟩ := H
  have sgm : ∀ f : Int → Int, ∀ i, i ≠ I → upz f I (f (sg.1 14 - 1)) i = f i := fun f i e => upz_ne e
  refine ⟨?_, fun a ha => ?_, fun i i0 i1 => ?_, fun i j i0 i1 j0 j1 => ?_⟩
  · show (L'.length : Int) = sg.1 14 - 1
    omega
  · show ∃ q i, vl' a = some q ∧ (0 ≤ i ∧ i < sg.1 14 - 1) ∧ key' a = 24 * upz (sg.2 15) I (sg.2 15 (sg.1 14 - 1)) i + upz (sg.2 16) I (sg.2 16 (sg.1 14 - 1)) i ∧ h'.2.2 q = some (true, .inr (6, [vi (upz (sg.2 17) I (sg.2 17 (sg.1 14 - 1)) i), vi (upz (sg.2 18) I (sg.2 18 (sg.1 14 - 1)) i)]))
    obtain ⟨b, b1, b2, b3, b4⟩ := d2 a ha
    obtain ⟨q, i, r1, r2, r3, r4⟩ := h2 b b1
    have ni : i ≠ I := fun e9 => b2 (hinj b p b1 hp (by rw [r3, hk, e9]))
    by_cases e : i = sg.1 14 - 1
    · subst e
      exact ⟨q, I, b4.trans r1, ⟨by omega, by omega⟩, by rw [upz_at, upz_at]; exact b3.trans r3, by rw [upz_at, upz_at]; exact hu _ _ _ r4⟩
    · exact ⟨q, i, b4.trans r1, ⟨by omega, by omega⟩, by rw [upz_ne ni, upz_ne ni]; exact b3.trans r3, by rw [upz_ne ni, upz_ne ni]; exact hu _ _ _ r4⟩
  · show ∃ a, a ∈ L' ∧ key' a = 24 * upz (sg.2 15) I (sg.2 15 (sg.1 14 - 1)) i + upz (sg.2 16) I (sg.2 16 (sg.1 14 - 1)) i
    have i1 : i < sg.1 14 - 1 := i1
    by_cases e : i = I
    · obtain ⟨b, b1, b2⟩ := h3 (sg.1 14 - 1) (by omega) (by omega)
      obtain ⟨a, a1, a2, a3⟩ := d3 b b1 (fun e9 => by rw [e9, hk] at b2; have := h4 _ _ hI.1 hI.2 (by omega) (by omega) b2; omega)
      exact ⟨a, a1, by rw [e, upz_at, upz_at]; exact a2.trans b2⟩
    · obtain ⟨b, b1, b2⟩ := h3 i i0 (by omega)
      obtain ⟨a, a1, a2, a3⟩ := d3 b b1 (fun e9 => by rw [e9, hk] at b2; have := h4 _ _ hI.1 hI.2 i0 (by omega) b2; omega)
      exact ⟨a, a1, by rw [upz_ne e, upz_ne e]; exact a2.trans b2⟩
  · show 24 * upz (sg.2 15) I (sg.2 15 (sg.1 14 - 1)) i + upz (sg.2 16) I (sg.2 16 (sg.1 14 - 1)) i = 24 * upz (sg.2 15) I (sg.2 15 (sg.1 14 - 1)) j + upz (sg.2 16) I (sg.2 16 (sg.1 14 - 1)) j → i = j
    have i1 : i < sg.1 14 - 1 := i1
    have j1 : j < sg.1 14 - 1 := j1
    by_cases e : i = I
    · by_cases e2 : j = I
      · intro _; omega
      · rw [e, upz_at, upz_at, upz_ne e2, upz_ne e2]
        intro h9
        have := h4 _ _ (by omega) (by omega) j0 (by omega) h9
        omega
    · by_cases e2 : j = I
      · rw [e2, upz_at, upz_at, upz_ne e, upz_ne e]
        intro h9
        have := h4 _ _ i0 (by omega) (by omega) (by omega) h9
        omega
      · rw [upz_ne e, upz_ne e, upz_ne e2, upz_ne e2]
        exact h4 i j i0 (by omega) j0 (by omega)
theorem LtV.at_ (H : LtV h L key vl sg) (hT : TB sg) (hy : 0 ≤ y ∧ y ≤ 27) (ht : 0 ≤ t ∧ t < 24) : (latI sg y t = -1 ∧ ∀ a, a ∈ L → key a ≠ 24 * y + t) ∨ ((0 ≤ latI sg y t ∧ latI sg y t < sg.1 14) ∧ sg.2 15 (latI sg y t) = y ∧ sg.2 16 (latI sg y t) = t ∧ ∃ a, a ∈ L ∧ key a = 24 * y + t) := by
  obtain ⟨h1, h2, h3, h4⟩ := H
  have f14 := of14 (hT.1 14)
  rcases latAt_in (ld := sg.2 15) (lt := sg.2 16) (y := y) (t := t) (sg.1 14).toNat with ⟨e1, e2⟩ | ⟨e1, e2, e3, e4⟩
  · refine Or.inl ⟨e1, fun a ha e => ?_⟩
    obtain ⟨q, i, r1, r2, r3, r4⟩ := h2 a ha
    have b1 := oa16 (hT.2 16) i r2.1 (by omega)
    exact e2 i r2.1 (by omega) ⟨by omega, by omega⟩
  · have hl : latAt (sg.2 15) (sg.2 16) y t (sg.1 14).toNat < sg.1 14 := by omega
    obtain ⟨a, a1, a2⟩ := h3 _ e1 hl
    exact Or.inr ⟨⟨e1, hl⟩, e3, e4, a, a1, by rw [a2, e3, e4]⟩
end LTV
theorem PutQ.fr {h h' : MH} {m : Nat} {L : List Nat} {key : Nat → Int} {ko : Nat → Nat} {vl : Nat → Option Nat} {sz mc LO HI k : Int} {q v : Nat} {r : Option Nat} (P : PutQ h h' m L key ko vl sz mc LO HI k q v r) : PFr L m h h' := by
  rcases P with ⟨a, -, -, -, t, -⟩ | ⟨-, -, f, -⟩
  · exact ⟨⟨by rw [t.1]; exact Nat.le_refl _, by rw [t.1]; omega⟩, ⟨by rw [t.2.1]; exact Nat.le_refl _, by rw [t.2.1]; omega⟩, fun b hb => t.2.2 b ⟨hb.2.1, hb.2.2⟩⟩
  · exact f
section LTP
variable {K : KT} {own : Nat → Nat} {z m : Nat} {h h1 h' : MH} {L : List Nat} {key : Nat → Int} {ko : Nat → Nat} {vl lf rt pa : Nat → Option Nat} {co lo hi : Nat → Int} {root : Option Nat} {mc : Int} {sg : TS} {y t c mi : Int}
/-- cells of other kinds than the map's own stay and keep their owner -/
theorem lt_up (hF : TmF (tg own z 6 h) m L ko vl lf rt pa co root (L.length : Int) mc) (hfr : ∀ b, b < z → h1.2.2 b = h.2.2 b) (hf2 : ∀ b, (b < z ∧ b ∉ L ∧ b ≠ m) → h'.2.2 b = h1.2.2 b) (hwf' : ∀ a c, h'.2.2 a = some c → a < h'.1) : ∀ q w ci fs, (tg own z 6 h).2.2 q = some (w, .inr (ci, fs)) → ci ≠ 18 → ci ≠ 17 → (tg (ownJ own z 6) h'.1 6 h').2.2 q = some (w, .inr (ci, fs)) := fun q w ci fs e n1 n2 => by
  have u := tg_at e
  have nL : q ∉ L := fun h9 => ne_oo e (hF.2.1 q h9) n1 rfl
  have nm : q ≠ m := ne_oo e hF.1 n2
  have e9 := (hf2 q ⟨u.2.1, nL, nm⟩).trans ((hfr q u.2.1).trans u.1)
  exact tg_mk e9 (hwf' _ _ e9) (by unfold ownJ; rw [if_pos u.2.1]; exact u.2.2)
theorem lt_put {q v : Nat} {wq : Bool} {r : Option Nat} (hT : TB sg) (hF : TmF (tg own z 6 h) m L ko vl lf rt pa co root (L.length : Int) mc) (hKk : TmK (tg own z 6 h) L ko key) (hS : TmI L key lf rt pa lo hi root (-1) 1000) (hV : LtV (tg own z 6 h) L key vl sg) (hR0 : R0 own z h) (hz1 : z ≤ h1.1) (hfr : ∀ b, b < z → h1.2.2 b = h.2.2 b) (hq : h1.2.2 q = some (wq, .inr (22, [vi (24 * y + t)]))) (hqt : z ≤ q ∨ IgA (tg own z 0 h) q (24 * y + t)) (hv : h1.2.2 v = some (true, .inr (6, [vi c, vi mi]))) (hvn : z ≤ v) (hwf1 : ∀ a c, h1.2.2 a = some c → a < h1.1) (hwf' : ∀ a c, h'.2.2 a = some c → a < h'.1) (hy : 0 ≤ y ∧ y ≤ 27) (ht : 0 ≤ t ∧ t < 24) (P : PutQ h1 h' m L key ko vl (L.length : Int) mc (-1) 1000 (24 * y + t) q v r) : (∀ b, b < z → own b ≠ 6 → h'.2.2 b = h.2.2 b) ∧ ((latI sg y t = -1 ∧ LtA (tg (ownJ own z 6) h'.1 6 h') m (sgLA sg y t c mi)) ∨ (latI sg y t ≠ -1 ∧ LtA (tg (ownJ own z 6) h'.1 6 h') m (sgLS sg (latI sg y t) y t c mi))) := by
  have f14 := of14 (hT.1 14)
  have hLo : ∀ a, a ∈ L → a < z ∧ own a = 6 := fun a ha => ⟨(tg_at (hF.2.1 a ha)).2.1, hR0.own (hF.2.1 a ha)⟩
  have hmo : m < z ∧ own m = 6 := ⟨(tg_at hF.1).2.1, hR0.own hF.1⟩
  have hP := P.fr
  have hf2 : ∀ b, (b < z ∧ b ∉ L ∧ b ≠ m) → h'.2.2 b = h1.2.2 b := fun b hb => hP.2.2 b ⟨by omega, hb.2.1, hb.2.2⟩
  have hup := lt_up hF hfr hf2 hwf'
  have eJ : ∀ b, b < z → own b ≠ 6 → h'.2.2 b = h.2.2 b := fun b hb hn => (hf2 b ⟨hb, fun h9 => hn (hLo b h9).2, fun h9 => by rw [h9] at hn; exact hn hmo.2⟩).trans (hfr b hb)
  have hinj : ∀ a b, a ∈ L → b ∈ L → key a = key b → a = b := hS.1.2.2.2.2.2.2.2.2.2.2
  have tmk : ∀ b c, h'.2.2 b = some c → (z ≤ b ∨ own b = 6 ∨ own b = 0) → (tg (ownJ own z 6) h'.1 6 h').2.2 b = some c := fun b c e n => tg_mk e (hwf' _ _ e) (by unfold ownJ; by_cases e9 : b < z; { rw [if_pos e9]; omega }; { rw [if_neg e9]; exact Or.inl rfl })
  have hL1 : ∀ b, z ≤ b → b ∉ L := fun b hb h9 => by have := (hLo b h9).1; omega
  have hv' : (tg (ownJ own z 6) h'.1 6 h').2.2 v = some (true, .inr (6, [vi c, vi mi])) := tmk _ _ ((hP.2.2 v ⟨hwf1 _ _ hv, hL1 v hvn, by omega⟩).trans hv) (Or.inl hvn)
  have hqo : (tg (ownJ own z 6) h'.1 6 h').2.2 q = some (wq, .inr (22, [vi (24 * y + t)])) := by
    have nL : q ∉ L := fun h9 => ne_oo hq ((hfr q (hLo q h9).1).trans (tg_at (hF.2.1 q h9)).1) (by decide) rfl
    have nm : q ≠ m := fun h9 => ne_oo hq ((hfr m hmo.1).trans (tg_at hF.1).1) (by decide) h9
    refine tmk _ _ ((hP.2.2 q ⟨hwf1 _ _ hq, nL, nm⟩).trans hq) ?_
    rcases hqt with h9 | ⟨w9, h9⟩
    · exact Or.inl h9
    · have := (tg_at h9).2.2; omega
  refine ⟨eJ, ?_⟩
  rcases P with ⟨a, aL, ak, ar, aT, lf', rt', pa', co', lo', hi', ro', aF, aI, aB⟩ | ⟨hno, hr, aT, lf', rt', pa', co', lo', hi', ro', aF, aI, aB⟩
  · rcases hV.at_ hT hy ht with ⟨e1, e2⟩ | ⟨e1, e2, e3, -⟩
    · exact absurd ak (e2 a aL)
    · refine Or.inr ⟨by omega, L, ko, key, upo vl a (some v), lf', rt', pa', co', lo', hi', ro', mc, ⟨tmk _ _ aF.1 (Or.inr (Or.inl hmo.2)), fun b hb => tmk _ _ (aF.2.1 b hb) (Or.inr (Or.inl (hLo b hb).2)), aF.2.2⟩, fun b hb => ?_, ⟨aI, aB⟩, hV.set (fun q u w e => hup _ _ _ _ e (by decide) (by decide)) aL ak e1 e2 e3 hinj hv'⟩
      obtain ⟨w9, h9⟩ := hKk b hb
      exact ⟨w9, hup _ _ _ _ h9 (by decide) (by decide)⟩
  · rcases hV.at_ hT hy ht with ⟨e1, e2⟩ | ⟨e1, e2, e3, a, a1, a2⟩
    · have hxL := hL1 h1.1 hz1
      refine Or.inl ⟨e1, h1.1 :: L, upN ko h1.1 q, upI key h1.1 (24 * y + t), upo vl h1.1 (some v), lf', rt', pa', co', lo', hi', ro', mc + 1, ⟨by rw [show (((h1.1 :: L).length : Nat) : Int) = (L.length : Int) + 1 from rfl]; exact tmk _ _ aF.1 (Or.inr (Or.inl hmo.2)), fun b hb => tmk _ _ (aF.2.1 b hb) (by rcases List.mem_cons.mp hb with h9 | h9; { exact Or.inl (by rw [h9]; exact hz1) }; { exact Or.inr (Or.inl (hLo b h9).2) }), aF.2.2⟩, fun b hb => ?_, ⟨aI, aB⟩, hV.add (by omega) (fun q u w e => hup _ _ _ _ e (by decide) (by decide)) hxL e2 hv'⟩
      rcases List.mem_cons.mp hb with h9 | h9
      · subst h9
        rw [show upN ko h1.1 q h1.1 = q from if_pos rfl, upI_at]
        exact ⟨wq, hqo⟩
      · have nx : b ≠ h1.1 := fun e9 => hxL (by rw [← e9]; exact h9)
        rw [show upN ko h1.1 q b = ko b from if_neg nx, upI_ne nx]
        obtain ⟨w9, h8⟩ := hKk b h9
        exact ⟨w9, hup _ _ _ _ h8 (by decide) (by decide)⟩
    · exact absurd a2 (hno a a1)
theorem lt_del {r : Option Nat} (hT : TB sg) (hF : TmF (tg own z 6 h) m L ko vl lf rt pa co root (L.length : Int) mc) (hKk : TmK (tg own z 6 h) L ko key) (hS : TmI L key lf rt pa lo hi root (-1) 1000) (hV : LtV (tg own z 6 h) L key vl sg) (hR0 : R0 own z h) (hz1 : z ≤ h1.1) (hfr : ∀ b, b < z → h1.2.2 b = h.2.2 b) (hwf' : ∀ a c, h'.2.2 a = some c → a < h'.1) (hy : 0 ≤ y ∧ y ≤ 27) (ht : 0 ≤ t ∧ t < 24) (hla : latI sg y t ≠ -1) (P : (∃ a, a ∈ L ∧ key a = 24 * y + t ∧ r = vl a ∧ DelQ h1 h' m L key ko vl (L.length : Int) mc (-1) 1000 a) ∨ (r = none ∧ h1 = h' ∧ ∀ a, a ∈ L → key a ≠ 24 * y + t)) : (h'.1 = h1.1 ∧ h'.2.1 = h1.2.1) ∧ (∀ b, (b ∉ L ∧ b ≠ m) → h'.2.2 b = h1.2.2 b) ∧ (∀ b, b < z → own b ≠ 6 → h'.2.2 b = h.2.2 b) ∧ LtA (tg (ownJ own z 6) h'.1 6 h') m (sgLD sg (latI sg y t)) := by
  have f14 := of14 (hT.1 14)
  have hLo : ∀ a, a ∈ L → a < z ∧ own a = 6 := fun a ha => ⟨(tg_at (hF.2.1 a ha)).2.1, hR0.own (hF.2.1 a ha)⟩
  have hmo : m < z ∧ own m = 6 := ⟨(tg_at hF.1).2.1, hR0.own hF.1⟩
  rcases hV.at_ hT hy ht with ⟨e1, e2⟩ | ⟨e1, e2, e3, a0, a1, a2⟩
  · exact absurd e1 hla
  rcases P with ⟨p, pL, pk, pr, pT, L', key', ko', vl', lf', rt', pa', co', lo', hi', ro', aF, aI, aB, c1, c2, c3, c4⟩ | ⟨-, -, h9⟩
  · have hf2 : ∀ b, (b < z ∧ b ∉ L ∧ b ≠ m) → h'.2.2 b = h1.2.2 b := fun b hb => pT.2.2 b ⟨hb.2.1, hb.2.2⟩
    have hup := lt_up hF hfr hf2 hwf'
    have hinj : ∀ a b, a ∈ L → b ∈ L → key a = key b → a = b := hS.1.2.2.2.2.2.2.2.2.2.2
    have tmk : ∀ b c, h'.2.2 b = some c → b < z → own b = 6 → (tg (ownJ own z 6) h'.1 6 h').2.2 b = some c := fun b c e n n2 => tg_mk e (hwf' _ _ e) (by unfold ownJ; rw [if_pos n]; exact Or.inl n2)
    refine ⟨⟨pT.1, pT.2.1⟩, pT.2.2, fun b hb hn => (hf2 b ⟨hb, fun h9 => hn (hLo b h9).2, fun h9 => by rw [h9] at hn; exact hn hmo.2⟩).trans (hfr b hb), L', ko', key', vl', lf', rt', pa', co', lo', hi', ro', mc + 1, ⟨by rw [show (L'.length : Int) = (L.length : Int) - 1 by omega]; exact tmk _ _ aF.1 hmo.1 hmo.2, fun b hb => tmk _ _ (aF.2.1 b hb) (hLo b (c1 b hb)).1 (hLo b (c1 b hb)).2, aF.2.2⟩, fun b hb => ?_, ⟨aI, aB⟩, hV.del (fun q u w e => hup _ _ _ _ e (by decide) (by decide)) pL (by rw [e2, e3]; exact pk) e1 hinj c2 (fun a ha => by obtain ⟨b, b1, b2, b3, b4, -⟩ := c3 a ha; exact ⟨b, b1, b2, b3, b4⟩) (fun b hb n => by obtain ⟨a, b1, b3, b4, -⟩ := c4 b hb n; exact ⟨a, b1, b3, b4⟩)⟩
    obtain ⟨b2, g1, g2, g3, g4, g5⟩ := c3 b hb
    rw [g3, g5]
    obtain ⟨w9, h8⟩ := hKk b2 g1
    exact ⟨w9, hup _ _ _ _ h8 (by decide) (by decide)⟩
  · exact absurd a2 (h9 a0 a1)
end LTP
section LATE
variable (K : KT) (d : Nat) (own : Nat → Nat) (h : MH) (z x : Nat) (sg : TS)
theorem latR_some {h' : MH} {z : Nat} {sg : TS} {y t : Int} {q : Nat} (H : LatR h' z sg y t (some q)) : latI sg y t ≠ -1 ∧ q < z ∧ h'.2.2 q = some (true, .inr (6, [vi (sg.2 17 (latI sg y t)), vi (sg.2 18 (latI sg y t))])) := by
  rcases H with ⟨-, h9⟩ | ⟨a, h9, h1, h2, h3⟩
  · cases h9
  · cases h9; exact ⟨by omega, h1, h3⟩
theorem remFr {h1 h' : MH} {m : Nat} {L : List Nat} {key : Nat → Int} {ko : Nat → Nat} {vl : Nat → Option Nat} {sz mc LO HI k : Int} {r : Option Nat} (P : (∃ a, a ∈ L ∧ key a = k ∧ r = vl a ∧ DelQ h1 h' m L key ko vl sz mc LO HI a) ∨ (r = none ∧ h1 = h' ∧ ∀ a, a ∈ L → key a ≠ k)) : TFr L m h1 h' := by
  rcases P with ⟨a, -, -, -, t, -⟩ | ⟨-, e, -⟩
  · exact t
  · subst e; exact TFr.refl
theorem u_late (y t c mi : Int) (hd : 9 ≤ d) (hT : TB sg) (hW : WorldO own K h z x sg) (hz1 : z ≤ h.1) (i1 : In y) (i2 : In t) (i3 : In c) (i4 : In mi) (hz : h.1 + 25000 ≤ kC K ∧ h.2.1 + 304000 ≤ kS K) : Mt K yiX1_late d [.ref x, vi y, vi t, vi c, vi mi] h (Rw [RJ14, RJ12, RJ13] fun th v h' => (¬ ((0 ≤ t ∧ t ≤ sg.1 8 - 1) ∧ (0 ≤ c ∧ c ≤ sg.2 10 t - 1)) ∧ th = 1 ∧ QFr h h') ∨ (((0 ≤ t ∧ t ≤ sg.1 8 - 1) ∧ (0 ≤ c ∧ c ≤ sg.2 10 t - 1)) ∧ ¬ ((0 ≤ y ∧ y ≤ 27) ∧ 0 ≤ mi ∧ mi ≤ 120) ∧ th = 2 ∧ QFr h h') ∨ (((0 ≤ t ∧ t ≤ sg.1 8 - 1) ∧ (0 ≤ c ∧ c ≤ sg.2 10 t - 1)) ∧ ((0 ≤ y ∧ y ≤ 27) ∧ 0 ≤ mi ∧ mi ≤ 120) ∧ (latI sg y t = -1 ∧ sg.1 14 = 12 ∧ mi ≠ 0) ∧ th = 3 ∧ QFr h h') ∨ (((0 ≤ t ∧ t ≤ sg.1 8 - 1) ∧ (0 ≤ c ∧ c ≤ sg.2 10 t - 1)) ∧ ((0 ≤ y ∧ y ≤ 27) ∧ mi = 0) ∧ latI sg y t = -1 ∧ th = 0 ∧ QFr h h' ∧ v = 0) ∨ (((0 ≤ t ∧ t ≤ sg.1 8 - 1) ∧ (0 ≤ c ∧ c ≤ sg.2 10 t - 1)) ∧ ((0 ≤ y ∧ y ≤ 27) ∧ mi = 0) ∧ latI sg y t ≠ -1 ∧ th = 0 ∧ MutQ K own h h' z x (sgLD sg (latI sg y t)) ∧ v = sg.2 18 (latI sg y t)) ∨ (((0 ≤ t ∧ t ≤ sg.1 8 - 1) ∧ (0 ≤ c ∧ c ≤ sg.2 10 t - 1)) ∧ ((0 ≤ y ∧ y ≤ 27) ∧ 0 < mi ∧ mi ≤ 120) ∧ (latI sg y t = -1 ∧ sg.1 14 < 12) ∧ th = 0 ∧ MutQ K own h h' z x (sgLA sg y t c mi) ∧ v = 0) ∨ (((0 ≤ t ∧ t ≤ sg.1 8 - 1) ∧ (0 ≤ c ∧ c ≤ sg.2 10 t - 1)) ∧ ((0 ≤ y ∧ y ≤ 27) ∧ 0 < mi ∧ mi ≤ 120) ∧ latI sg y t ≠ -1 ∧ th = 0 ∧ MutQ K own h h' z x (sgLS sg (latI sg y t) y t c mi) ∧ v = sg.2 18 (latI sg y t))) := by
  have f8 := of8 (hT.1 8)
  have f6 := of6 (hT.1 6)
  have f14 := of14 (hT.1 14)
  have := i1.1; have := i1.2; have := i2.1; have := i2.2; have := i3.1; have := i3.2; have := i4.1; have := i4.2
  have hW0 : World K h z x sg := ⟨own, hW⟩
  obtain ⟨e0, cc, ch, wk, sv, tr, lt, ws, tx, se, te, we, kp, sp, tp, wp, T, hKt, hEt, hIt, hxt, hcht, hwkt, hsvt, htrt, hltt, hwst, htxt, hkpt, hR0⟩ := id hW
  obtain ⟨hx, hxz, -⟩ := tg_at hxt
  obtain ⟨hch, hchz, -⟩ := tg_at hcht
  have hxo := hR0.own hxt
  have hcho := hR0.own hcht
  have hE1 := hEt.1
  obtain ⟨hE2, hE2z, -⟩ := tg_at hEt.2
  obtain ⟨k0, k1, k3, k4, k5, k8, k9, k10, k11, k12⟩ := id hKt
  have hwk := And.intro hwkt.1.C hwkt.2
  have hsv := hsvt
  have htr := htrt
  have hlt := hltt
  have hws := hwst
  have htx := htxt
  have hW9 : World K h z x sg := ⟨own, hW⟩
  obtain ⟨L, ko, key, vl, lf, rt, pa, co, lo, hi, root, mc, hF9, hKk, hS9, hV9⟩ := id hlt
  have hV : LtV (tg own z 6 h) L key vl sg := hV9
  have hLn := hV.1
  obtain ⟨hm, hmz, -⟩ := tg_at hF9.1
  have hmo := hR0.own hF9.1
  have n1 : x ≠ lt := ne_oo hx hm (by decide)
  refine mt_ofQ (by decide) (Nat.le_of_ble_eq_true rfl) (fun Q hQ => ?_)
  show MW K yiX1_late d h 0 [some (.ref x), some (vi y), some (vi t), some (vi c), some (vi mi), none, none, none] [] Q
  refine mw_wf (fun hwf => ?_)
  have l_hx := hwf _ _ hx
  have l_hm := hwf _ _ hm
  have fR : ∀ b, (b < h.1) → h.2.2 b = h.2.2 b := fun _ _ => rfl
  have fL : ∀ b, (b < h.1 ∧ b ∉ L ∧ b ≠ lt) → h.2.2 b = h.2.2 b := fun _ _ => rfl
  refine m_aload_n (y := yiX1_late) dX1_late_0 rfl ?_
  refine j_iload_n (y := yiX1_late) dX1_late_1 rfl ?_
  refine j_iload_n (y := yiX1_late) dX1_late_2 rfl ?_
  by_cases c3 : (0 ≤ t ∧ t ≤ sg.1 8 - 1) ∧ 0 ≤ c ∧ c ≤ sg.2 10 t - 1
  · refine m_invV (y := yiX1_late) (rB := (RX1, TX1, 10)) [(vi t), (vi c)] dX1_late_3 hx rfl q1205 q1207 qs13 q123 q1208 rfl (c_callOf_1 K 4 h z x sg t c (by omega) hT hW9 c3.1 c3.2) pdX1_callOf ⟨Nat.le_of_ble_eq_true rfl, by decide, by omega⟩ (kk_r fun r3 h3 q3 => ?_) kx_r
    obtain ⟨rfl, hc3⟩ := q3
    refine m_astore (y := yiX1_late) dX1_late_6 (by decide) rfl ?_
    show MW K yiX1_late d h 8 [some (.ref x), some (vi y), some (vi t), some (vi c), some (vi mi), some (.ref r3), none, none] [] Q
    refine j_iload_n (y := yiX1_late) dX1_late_8 rfl ?_
    refine m_invS (y := yiX1_late) [(vi y)] dX1_late_9 q1049 q1050 q123 q1051 (c_X1_isDay K 1 h y (by omega) ⟨by omega, by omega⟩) pdX1_isDay ⟨Nat.le_of_ble_eq_true rfl, by decide, by omega⟩ (kk_z fun r9 h9 q9 => ?_) kx_z
    obtain ⟨rfl, rfl⟩ := q9
    refine mw_top (x' := bz (0 ≤ y ∧ y ≤ 27)) rfl ?_
    refine j_bz_eq (y := yiX1_late) 30 dX1_late_12 (by decide) (fun c12 => ?_) (fun c12 => ?_)
    · refine j_iconst (y := yiX1_late) dX1_late_30 ?_
      refine m_invS (y := yiX1_late) [(vi 0)] dX1_late_31 q853 q854 q123 q855 (c_X1_require_0 K 6 h (by omega) ⟨by omega, by omega⟩) pdX1_require ⟨Nat.le_of_ble_eq_true rfl, by decide, by omega⟩ kk_t (kx_t fun q31 h31 x31 => ?_)
      subst hQ; exact mx_ret rfl (Or.inr ⟨1, RJ12, q31, rfl, rfl, fun _ => Or.inr (Or.inl ⟨c3, by omega, rfl, QFr.th x31 ⟨by omega, by omega⟩ ⟨by omega, by omega⟩ (fun _ _ => rfl)⟩)⟩)
    · refine j_iload (y := yiX1_late) dX1_late_15 rfl ?_
      refine j_iconst (y := yiX1_late) dX1_late_17 ?_
      refine j_bipush (y := yiX1_late) dX1_late_18 (by decide) ?_
      refine m_invS (y := yiX1_late) [(vi mi), (vi 0), (vi 120)] dX1_late_20 q850 q851 q123 q852 (c_X1_isBetween K 0 h mi 0 120 ⟨by omega, by omega⟩ ⟨by omega, by omega⟩ ⟨by omega, by omega⟩) pdX1_isBetween ⟨Nat.le_of_ble_eq_true rfl, by decide, by omega⟩ (kk_z fun r20 h20 q20 => ?_) kx_z
      obtain ⟨rfl, rfl⟩ := q20
      refine mw_top (x' := bz (0 ≤ mi ∧ mi ≤ 120)) rfl ?_
      refine j_bz_eq (y := yiX1_late) 30 dX1_late_23 (by decide) (fun c23 => ?_) (fun c23 => ?_)
      · refine j_iconst (y := yiX1_late) dX1_late_30 ?_
        refine m_invS (y := yiX1_late) [(vi 0)] dX1_late_31 q853 q854 q123 q855 (c_X1_require_0 K 6 h (by omega) ⟨by omega, by omega⟩) pdX1_require ⟨Nat.le_of_ble_eq_true rfl, by decide, by omega⟩ kk_t (kx_t fun q31 h31 x31 => ?_)
        subst hQ; exact mx_ret rfl (Or.inr ⟨1, RJ12, q31, rfl, rfl, fun _ => Or.inr (Or.inl ⟨c3, by omega, rfl, QFr.th x31 ⟨by omega, by omega⟩ ⟨by omega, by omega⟩ (fun _ _ => rfl)⟩)⟩)
      · refine j_iconst (y := yiX1_late) dX1_late_26 ?_
        refine m_goto (y := yiX1_late) 31 dX1_late_27 (by decide) ?_
        refine m_invS (y := yiX1_late) [(vi 1)] dX1_late_31 q853 q854 q123 q855 (c_X1_require_1 K 0 h) pdX1_require ⟨Nat.le_of_ble_eq_true rfl, by decide, by omega⟩ (kk_v fun h31 q31 => ?_) kx_v
        obtain rfl := q31
        refine m_aload_n (y := yiX1_late) dX1_late_34 rfl ?_
        refine j_iload_n (y := yiX1_late) dX1_late_35 rfl ?_
        refine j_iload_n (y := yiX1_late) dX1_late_36 rfl ?_
        refine m_invV (y := yiX1_late) (rB := (RX1, TX1, 10)) [(vi y), (vi t)] dX1_late_37 hx rfl q1489 q1491 qs20 q123 q1492 rfl (c_X1_lateOf K 5 h z x sg y t (by omega) hT hW9 hz1 ⟨by omega, by omega⟩ ⟨by omega, by omega⟩ ⟨by omega, by omega⟩) pdX1_lateOf ⟨Nat.le_of_ble_eq_true rfl, by decide, by omega⟩ (kk_q fun r37 h37 q37 => ?_) kx_q
        obtain ⟨hr37, q37, z37, fr37⟩ := q37
        have hx : h37.2.2 x = some (true, .inr (0, [(.ref ch), (.ref wk), (vi (sg.1 1)), (.ref sv), (.ref tr), (.ref lt), (.ref ws), (.ref tx), (vi (sg.1 21)), (va_rf kp)])) := (fr37 _ (by first | omega | exact ⟨by omega, hb.2.1, hb.2.2⟩ | exact ⟨hb.2.1, hb.2.2⟩)).trans hx
        have hm : h37.2.2 lt = some (true, .inr (17, [.null, .null, .null, (va_rf root), (vi (L.length : Int)), (vi mc), .null, .null, .null])) := (fr37 _ (by first | omega | exact ⟨by omega, hb.2.1, hb.2.2⟩ | exact ⟨hb.2.1, hb.2.2⟩)).trans hm
        have fR : ∀ b, (b < h.1) → h37.2.2 b = h.2.2 b := fun b hb => (fr37 b (by first | omega | exact ⟨by omega, hb.2.1, hb.2.2⟩ | exact ⟨hb.2.1, hb.2.2⟩)).trans (fR b hb)
        have fL : ∀ b, (b < h.1 ∧ b ∉ L ∧ b ≠ lt) → h37.2.2 b = h.2.2 b := fun b hb => (fr37 b (by first | omega | exact ⟨by omega, hb.2.1, hb.2.2⟩ | exact ⟨hb.2.1, hb.2.2⟩)).trans (fL b hb)
        refine mw_wf (fun hwf37 => ?_)
        refine m_astoreq (y := yiX1_late) dX1_late_40 (by decide) rfl ?_
        show MW K yiX1_late d h37 42 [some (.ref x), some (vi y), some (vi t), some (vi c), some (vi mi), some (.ref r3), some (va_rf r37), none] [] Q
        refine m_aloadq (y := yiX1_late) dX1_late_42 rfl ?_
        refine m_ifnonnull (y := yiX1_late) 64 dX1_late_44 (by decide) (fun a44 c44 => ?_) (fun c44 => ?_)
        · subst c44
          refine j_iconst (y := yiX1_late) dX1_late_64 ?_
          refine m_goto (y := yiX1_late) 69 dX1_late_65 (by decide) ?_
          refine m_invS (y := yiX1_late) [(vi 1)] dX1_late_69 q861 q862 q123 q863 (c_X1_requireState_1 K 0 h37) pdX1_requireState ⟨Nat.le_of_ble_eq_true rfl, by decide, by omega⟩ (kk_v fun h69 q69 => ?_) kx_v
          obtain rfl := q69
          refine j_bipush (y := yiX1_late) dX1_late_72 (by decide) ?_
          refine j_iload_n (y := yiX1_late) dX1_late_74 rfl ?_
          refine j_imul (y := yiX1_late) dX1_late_75 ?_
          refine j_iload_n (y := yiX1_late) dX1_late_76 rfl ?_
          refine j_iadd (y := yiX1_late) dX1_late_77 ?_
          refine j_istore (y := yiX1_late) [some (.ref x), some (vi y), some (vi t), some (vi c), some (vi mi), some (.ref r3), some (.ref a44), some (vi ((24 * y) + t))] dX1_late_78 (by decide) rfl rfl ?_
          refine j_iload (y := yiX1_late) dX1_late_80 rfl ?_
          refine j_if_le (y := yiX1_late) 111 dX1_late_82 (by decide) ⟨by omega, by omega⟩ (fun c82 => ?_) (fun c82 => ?_)
          · refine m_aload (y := yiX1_late) dX1_late_111 rfl ?_
            refine m_ifnull (y := yiX1_late) (x := (some a44)) 129 dX1_late_113 (by decide) (fun h9 => nomatch h9) (fun _ _ => ?_)
            refine m_aload_n (y := yiX1_late) dX1_late_116 rfl ?_
            refine m_getfS (y := yiX1_late) kc_0 5 (by decide) dX1_late_117 q303 hx rfl ?_
            refine j_iload (y := yiX1_late) dX1_late_120 rfl ?_
            refine m_invS (y := yiX1_late) [(vi ((24 * y) + t))] dX1_late_122 q1493 q1379 q151 q1380 (c_J25_valueOf2 K 3 h37 (tg own z 0 h) cc _ (by omega) k9 k10 hIt (fun b c9 e9 => (fR b (by have := (tg_at e9).2.1; omega)).trans (tg_at e9).1) ⟨by omega, by omega⟩ ⟨by omega, by omega⟩) pdJ25_valueOf ⟨Nat.le_of_ble_eq_true rfl, by decide, by omega⟩ (kk_r fun r122 h122 q122 => ?_) kx_r
            obtain ⟨q1, q2, q3, q4, q5, q6⟩ := q122
            have hx : h122.2.2 x = some (true, .inr (0, [(.ref ch), (.ref wk), (vi (sg.1 1)), (.ref sv), (.ref tr), (.ref lt), (.ref ws), (.ref tx), (vi (sg.1 21)), (va_rf kp)])) := (q5 _ (by first | omega | exact ⟨by omega, hb.2.1, hb.2.2⟩ | exact ⟨hb.2.1, hb.2.2⟩)).trans hx
            have hm : h122.2.2 lt = some (true, .inr (17, [.null, .null, .null, (va_rf root), (vi (L.length : Int)), (vi mc), .null, .null, .null])) := (q5 _ (by first | omega | exact ⟨by omega, hb.2.1, hb.2.2⟩ | exact ⟨hb.2.1, hb.2.2⟩)).trans hm
            have fR : ∀ b, (b < h.1) → h122.2.2 b = h.2.2 b := fun b hb => (q5 b (by first | omega | exact ⟨by omega, hb.2.1, hb.2.2⟩ | exact ⟨hb.2.1, hb.2.2⟩)).trans (fR b hb)
            have fL : ∀ b, (b < h.1 ∧ b ∉ L ∧ b ≠ lt) → h122.2.2 b = h.2.2 b := fun b hb => (q5 b (by first | omega | exact ⟨by omega, hb.2.1, hb.2.2⟩ | exact ⟨hb.2.1, hb.2.2⟩)).trans (fL b hb)
            refine mw_wf (fun hwf122 => ?_)
            obtain ⟨wr, q1'⟩ := q1
            have hFx : TmF h122 lt L ko vl lf rt pa co root (L.length : Int) mc := hF9.up (fun b c9 e9 => (fR b (by have := (tg_at e9).2.1; omega)).trans (tg_at e9).1)
            have hKx : TmK h122 L ko key := hKk.up (fun b c9 e9 => (fR b (by have := (tg_at e9).2.1; omega)).trans (tg_at e9).1)
            have fz125 : ∀ b, b < z → h122.2.2 b = h.2.2 b := fun b hb => fR b (by omega)
            have hz125 : z ≤ h122.1 := by omega
            have q1' : h122.2.2 r122 = some (wr, .inr (22, [(vi ((24 * y) + t))])) := q1'
            have l_q1' := hwf122 _ _ q1'
            refine m_invV (y := yiX1_late) (rB := (RJ4, TJ4, 9)) [(.ref r122)] dX1_late_125 hm rfl q1820 q1821 q1822 q128 q1823 rfl (c_J4_remove (d := 4) (by omega) hFx hKx hS9.1 hS9.2 ⟨by omega, by omega⟩ q1' ⟨by omega, by omega⟩) pdJ4_remove ⟨Nat.le_of_ble_eq_true rfl, by decide, by omega⟩ (kk_q fun r125 h125 q125 => ?_) kx_q
            obtain q125 := q125
            have y125 := (remFr q125).1
            have z125 := (remFr q125).2.1
            have fL : ∀ b, (b < h.1 ∧ b ∉ L ∧ b ≠ lt) → h125.2.2 b = h.2.2 b := fun b hb => ((remFr q125).2.2 b (by first | omega | exact ⟨by omega, hb.2.1, hb.2.2⟩ | exact ⟨hb.2.1, hb.2.2⟩)).trans (fL b hb)
            refine mw_wf (fun hwf125 => ?_)
            obtain ⟨hl38, -, -⟩ := latR_some hr37
            have R128 := lt_del hT hF9 hKk hS9.1 hV hR0 hz125 fz125 hwf125 ⟨by omega, by omega⟩ ⟨by omega, by omega⟩ hl38 q125
            have eJ := R128.2.2.1
            have hL9 := R128.2.2.2
            have U := upO (j := 6) (by decide) (show z ≤ h125.1 by omega) eJ
            have hM2 : MutQ K own h h125 z x (sgLD sg (latI sg y t)) := ⟨ownJ own z 6, fun b hb => if_pos hb, ⟨e0, cc, ch, wk, sv, tr, lt, ws, tx, se, te, we, kp, sp, tp, wp, T, hKt, (by rw [U 0 (by decide)]; exact hEt), (by rw [U 0 (by decide)]; exact hIt), (by rw [U 1 (by decide)]; exact hxt), (by rw [U 2 (by decide)]; exact hcht), (by rw [U 3 (by decide)]; exact hwkt), ⟨by rw [U 4 (by decide)]; exact hsvt.1, fun s a b => by rw [U (100 + s.toNat) (by have b9 : s < sg.1 6 := b; omega)]; exact hsvt.2 s a b⟩, ⟨by rw [U 5 (by decide)]; exact htrt.1, fun t a b => by rw [U (200 + t.toNat) (by have b9 : t < sg.1 8 := b; omega)]; exact htrt.2 t a b⟩, hL9, ⟨by rw [U 7 (by decide)]; exact hwst.1, fun w a b => by rw [U 7 (by decide)]; exact hwst.2 w a b⟩, (by rw [U 8 (by decide)]; exact htxt), (by rw [U 9 (by decide)]; exact hkpt), hR0.up (J := fun q => q = 6) (fun b hb => if_pos hb) (fun b hb => if_neg (by omega)) (by decide) eJ⟩, fun b hb h10 => eJ b hb (by omega), by omega, by omega⟩
            refine m_pop (y := yiX1_late) dX1_late_128 va_rf_1 ?_
            refine m_aload (y := yiX1_late) dX1_late_129 rfl ?_
            refine m_ifnonnull (y := yiX1_late) (x := (some a44)) 136 dX1_late_131 (by decide) (fun _ _ => ?_) (fun h9 => nomatch h9)
            obtain ⟨hl38, hz44, hc44⟩ := latR_some hr37
            have hc45 := (fr37 _ (by omega)).symm.trans hc44
            have nL44 : a44 ∉ L := fun h9 => ne_oo hc45 (tg_at (hF9.2.1 a44 h9)).1 (by decide) rfl
            have nm44 : a44 ≠ lt := ne_oo hc45 (tg_at hF9.1).1 (by decide)
            refine m_aload (y := yiX1_late) dX1_late_136 rfl ?_
            have hc46 : h125.2.2 a44 = some (true, .inr (6, [(vi (sg.2 17 (latI sg y t))), (vi (sg.2 18 (latI sg y t)))])) := (fL _ ⟨by omega, nL44, nm44⟩).trans hc45
            have l_hc46 := hwf125 _ _ hc46
            refine m_invV (y := yiX1_late) (rB := (RX7, TX7, 2)) [] dX1_late_138 hc46 rfl q1835 q1836 q1837 q165 q1838 rfl (c_X7_minutes (d := 0) hc46) pdX7_minutes ⟨Nat.le_of_ble_eq_true rfl, by decide, by omega⟩ (kk_z fun r138 h138 q138 => ?_) kx_z
            obtain ⟨rfl, rfl⟩ := q138
            refine mw_top (x' := (sg.2 18 (latI sg y t))) rfl ?_
            subst hQ; exact j_wret (y := yiX1_late) dX1_late_141 rfl (Or.inr (Or.inr (Or.inr (Or.inr (Or.inl ⟨c3, ⟨by omega, by omega⟩, hl38, rfl, hM2, rfl⟩)))))
          · refine m_aload_n (y := yiX1_late) dX1_late_85 rfl ?_
            refine m_getfS (y := yiX1_late) kc_0 5 (by decide) dX1_late_86 q303 hx rfl ?_
            refine j_iload (y := yiX1_late) dX1_late_89 rfl ?_
            refine m_invS (y := yiX1_late) [(vi ((24 * y) + t))] dX1_late_91 q1493 q1379 q151 q1380 (c_J25_valueOf2 K 3 h37 (tg own z 0 h) cc _ (by omega) k9 k10 hIt (fun b c9 e9 => (fR b (by have := (tg_at e9).2.1; omega)).trans (tg_at e9).1) ⟨by omega, by omega⟩ ⟨by omega, by omega⟩) pdJ25_valueOf ⟨Nat.le_of_ble_eq_true rfl, by decide, by omega⟩ (kk_r fun r91 h91 q91 => ?_) kx_r
            obtain ⟨q1, q2, q3, q4, q5, q6⟩ := q91
            have hx : h91.2.2 x = some (true, .inr (0, [(.ref ch), (.ref wk), (vi (sg.1 1)), (.ref sv), (.ref tr), (.ref lt), (.ref ws), (.ref tx), (vi (sg.1 21)), (va_rf kp)])) := (q5 _ (by first | omega | exact ⟨by omega, hb.2.1, hb.2.2⟩ | exact ⟨hb.2.1, hb.2.2⟩)).trans hx
            have hm : h91.2.2 lt = some (true, .inr (17, [.null, .null, .null, (va_rf root), (vi (L.length : Int)), (vi mc), .null, .null, .null])) := (q5 _ (by first | omega | exact ⟨by omega, hb.2.1, hb.2.2⟩ | exact ⟨hb.2.1, hb.2.2⟩)).trans hm
            have fR : ∀ b, (b < h.1) → h91.2.2 b = h.2.2 b := fun b hb => (q5 b (by first | omega | exact ⟨by omega, hb.2.1, hb.2.2⟩ | exact ⟨hb.2.1, hb.2.2⟩)).trans (fR b hb)
            have fL : ∀ b, (b < h.1 ∧ b ∉ L ∧ b ≠ lt) → h91.2.2 b = h.2.2 b := fun b hb => (q5 b (by first | omega | exact ⟨by omega, hb.2.1, hb.2.2⟩ | exact ⟨hb.2.1, hb.2.2⟩)).trans (fL b hb)
            refine mw_wf (fun hwf91 => ?_)
            obtain ⟨wr, q1'⟩ := q1
            have hq91 : z ≤ r91 ∨ IgA (tg own z 0 h) r91 (24 * y + t) := q6.imp (fun h9 => by omega) id
            have q1' : h91.2.2 r91 = some (wr, .inr (22, [(vi ((24 * y) + t))])) := q1'
            have l_q1' := hwf91 _ _ q1'
            refine m_new (y := yiX1_late) kc_6 2 dX1_late_94 q1731 q1732 q165 _ rfl ⟨by omega, by omega⟩ (hp_new fun g1 g1H => ?_)
            have hx : g1.2.2 x = some (true, .inr (0, [(.ref ch), (.ref wk), (vi (sg.1 1)), (.ref sv), (.ref tr), (.ref lt), (.ref ws), (.ref tx), (vi (sg.1 21)), (va_rf kp)])) := (g1H.2.2.2 _ (by first | omega | exact ⟨by omega, hb.2.1, hb.2.2⟩ | exact ⟨hb.2.1, hb.2.2⟩)).trans hx
            have hm : g1.2.2 lt = some (true, .inr (17, [.null, .null, .null, (va_rf root), (vi (L.length : Int)), (vi mc), .null, .null, .null])) := (g1H.2.2.2 _ (by first | omega | exact ⟨by omega, hb.2.1, hb.2.2⟩ | exact ⟨hb.2.1, hb.2.2⟩)).trans hm
            have q1' : g1.2.2 r91 = some (wr, .inr (22, [(vi ((24 * y) + t))])) := (g1H.2.2.2 _ (by first | omega | exact ⟨by omega, hb.2.1, hb.2.2⟩ | exact ⟨hb.2.1, hb.2.2⟩)).trans q1'
            have fR : ∀ b, (b < h.1) → g1.2.2 b = h.2.2 b := fun b hb => (g1H.2.2.2 b (by first | omega | exact ⟨by omega, hb.2.1, hb.2.2⟩ | exact ⟨hb.2.1, hb.2.2⟩)).trans (fR b hb)
            have fL : ∀ b, (b < h.1 ∧ b ∉ L ∧ b ≠ lt) → g1.2.2 b = h.2.2 b := fun b hb => (g1H.2.2.2 b (by first | omega | exact ⟨by omega, hb.2.1, hb.2.2⟩ | exact ⟨hb.2.1, hb.2.2⟩)).trans (fL b hb)
            have fg1 : g1.2.2 h91.1 = some (true, .inr (6, [(vi 0), (vi 0)])) := g1H.2.2.1
            have g11 := g1H.1
            have g12 := g1H.2.1
            refine m_dup (y := yiX1_late) dX1_late_97 rfl ?_
            refine j_iload_n (y := yiX1_late) dX1_late_98 rfl ?_
            refine j_iload (y := yiX1_late) dX1_late_99 rfl ?_
            refine m_invIN (y := yiX1_late) [(vi c), (vi mi)] dX1_late_101 q1733 q1734 q165 q1735 rfl rfl (c_X7_init c mi (d := 2) (by omega) fg1) pdX7_init ⟨Nat.le_of_ble_eq_true rfl, by decide, by omega⟩ (kk_v fun h101 q101 => ?_) kx_v
            obtain q101 := q101
            have y101 := q101.1
            have z101 := q101.2.1
            have fg1 := q101.2.2.1
            have hx : h101.2.2 x = some (true, .inr (0, [(.ref ch), (.ref wk), (vi (sg.1 1)), (.ref sv), (.ref tr), (.ref lt), (.ref ws), (.ref tx), (vi (sg.1 21)), (va_rf kp)])) := (q101.2.2.2 _ (by first | omega | exact ⟨by omega, hb.2.1, hb.2.2⟩ | exact ⟨hb.2.1, hb.2.2⟩)).trans hx
            have hm : h101.2.2 lt = some (true, .inr (17, [.null, .null, .null, (va_rf root), (vi (L.length : Int)), (vi mc), .null, .null, .null])) := (q101.2.2.2 _ (by first | omega | exact ⟨by omega, hb.2.1, hb.2.2⟩ | exact ⟨hb.2.1, hb.2.2⟩)).trans hm
            have q1' : h101.2.2 r91 = some (wr, .inr (22, [(vi ((24 * y) + t))])) := (q101.2.2.2 _ (by first | omega | exact ⟨by omega, hb.2.1, hb.2.2⟩ | exact ⟨hb.2.1, hb.2.2⟩)).trans q1'
            have fR : ∀ b, (b < h.1) → h101.2.2 b = h.2.2 b := fun b hb => (q101.2.2.2 b (by first | omega | exact ⟨by omega, hb.2.1, hb.2.2⟩ | exact ⟨hb.2.1, hb.2.2⟩)).trans (fR b hb)
            have fL : ∀ b, (b < h.1 ∧ b ∉ L ∧ b ≠ lt) → h101.2.2 b = h.2.2 b := fun b hb => (q101.2.2.2 b (by first | omega | exact ⟨by omega, hb.2.1, hb.2.2⟩ | exact ⟨hb.2.1, hb.2.2⟩)).trans (fL b hb)
            refine mw_wf (fun hwf101 => ?_)
            have l_fg1101 := hwf101 _ _ fg1
            have hFx : TmF h101 lt L ko vl lf rt pa co root (L.length : Int) mc := hF9.up (fun b c9 e9 => (fR b (by have := (tg_at e9).2.1; omega)).trans (tg_at e9).1)
            have hKx : TmK h101 L ko key := hKk.up (fun b c9 e9 => (fR b (by have := (tg_at e9).2.1; omega)).trans (tg_at e9).1)
            have fz104 : ∀ b, b < z → h101.2.2 b = h.2.2 b := fun b hb => fR b (by omega)
            have fv104 := q101.2.2.1
            have fk104 := q1'
            have hwfA := hwf101
            refine m_invV (y := yiX1_late) (rB := (RJ4, TJ4, 9)) [(.ref r91), (.ref h91.1)] dX1_late_104 hm rfl q1744 q1745 q1746 q128 q1747 rfl (c_J4_put (d := 6) (by omega) hFx hKx hS9.1 hS9.2 ⟨by omega, by omega⟩ q1' ⟨by omega, by omega⟩ ⟨by omega, by omega⟩) pdJ4_put ⟨Nat.le_of_ble_eq_true rfl, by decide, by omega⟩ (kk_q fun r104 h104 q104 => ?_) kx_q
            obtain q104 := q104
            have y104 := q104.fr.1
            have z104 := q104.fr.2.1
            have fL : ∀ b, (b < h.1 ∧ b ∉ L ∧ b ≠ lt) → h104.2.2 b = h.2.2 b := fun b hb => (q104.fr.2.2 b (by first | omega | exact ⟨by omega, hb.2.1, hb.2.2⟩ | exact ⟨hb.2.1, hb.2.2⟩)).trans (fL b hb)
            refine mw_wf (fun hwf104 => ?_)
            have R107 := lt_put hT hF9 hKk hS9.1 hV hR0 (by omega) fz104 fk104 hq91 fv104 (by omega) hwfA hwf104 ⟨by omega, by omega⟩ ⟨by omega, by omega⟩ q104
            have eJ := R107.1
            have U := upO (j := 6) (by decide) (show z ≤ h104.1 by omega) eJ
            have hM0 : latI sg y t = -1 → MutQ K own h h104 z x (sgLA sg y t c mi) := fun e9 => by { rcases R107.2 with ⟨-, hL9⟩ | ⟨h9, -⟩; { exact ⟨ownJ own z 6, fun b hb => if_pos hb, ⟨e0, cc, ch, wk, sv, tr, lt, ws, tx, se, te, we, kp, sp, tp, wp, T, hKt, (by rw [U 0 (by decide)]; exact hEt), (by rw [U 0 (by decide)]; exact hIt), (by rw [U 1 (by decide)]; exact hxt), (by rw [U 2 (by decide)]; exact hcht), (by rw [U 3 (by decide)]; exact hwkt), ⟨by rw [U 4 (by decide)]; exact hsvt.1, fun s a b => by rw [U (100 + s.toNat) (by have b9 : s < sg.1 6 := b; omega)]; exact hsvt.2 s a b⟩, ⟨by rw [U 5 (by decide)]; exact htrt.1, fun t a b => by rw [U (200 + t.toNat) (by have b9 : t < sg.1 8 := b; omega)]; exact htrt.2 t a b⟩, hL9, ⟨by rw [U 7 (by decide)]; exact hwst.1, fun w a b => by rw [U 7 (by decide)]; exact hwst.2 w a b⟩, (by rw [U 8 (by decide)]; exact htxt), (by rw [U 9 (by decide)]; exact hkpt), hR0.up (J := fun q => q = 6) (fun b hb => if_pos hb) (fun b hb => if_neg (by omega)) (by decide) eJ⟩, fun b hb h10 => eJ b hb (by omega), by omega, by omega⟩ }; { exact absurd e9 h9 } }
            have hM1 : latI sg y t ≠ -1 → MutQ K own h h104 z x (sgLS sg (latI sg y t) y t c mi) := fun e9 => by { rcases R107.2 with ⟨h9, -⟩ | ⟨-, hL9⟩; { exact absurd h9 e9 }; { exact ⟨ownJ own z 6, fun b hb => if_pos hb, ⟨e0, cc, ch, wk, sv, tr, lt, ws, tx, se, te, we, kp, sp, tp, wp, T, hKt, (by rw [U 0 (by decide)]; exact hEt), (by rw [U 0 (by decide)]; exact hIt), (by rw [U 1 (by decide)]; exact hxt), (by rw [U 2 (by decide)]; exact hcht), (by rw [U 3 (by decide)]; exact hwkt), ⟨by rw [U 4 (by decide)]; exact hsvt.1, fun s a b => by rw [U (100 + s.toNat) (by have b9 : s < sg.1 6 := b; omega)]; exact hsvt.2 s a b⟩, ⟨by rw [U 5 (by decide)]; exact htrt.1, fun t a b => by rw [U (200 + t.toNat) (by have b9 : t < sg.1 8 := b; omega)]; exact htrt.2 t a b⟩, hL9, ⟨by rw [U 7 (by decide)]; exact hwst.1, fun w a b => by rw [U 7 (by decide)]; exact hwst.2 w a b⟩, (by rw [U 8 (by decide)]; exact htxt), (by rw [U 9 (by decide)]; exact hkpt), hR0.up (J := fun q => q = 6) (fun b hb => if_pos hb) (fun b hb => if_neg (by omega)) (by decide) eJ⟩, fun b hb h10 => eJ b hb (by omega), by omega, by omega⟩ } }
            refine m_pop (y := yiX1_late) dX1_late_107 va_rf_1 ?_
            refine m_goto (y := yiX1_late) 129 dX1_late_108 (by decide) ?_
            refine m_aload (y := yiX1_late) dX1_late_129 rfl ?_
            refine m_ifnonnull (y := yiX1_late) (x := (some a44)) 136 dX1_late_131 (by decide) (fun _ _ => ?_) (fun h9 => nomatch h9)
            obtain ⟨hl38, hz44, hc44⟩ := latR_some hr37
            have hc45 := (fr37 _ (by omega)).symm.trans hc44
            have nL44 : a44 ∉ L := fun h9 => ne_oo hc45 (tg_at (hF9.2.1 a44 h9)).1 (by decide) rfl
            have nm44 : a44 ≠ lt := ne_oo hc45 (tg_at hF9.1).1 (by decide)
            refine m_aload (y := yiX1_late) dX1_late_136 rfl ?_
            have hc46 : h104.2.2 a44 = some (true, .inr (6, [(vi (sg.2 17 (latI sg y t))), (vi (sg.2 18 (latI sg y t)))])) := (fL _ ⟨by omega, nL44, nm44⟩).trans hc45
            have l_hc46 := hwf104 _ _ hc46
            refine m_invV (y := yiX1_late) (rB := (RX7, TX7, 2)) [] dX1_late_138 hc46 rfl q1835 q1836 q1837 q165 q1838 rfl (c_X7_minutes (d := 0) hc46) pdX7_minutes ⟨Nat.le_of_ble_eq_true rfl, by decide, by omega⟩ (kk_z fun r138 h138 q138 => ?_) kx_z
            obtain ⟨rfl, rfl⟩ := q138
            refine mw_top (x' := (sg.2 18 (latI sg y t))) rfl ?_
            subst hQ; exact j_wret (y := yiX1_late) dX1_late_141 rfl (Or.inr (Or.inr (Or.inr (Or.inr (Or.inr (Or.inr ⟨c3, ⟨by omega, by omega, by omega⟩, hl38, rfl, hM1 hl38, rfl⟩))))))
        · subst c44
          have hl37 : latI sg y t = -1 := by { rcases hr37 with ⟨h9, -⟩ | ⟨q, h9, -⟩; { exact h9 }; { cases h9 } }
          refine j_iload (y := yiX1_late) dX1_late_47 rfl ?_
          refine j_if_eq (y := yiX1_late) 64 dX1_late_49 (by decide) ⟨by omega, by omega⟩ (fun c49 => ?_) (fun c49 => ?_)
          · refine j_iconst (y := yiX1_late) dX1_late_64 ?_
            refine m_goto (y := yiX1_late) 69 dX1_late_65 (by decide) ?_
            refine m_invS (y := yiX1_late) [(vi 1)] dX1_late_69 q861 q862 q123 q863 (c_X1_requireState_1 K 0 h37) pdX1_requireState ⟨Nat.le_of_ble_eq_true rfl, by decide, by omega⟩ (kk_v fun h69 q69 => ?_) kx_v
            obtain rfl := q69
            refine j_bipush (y := yiX1_late) dX1_late_72 (by decide) ?_
            refine j_iload_n (y := yiX1_late) dX1_late_74 rfl ?_
            refine j_imul (y := yiX1_late) dX1_late_75 ?_
            refine j_iload_n (y := yiX1_late) dX1_late_76 rfl ?_
            refine j_iadd (y := yiX1_late) dX1_late_77 ?_
            refine j_istore (y := yiX1_late) [some (.ref x), some (vi y), some (vi t), some (vi c), some (vi mi), some (.ref r3), some .null, some (vi ((24 * y) + t))] dX1_late_78 (by decide) rfl rfl ?_
            refine j_iload (y := yiX1_late) dX1_late_80 rfl ?_
            refine j_if_le (y := yiX1_late) 111 dX1_late_82 (by decide) ⟨by omega, by omega⟩ (fun c82 => ?_) (fun c82 => ?_)
            · refine m_aloadN (y := yiX1_late) dX1_late_111 rfl ?_
              refine m_ifnull (y := yiX1_late) (x := none) 129 dX1_late_113 (by decide) (fun _ => ?_) (fun _ h9 => nomatch h9)
              refine m_aloadN (y := yiX1_late) dX1_late_129 rfl ?_
              refine m_ifnonnull (y := yiX1_late) (x := none) 136 dX1_late_131 (by decide) (fun _ h9 => nomatch h9) (fun _ => ?_)
              refine j_iconst (y := yiX1_late) dX1_late_134 ?_
              subst hQ; exact j_wret (y := yiX1_late) dX1_late_135 rfl (Or.inr (Or.inr (Or.inr (Or.inl ⟨c3, ⟨by omega, by omega⟩, hl37, rfl, QFr.of (by omega) (by omega) fR, rfl⟩))))
            · refine m_aload_n (y := yiX1_late) dX1_late_85 rfl ?_
              refine m_getfS (y := yiX1_late) kc_0 5 (by decide) dX1_late_86 q303 hx rfl ?_
              refine j_iload (y := yiX1_late) dX1_late_89 rfl ?_
              refine m_invS (y := yiX1_late) [(vi ((24 * y) + t))] dX1_late_91 q1493 q1379 q151 q1380 (c_J25_valueOf2 K 3 h37 (tg own z 0 h) cc _ (by omega) k9 k10 hIt (fun b c9 e9 => (fR b (by have := (tg_at e9).2.1; omega)).trans (tg_at e9).1) ⟨by omega, by omega⟩ ⟨by omega, by omega⟩) pdJ25_valueOf ⟨Nat.le_of_ble_eq_true rfl, by decide, by omega⟩ (kk_r fun r91 h91 q91 => ?_) kx_r
              obtain ⟨q1, q2, q3, q4, q5, q6⟩ := q91
              have hx : h91.2.2 x = some (true, .inr (0, [(.ref ch), (.ref wk), (vi (sg.1 1)), (.ref sv), (.ref tr), (.ref lt), (.ref ws), (.ref tx), (vi (sg.1 21)), (va_rf kp)])) := (q5 _ (by first | omega | exact ⟨by omega, hb.2.1, hb.2.2⟩ | exact ⟨hb.2.1, hb.2.2⟩)).trans hx
              have hm : h91.2.2 lt = some (true, .inr (17, [.null, .null, .null, (va_rf root), (vi (L.length : Int)), (vi mc), .null, .null, .null])) := (q5 _ (by first | omega | exact ⟨by omega, hb.2.1, hb.2.2⟩ | exact ⟨hb.2.1, hb.2.2⟩)).trans hm
              have fR : ∀ b, (b < h.1) → h91.2.2 b = h.2.2 b := fun b hb => (q5 b (by first | omega | exact ⟨by omega, hb.2.1, hb.2.2⟩ | exact ⟨hb.2.1, hb.2.2⟩)).trans (fR b hb)
              have fL : ∀ b, (b < h.1 ∧ b ∉ L ∧ b ≠ lt) → h91.2.2 b = h.2.2 b := fun b hb => (q5 b (by first | omega | exact ⟨by omega, hb.2.1, hb.2.2⟩ | exact ⟨hb.2.1, hb.2.2⟩)).trans (fL b hb)
              refine mw_wf (fun hwf91 => ?_)
              obtain ⟨wr, q1'⟩ := q1
              have hq91 : z ≤ r91 ∨ IgA (tg own z 0 h) r91 (24 * y + t) := q6.imp (fun h9 => by omega) id
              have q1' : h91.2.2 r91 = some (wr, .inr (22, [(vi ((24 * y) + t))])) := q1'
              have l_q1' := hwf91 _ _ q1'
              refine m_new (y := yiX1_late) kc_6 2 dX1_late_94 q1731 q1732 q165 _ rfl ⟨by omega, by omega⟩ (hp_new fun g2 g2H => ?_)
              have hx : g2.2.2 x = some (true, .inr (0, [(.ref ch), (.ref wk), (vi (sg.1 1)), (.ref sv), (.ref tr), (.ref lt), (.ref ws), (.ref tx), (vi (sg.1 21)), (va_rf kp)])) := (g2H.2.2.2 _ (by first | omega | exact ⟨by omega, hb.2.1, hb.2.2⟩ | exact ⟨hb.2.1, hb.2.2⟩)).trans hx
              have hm : g2.2.2 lt = some (true, .inr (17, [.null, .null, .null, (va_rf root), (vi (L.length : Int)), (vi mc), .null, .null, .null])) := (g2H.2.2.2 _ (by first | omega | exact ⟨by omega, hb.2.1, hb.2.2⟩ | exact ⟨hb.2.1, hb.2.2⟩)).trans hm
              have q1' : g2.2.2 r91 = some (wr, .inr (22, [(vi ((24 * y) + t))])) := (g2H.2.2.2 _ (by first | omega | exact ⟨by omega, hb.2.1, hb.2.2⟩ | exact ⟨hb.2.1, hb.2.2⟩)).trans q1'
              have fR : ∀ b, (b < h.1) → g2.2.2 b = h.2.2 b := fun b hb => (g2H.2.2.2 b (by first | omega | exact ⟨by omega, hb.2.1, hb.2.2⟩ | exact ⟨hb.2.1, hb.2.2⟩)).trans (fR b hb)
              have fL : ∀ b, (b < h.1 ∧ b ∉ L ∧ b ≠ lt) → g2.2.2 b = h.2.2 b := fun b hb => (g2H.2.2.2 b (by first | omega | exact ⟨by omega, hb.2.1, hb.2.2⟩ | exact ⟨hb.2.1, hb.2.2⟩)).trans (fL b hb)
              have fg2 : g2.2.2 h91.1 = some (true, .inr (6, [(vi 0), (vi 0)])) := g2H.2.2.1
              have g21 := g2H.1
              have g22 := g2H.2.1
              refine m_dup (y := yiX1_late) dX1_late_97 rfl ?_
              refine j_iload_n (y := yiX1_late) dX1_late_98 rfl ?_
              refine j_iload (y := yiX1_late) dX1_late_99 rfl ?_
              refine m_invIN (y := yiX1_late) [(vi c), (vi mi)] dX1_late_101 q1733 q1734 q165 q1735 rfl rfl (c_X7_init c mi (d := 2) (by omega) fg2) pdX7_init ⟨Nat.le_of_ble_eq_true rfl, by decide, by omega⟩ (kk_v fun h101 q101 => ?_) kx_v
              obtain q101 := q101
              have y101 := q101.1
              have z101 := q101.2.1
              have fg2 := q101.2.2.1
              have hx : h101.2.2 x = some (true, .inr (0, [(.ref ch), (.ref wk), (vi (sg.1 1)), (.ref sv), (.ref tr), (.ref lt), (.ref ws), (.ref tx), (vi (sg.1 21)), (va_rf kp)])) := (q101.2.2.2 _ (by first | omega | exact ⟨by omega, hb.2.1, hb.2.2⟩ | exact ⟨hb.2.1, hb.2.2⟩)).trans hx
              have hm : h101.2.2 lt = some (true, .inr (17, [.null, .null, .null, (va_rf root), (vi (L.length : Int)), (vi mc), .null, .null, .null])) := (q101.2.2.2 _ (by first | omega | exact ⟨by omega, hb.2.1, hb.2.2⟩ | exact ⟨hb.2.1, hb.2.2⟩)).trans hm
              have q1' : h101.2.2 r91 = some (wr, .inr (22, [(vi ((24 * y) + t))])) := (q101.2.2.2 _ (by first | omega | exact ⟨by omega, hb.2.1, hb.2.2⟩ | exact ⟨hb.2.1, hb.2.2⟩)).trans q1'
              have fR : ∀ b, (b < h.1) → h101.2.2 b = h.2.2 b := fun b hb => (q101.2.2.2 b (by first | omega | exact ⟨by omega, hb.2.1, hb.2.2⟩ | exact ⟨hb.2.1, hb.2.2⟩)).trans (fR b hb)
              have fL : ∀ b, (b < h.1 ∧ b ∉ L ∧ b ≠ lt) → h101.2.2 b = h.2.2 b := fun b hb => (q101.2.2.2 b (by first | omega | exact ⟨by omega, hb.2.1, hb.2.2⟩ | exact ⟨hb.2.1, hb.2.2⟩)).trans (fL b hb)
              refine mw_wf (fun hwf101 => ?_)
              have l_fg2101 := hwf101 _ _ fg2
              have hFx : TmF h101 lt L ko vl lf rt pa co root (L.length : Int) mc := hF9.up (fun b c9 e9 => (fR b (by have := (tg_at e9).2.1; omega)).trans (tg_at e9).1)
              have hKx : TmK h101 L ko key := hKk.up (fun b c9 e9 => (fR b (by have := (tg_at e9).2.1; omega)).trans (tg_at e9).1)
              have fz104 : ∀ b, b < z → h101.2.2 b = h.2.2 b := fun b hb => fR b (by omega)
              have fv104 := q101.2.2.1
              have fk104 := q1'
              have hwfA := hwf101
              refine m_invV (y := yiX1_late) (rB := (RJ4, TJ4, 9)) [(.ref r91), (.ref h91.1)] dX1_late_104 hm rfl q1744 q1745 q1746 q128 q1747 rfl (c_J4_put (d := 6) (by omega) hFx hKx hS9.1 hS9.2 ⟨by omega, by omega⟩ q1' ⟨by omega, by omega⟩ ⟨by omega, by omega⟩) pdJ4_put ⟨Nat.le_of_ble_eq_true rfl, by decide, by omega⟩ (kk_q fun r104 h104 q104 => ?_) kx_q
              obtain q104 := q104
              have y104 := q104.fr.1
              have z104 := q104.fr.2.1
              have fL : ∀ b, (b < h.1 ∧ b ∉ L ∧ b ≠ lt) → h104.2.2 b = h.2.2 b := fun b hb => (q104.fr.2.2 b (by first | omega | exact ⟨by omega, hb.2.1, hb.2.2⟩ | exact ⟨hb.2.1, hb.2.2⟩)).trans (fL b hb)
              refine mw_wf (fun hwf104 => ?_)
              have R107 := lt_put hT hF9 hKk hS9.1 hV hR0 (by omega) fz104 fk104 hq91 fv104 (by omega) hwfA hwf104 ⟨by omega, by omega⟩ ⟨by omega, by omega⟩ q104
              have eJ := R107.1
              have U := upO (j := 6) (by decide) (show z ≤ h104.1 by omega) eJ
              have hM0 : latI sg y t = -1 → MutQ K own h h104 z x (sgLA sg y t c mi) := fun e9 => by { rcases R107.2 with ⟨-, hL9⟩ | ⟨h9, -⟩; { exact ⟨ownJ own z 6, fun b hb => if_pos hb, ⟨e0, cc, ch, wk, sv, tr, lt, ws, tx, se, te, we, kp, sp, tp, wp, T, hKt, (by rw [U 0 (by decide)]; exact hEt), (by rw [U 0 (by decide)]; exact hIt), (by rw [U 1 (by decide)]; exact hxt), (by rw [U 2 (by decide)]; exact hcht), (by rw [U 3 (by decide)]; exact hwkt), ⟨by rw [U 4 (by decide)]; exact hsvt.1, fun s a b => by rw [U (100 + s.toNat) (by have b9 : s < sg.1 6 := b; omega)]; exact hsvt.2 s a b⟩, ⟨by rw [U 5 (by decide)]; exact htrt.1, fun t a b => by rw [U (200 + t.toNat) (by have b9 : t < sg.1 8 := b; omega)]; exact htrt.2 t a b⟩, hL9, ⟨by rw [U 7 (by decide)]; exact hwst.1, fun w a b => by rw [U 7 (by decide)]; exact hwst.2 w a b⟩, (by rw [U 8 (by decide)]; exact htxt), (by rw [U 9 (by decide)]; exact hkpt), hR0.up (J := fun q => q = 6) (fun b hb => if_pos hb) (fun b hb => if_neg (by omega)) (by decide) eJ⟩, fun b hb h10 => eJ b hb (by omega), by omega, by omega⟩ }; { exact absurd e9 h9 } }
              have hM1 : latI sg y t ≠ -1 → MutQ K own h h104 z x (sgLS sg (latI sg y t) y t c mi) := fun e9 => by { rcases R107.2 with ⟨h9, -⟩ | ⟨-, hL9⟩; { exact absurd h9 e9 }; { exact ⟨ownJ own z 6, fun b hb => if_pos hb, ⟨e0, cc, ch, wk, sv, tr, lt, ws, tx, se, te, we, kp, sp, tp, wp, T, hKt, (by rw [U 0 (by decide)]; exact hEt), (by rw [U 0 (by decide)]; exact hIt), (by rw [U 1 (by decide)]; exact hxt), (by rw [U 2 (by decide)]; exact hcht), (by rw [U 3 (by decide)]; exact hwkt), ⟨by rw [U 4 (by decide)]; exact hsvt.1, fun s a b => by rw [U (100 + s.toNat) (by have b9 : s < sg.1 6 := b; omega)]; exact hsvt.2 s a b⟩, ⟨by rw [U 5 (by decide)]; exact htrt.1, fun t a b => by rw [U (200 + t.toNat) (by have b9 : t < sg.1 8 := b; omega)]; exact htrt.2 t a b⟩, hL9, ⟨by rw [U 7 (by decide)]; exact hwst.1, fun w a b => by rw [U 7 (by decide)]; exact hwst.2 w a b⟩, (by rw [U 8 (by decide)]; exact htxt), (by rw [U 9 (by decide)]; exact hkpt), hR0.up (J := fun q => q = 6) (fun b hb => if_pos hb) (fun b hb => if_neg (by omega)) (by decide) eJ⟩, fun b hb h10 => eJ b hb (by omega), by omega, by omega⟩ } }
              refine m_pop (y := yiX1_late) dX1_late_107 va_rf_1 ?_
              refine m_goto (y := yiX1_late) 129 dX1_late_108 (by decide) ?_
              refine m_aloadN (y := yiX1_late) dX1_late_129 rfl ?_
              refine m_ifnonnull (y := yiX1_late) (x := none) 136 dX1_late_131 (by decide) (fun _ h9 => nomatch h9) (fun _ => ?_)
              refine j_iconst (y := yiX1_late) dX1_late_134 ?_
              subst hQ; exact j_wret (y := yiX1_late) dX1_late_135 rfl (Or.inr (Or.inr (Or.inr (Or.inr (Or.inr (Or.inl ⟨c3, ⟨by omega, by omega, by omega⟩, ⟨hl37, by omega⟩, rfl, hM0 hl37, rfl⟩))))))
          · refine m_aload_n (y := yiX1_late) dX1_late_52 rfl ?_
            refine m_getfS (y := yiX1_late) kc_0 5 (by decide) dX1_late_53 q303 hx rfl ?_
            refine m_invV (y := yiX1_late) (rB := (RJ4, TJ4, 9)) [] dX1_late_56 hm rfl q694 q695 q696 q128 q697 rfl (c_J4_size K 0 h37 lt root (L.length : Int) mc hm) pdJ4_size ⟨Nat.le_of_ble_eq_true rfl, by decide, by omega⟩ (kk_z fun r56 h56 q56 => ?_) kx_z
            obtain ⟨rfl, rfl⟩ := q56
            refine mw_top (x' := (L.length : Int)) rfl ?_
            refine j_bipush (y := yiX1_late) dX1_late_59 (by decide) ?_
            refine j_icmp_ge (y := yiX1_late) 68 dX1_late_61 (by decide) ⟨⟨by omega, by omega⟩, ⟨by omega, by omega⟩⟩ (fun c61 => ?_) (fun c61 => ?_)
            · refine j_iconst (y := yiX1_late) dX1_late_68 ?_
              refine m_invS (y := yiX1_late) [(vi 0)] dX1_late_69 q861 q862 q123 q863 (c_X1_requireState_0 K 6 h37 (by omega) ⟨by omega, by omega⟩) pdX1_requireState ⟨Nat.le_of_ble_eq_true rfl, by decide, by omega⟩ kk_t (kx_t fun q69 h69 x69 => ?_)
              subst hQ; exact mx_ret rfl (Or.inr ⟨2, RJ13, q69, rfl, rfl, fun _ => Or.inr (Or.inr (Or.inl ⟨c3, ⟨by omega, by omega⟩, ⟨hl37, by omega, by omega⟩, rfl, QFr.th x69 ⟨by omega, by omega⟩ ⟨by omega, by omega⟩ fR⟩))⟩)
            · refine j_iconst (y := yiX1_late) dX1_late_64 ?_
              refine m_goto (y := yiX1_late) 69 dX1_late_65 (by decide) ?_
              refine m_invS (y := yiX1_late) [(vi 1)] dX1_late_69 q861 q862 q123 q863 (c_X1_requireState_1 K 0 h37) pdX1_requireState ⟨Nat.le_of_ble_eq_true rfl, by decide, by omega⟩ (kk_v fun h69 q69 => ?_) kx_v
              obtain rfl := q69
              refine j_bipush (y := yiX1_late) dX1_late_72 (by decide) ?_
              refine j_iload_n (y := yiX1_late) dX1_late_74 rfl ?_
              refine j_imul (y := yiX1_late) dX1_late_75 ?_
              refine j_iload_n (y := yiX1_late) dX1_late_76 rfl ?_
              refine j_iadd (y := yiX1_late) dX1_late_77 ?_
              refine j_istore (y := yiX1_late) [some (.ref x), some (vi y), some (vi t), some (vi c), some (vi mi), some (.ref r3), some .null, some (vi ((24 * y) + t))] dX1_late_78 (by decide) rfl rfl ?_
              refine j_iload (y := yiX1_late) dX1_late_80 rfl ?_
              refine j_if_le (y := yiX1_late) 111 dX1_late_82 (by decide) ⟨by omega, by omega⟩ (fun c82 => ?_) (fun c82 => ?_)
              · refine m_aloadN (y := yiX1_late) dX1_late_111 rfl ?_
                refine m_ifnull (y := yiX1_late) (x := none) 129 dX1_late_113 (by decide) (fun _ => ?_) (fun _ h9 => nomatch h9)
                refine m_aloadN (y := yiX1_late) dX1_late_129 rfl ?_
                refine m_ifnonnull (y := yiX1_late) (x := none) 136 dX1_late_131 (by decide) (fun _ h9 => nomatch h9) (fun _ => ?_)
                refine j_iconst (y := yiX1_late) dX1_late_134 ?_
                subst hQ; exact j_wret (y := yiX1_late) dX1_late_135 rfl (Or.inr (Or.inr (Or.inr (Or.inl ⟨c3, ⟨by omega, by omega⟩, hl37, rfl, QFr.of (by omega) (by omega) fR, rfl⟩))))
              · refine m_aload_n (y := yiX1_late) dX1_late_85 rfl ?_
                refine m_getfS (y := yiX1_late) kc_0 5 (by decide) dX1_late_86 q303 hx rfl ?_
                refine j_iload (y := yiX1_late) dX1_late_89 rfl ?_
                refine m_invS (y := yiX1_late) [(vi ((24 * y) + t))] dX1_late_91 q1493 q1379 q151 q1380 (c_J25_valueOf2 K 3 h37 (tg own z 0 h) cc _ (by omega) k9 k10 hIt (fun b c9 e9 => (fR b (by have := (tg_at e9).2.1; omega)).trans (tg_at e9).1) ⟨by omega, by omega⟩ ⟨by omega, by omega⟩) pdJ25_valueOf ⟨Nat.le_of_ble_eq_true rfl, by decide, by omega⟩ (kk_r fun r91 h91 q91 => ?_) kx_r
                obtain ⟨q1, q2, q3, q4, q5, q6⟩ := q91
                have hx : h91.2.2 x = some (true, .inr (0, [(.ref ch), (.ref wk), (vi (sg.1 1)), (.ref sv), (.ref tr), (.ref lt), (.ref ws), (.ref tx), (vi (sg.1 21)), (va_rf kp)])) := (q5 _ (by first | omega | exact ⟨by omega, hb.2.1, hb.2.2⟩ | exact ⟨hb.2.1, hb.2.2⟩)).trans hx
                have hm : h91.2.2 lt = some (true, .inr (17, [.null, .null, .null, (va_rf root), (vi (L.length : Int)), (vi mc), .null, .null, .null])) := (q5 _ (by first | omega | exact ⟨by omega, hb.2.1, hb.2.2⟩ | exact ⟨hb.2.1, hb.2.2⟩)).trans hm
                have fR : ∀ b, (b < h.1) → h91.2.2 b = h.2.2 b := fun b hb => (q5 b (by first | omega | exact ⟨by omega, hb.2.1, hb.2.2⟩ | exact ⟨hb.2.1, hb.2.2⟩)).trans (fR b hb)
                have fL : ∀ b, (b < h.1 ∧ b ∉ L ∧ b ≠ lt) → h91.2.2 b = h.2.2 b := fun b hb => (q5 b (by first | omega | exact ⟨by omega, hb.2.1, hb.2.2⟩ | exact ⟨hb.2.1, hb.2.2⟩)).trans (fL b hb)
                refine mw_wf (fun hwf91 => ?_)
                obtain ⟨wr, q1'⟩ := q1
                have hq91 : z ≤ r91 ∨ IgA (tg own z 0 h) r91 (24 * y + t) := q6.imp (fun h9 => by omega) id
                have q1' : h91.2.2 r91 = some (wr, .inr (22, [(vi ((24 * y) + t))])) := q1'
                have l_q1' := hwf91 _ _ q1'
                refine m_new (y := yiX1_late) kc_6 2 dX1_late_94 q1731 q1732 q165 _ rfl ⟨by omega, by omega⟩ (hp_new fun g3 g3H => ?_)
                have hx : g3.2.2 x = some (true, .inr (0, [(.ref ch), (.ref wk), (vi (sg.1 1)), (.ref sv), (.ref tr), (.ref lt), (.ref ws), (.ref tx), (vi (sg.1 21)), (va_rf kp)])) := (g3H.2.2.2 _ (by first | omega | exact ⟨by omega, hb.2.1, hb.2.2⟩ | exact ⟨hb.2.1, hb.2.2⟩)).trans hx
                have hm : g3.2.2 lt = some (true, .inr (17, [.null, .null, .null, (va_rf root), (vi (L.length : Int)), (vi mc), .null, .null, .null])) := (g3H.2.2.2 _ (by first | omega | exact ⟨by omega, hb.2.1, hb.2.2⟩ | exact ⟨hb.2.1, hb.2.2⟩)).trans hm
                have q1' : g3.2.2 r91 = some (wr, .inr (22, [(vi ((24 * y) + t))])) := (g3H.2.2.2 _ (by first | omega | exact ⟨by omega, hb.2.1, hb.2.2⟩ | exact ⟨hb.2.1, hb.2.2⟩)).trans q1'
                have fR : ∀ b, (b < h.1) → g3.2.2 b = h.2.2 b := fun b hb => (g3H.2.2.2 b (by first | omega | exact ⟨by omega, hb.2.1, hb.2.2⟩ | exact ⟨hb.2.1, hb.2.2⟩)).trans (fR b hb)
                have fL : ∀ b, (b < h.1 ∧ b ∉ L ∧ b ≠ lt) → g3.2.2 b = h.2.2 b := fun b hb => (g3H.2.2.2 b (by first | omega | exact ⟨by omega, hb.2.1, hb.2.2⟩ | exact ⟨hb.2.1, hb.2.2⟩)).trans (fL b hb)
                have fg3 : g3.2.2 h91.1 = some (true, .inr (6, [(vi 0), (vi 0)])) := g3H.2.2.1
                have g31 := g3H.1
                have g32 := g3H.2.1
                refine m_dup (y := yiX1_late) dX1_late_97 rfl ?_
                refine j_iload_n (y := yiX1_late) dX1_late_98 rfl ?_
                refine j_iload (y := yiX1_late) dX1_late_99 rfl ?_
                refine m_invIN (y := yiX1_late) [(vi c), (vi mi)] dX1_late_101 q1733 q1734 q165 q1735 rfl rfl (c_X7_init c mi (d := 2) (by omega) fg3) pdX7_init ⟨Nat.le_of_ble_eq_true rfl, by decide, by omega⟩ (kk_v fun h101 q101 => ?_) kx_v
                obtain q101 := q101
                have y101 := q101.1
                have z101 := q101.2.1
                have fg3 := q101.2.2.1
                have hx : h101.2.2 x = some (true, .inr (0, [(.ref ch), (.ref wk), (vi (sg.1 1)), (.ref sv), (.ref tr), (.ref lt), (.ref ws), (.ref tx), (vi (sg.1 21)), (va_rf kp)])) := (q101.2.2.2 _ (by first | omega | exact ⟨by omega, hb.2.1, hb.2.2⟩ | exact ⟨hb.2.1, hb.2.2⟩)).trans hx
                have hm : h101.2.2 lt = some (true, .inr (17, [.null, .null, .null, (va_rf root), (vi (L.length : Int)), (vi mc), .null, .null, .null])) := (q101.2.2.2 _ (by first | omega | exact ⟨by omega, hb.2.1, hb.2.2⟩ | exact ⟨hb.2.1, hb.2.2⟩)).trans hm
                have q1' : h101.2.2 r91 = some (wr, .inr (22, [(vi ((24 * y) + t))])) := (q101.2.2.2 _ (by first | omega | exact ⟨by omega, hb.2.1, hb.2.2⟩ | exact ⟨hb.2.1, hb.2.2⟩)).trans q1'
                have fR : ∀ b, (b < h.1) → h101.2.2 b = h.2.2 b := fun b hb => (q101.2.2.2 b (by first | omega | exact ⟨by omega, hb.2.1, hb.2.2⟩ | exact ⟨hb.2.1, hb.2.2⟩)).trans (fR b hb)
                have fL : ∀ b, (b < h.1 ∧ b ∉ L ∧ b ≠ lt) → h101.2.2 b = h.2.2 b := fun b hb => (q101.2.2.2 b (by first | omega | exact ⟨by omega, hb.2.1, hb.2.2⟩ | exact ⟨hb.2.1, hb.2.2⟩)).trans (fL b hb)
                refine mw_wf (fun hwf101 => ?_)
                have l_fg3101 := hwf101 _ _ fg3
                have hFx : TmF h101 lt L ko vl lf rt pa co root (L.length : Int) mc := hF9.up (fun b c9 e9 => (fR b (by have := (tg_at e9).2.1; omega)).trans (tg_at e9).1)
                have hKx : TmK h101 L ko key := hKk.up (fun b c9 e9 => (fR b (by have := (tg_at e9).2.1; omega)).trans (tg_at e9).1)
                have fz104 : ∀ b, b < z → h101.2.2 b = h.2.2 b := fun b hb => fR b (by omega)
                have fv104 := q101.2.2.1
                have fk104 := q1'
                have hwfA := hwf101
                refine m_invV (y := yiX1_late) (rB := (RJ4, TJ4, 9)) [(.ref r91), (.ref h91.1)] dX1_late_104 hm rfl q1744 q1745 q1746 q128 q1747 rfl (c_J4_put (d := 6) (by omega) hFx hKx hS9.1 hS9.2 ⟨by omega, by omega⟩ q1' ⟨by omega, by omega⟩ ⟨by omega, by omega⟩) pdJ4_put ⟨Nat.le_of_ble_eq_true rfl, by decide, by omega⟩ (kk_q fun r104 h104 q104 => ?_) kx_q
                obtain q104 := q104
                have y104 := q104.fr.1
                have z104 := q104.fr.2.1
                have fL : ∀ b, (b < h.1 ∧ b ∉ L ∧ b ≠ lt) → h104.2.2 b = h.2.2 b := fun b hb => (q104.fr.2.2 b (by first | omega | exact ⟨by omega, hb.2.1, hb.2.2⟩ | exact ⟨hb.2.1, hb.2.2⟩)).trans (fL b hb)
                refine mw_wf (fun hwf104 => ?_)
                have R107 := lt_put hT hF9 hKk hS9.1 hV hR0 (by omega) fz104 fk104 hq91 fv104 (by omega) hwfA hwf104 ⟨by omega, by omega⟩ ⟨by omega, by omega⟩ q104
                have eJ := R107.1
                have U := upO (j := 6) (by decide) (show z ≤ h104.1 by omega) eJ
                have hM0 : latI sg y t = -1 → MutQ K own h h104 z x (sgLA sg y t c mi) := fun e9 => by { rcases R107.2 with ⟨-, hL9⟩ | ⟨h9, -⟩; { exact ⟨ownJ own z 6, fun b hb => if_pos hb, ⟨e0, cc, ch, wk, sv, tr, lt, ws, tx, se, te, we, kp, sp, tp, wp, T, hKt, (by rw [U 0 (by decide)]; exact hEt), (by rw [U 0 (by decide)]; exact hIt), (by rw [U 1 (by decide)]; exact hxt), (by rw [U 2 (by decide)]; exact hcht), (by rw [U 3 (by decide)]; exact hwkt), ⟨by rw [U 4 (by decide)]; exact hsvt.1, fun s a b => by rw [U (100 + s.toNat) (by have b9 : s < sg.1 6 := b; omega)]; exact hsvt.2 s a b⟩, ⟨by rw [U 5 (by decide)]; exact htrt.1, fun t a b => by rw [U (200 + t.toNat) (by have b9 : t < sg.1 8 := b; omega)]; exact htrt.2 t a b⟩, hL9, ⟨by rw [U 7 (by decide)]; exact hwst.1, fun w a b => by rw [U 7 (by decide)]; exact hwst.2 w a b⟩, (by rw [U 8 (by decide)]; exact htxt), (by rw [U 9 (by decide)]; exact hkpt), hR0.up (J := fun q => q = 6) (fun b hb => if_pos hb) (fun b hb => if_neg (by omega)) (by decide) eJ⟩, fun b hb h10 => eJ b hb (by omega), by omega, by omega⟩ }; { exact absurd e9 h9 } }
                have hM1 : latI sg y t ≠ -1 → MutQ K own h h104 z x (sgLS sg (latI sg y t) y t c mi) := fun e9 => by { rcases R107.2 with ⟨h9, -⟩ | ⟨-, hL9⟩; { exact absurd h9 e9 }; { exact ⟨ownJ own z 6, fun b hb => if_pos hb, ⟨e0, cc, ch, wk, sv, tr, lt, ws, tx, se, te, we, kp, sp, tp, wp, T, hKt, (by rw [U 0 (by decide)]; exact hEt), (by rw [U 0 (by decide)]; exact hIt), (by rw [U 1 (by decide)]; exact hxt), (by rw [U 2 (by decide)]; exact hcht), (by rw [U 3 (by decide)]; exact hwkt), ⟨by rw [U 4 (by decide)]; exact hsvt.1, fun s a b => by rw [U (100 + s.toNat) (by have b9 : s < sg.1 6 := b; omega)]; exact hsvt.2 s a b⟩, ⟨by rw [U 5 (by decide)]; exact htrt.1, fun t a b => by rw [U (200 + t.toNat) (by have b9 : t < sg.1 8 := b; omega)]; exact htrt.2 t a b⟩, hL9, ⟨by rw [U 7 (by decide)]; exact hwst.1, fun w a b => by rw [U 7 (by decide)]; exact hwst.2 w a b⟩, (by rw [U 8 (by decide)]; exact htxt), (by rw [U 9 (by decide)]; exact hkpt), hR0.up (J := fun q => q = 6) (fun b hb => if_pos hb) (fun b hb => if_neg (by omega)) (by decide) eJ⟩, fun b hb h10 => eJ b hb (by omega), by omega, by omega⟩ } }
                refine m_pop (y := yiX1_late) dX1_late_107 va_rf_1 ?_
                refine m_goto (y := yiX1_late) 129 dX1_late_108 (by decide) ?_
                refine m_aloadN (y := yiX1_late) dX1_late_129 rfl ?_
                refine m_ifnonnull (y := yiX1_late) (x := none) 136 dX1_late_131 (by decide) (fun _ h9 => nomatch h9) (fun _ => ?_)
                refine j_iconst (y := yiX1_late) dX1_late_134 ?_
                subst hQ; exact j_wret (y := yiX1_late) dX1_late_135 rfl (Or.inr (Or.inr (Or.inr (Or.inr (Or.inr (Or.inl ⟨c3, ⟨by omega, by omega, by omega⟩, ⟨hl37, by omega⟩, rfl, hM0 hl37, rfl⟩))))))
  · refine m_invV (y := yiX1_late) (rB := (RX1, TX1, 10)) [(vi t), (vi c)] dX1_late_3 hx rfl q1205 q1207 qs13 q123 q1208 rfl (c_callOf_0 K 8 h z x sg t c (by omega) hT hW9 i2 i3 c3 ⟨by omega, by omega⟩) pdX1_callOf ⟨Nat.le_of_ble_eq_true rfl, by decide, by omega⟩ kk_t (kx_t fun q3 h3 x3 => ?_)
    subst hQ; exact mx_ret rfl (Or.inr ⟨0, RJ14, q3, rfl, rfl, fun _ => Or.inl ⟨c3, rfl, QFr.th x3 ⟨by omega, by omega⟩ ⟨by omega, by omega⟩ (fun _ _ => rfl)⟩⟩)
end LATE
