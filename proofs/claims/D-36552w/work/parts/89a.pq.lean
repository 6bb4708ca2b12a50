/-! java.util.PriorityQueue of places -/
theorem PlC.up {h h' : MH} {mi rank : Int} {q : Nat} (e1 : ∀ b c, h.2.2 b = some c → h'.2.2 b = some c) (H : PlC h mi rank q) : PlC h' mi rank q := by
  obtain ⟨s, c, H | ⟨ru, u, tr, sh, sa, aa, da, h1, h2, h3⟩⟩ := H
  · exact ⟨s, c, Or.inl ⟨e1 _ _ H.1, H.2⟩⟩
  · exact ⟨s, c, Or.inr ⟨ru, u, tr, sh, sa, aa, da, e1 _ _ h1, e1 _ _ h2, h3⟩⟩
theorem PlC.cell4 {h : MH} {mi rank : Int} {q : Nat} (H : PlC h mi rank q) : ∃ (a0 a1 a2 a3 : Value), h.2.2 q = some (true, .inr (10, [a0, a1, a2, a3])) := by
  obtain ⟨s, c, x, e⟩ := H.cell
  exact ⟨_, _, _, _, e⟩
/-- bounds of a place -/
def PlB (mi rk : Int) : Prop := (-100000 ≤ mi ∧ mi ≤ 100000) ∧ 0 ≤ rk ∧ rk < 1000
/-- the queue's cells: n places p at e -/
def PqA (K : KT) (h : MH) (q e : Nat) (n : Int) (p : Int → Nat) : Prop := ∃ (cap : Nat) (mc : Int) (f : Int → Option Nat), h.2.2 q = some (true, .inr (24, [.ref e, vi n, .null, vi mc])) ∧ h.2.2 e = some (true, oaE K cap f) ∧ (0 ≤ n ∧ n ≤ (cap : Int) ∧ 1 ≤ cap ∧ cap ≤ 20000) ∧ (∀ i, 0 ≤ i → i < n → f i = some (p i)) ∧ ∀ i, n ≤ i → f i = none
/-- heap's order -/
def HOk (ky : Nat → Int) (n : Int) (p : Int → Nat) : Prop := ∀ i, 1 ≤ i → i < n → ky (p ((i - 1) / 2)) ≤ ky (p i)
theorem HOk.min {ky : Nat → Int} {n : Int} {p : Int → Nat} (H : HOk ky n p) : ∀ (m : Nat) (i : Int), i.toNat ≤ m → 0 ≤ i → i < n → ky (p 0) ≤ ky (p i) := fun m => by
  induction m with
  | zero => intro i a b c; rw [show i = 0 by omega]; exact Int.le_refl _
  | succ m ih =>
    intro i a b c
    by_cases e : i = 0
    · rw [e]; exact Int.le_refl _
    · exact Int.le_trans (ih ((i - 1) / 2) (by omega) (by omega) (by omega)) (H i (by omega) c)
/-- a hole at k, on the way up: x wants in; n is the last place -/
def HuO (ky : Nat → Int) (n k : Int) (g : Int → Nat) (x : Nat) : Prop := (∀ i, 1 ≤ i → i ≤ n → i ≠ k → (i - 1) / 2 ≠ k → ky (g ((i - 1) / 2)) ≤ ky (g i)) ∧ ∀ i, 1 ≤ i → i ≤ n → (i - 1) / 2 = k → i ≠ k → ky x ≤ ky (g i) ∧ (0 < k → ky (g ((k - 1) / 2)) ≤ ky (g i))
theorem HuO.start {ky : Nat → Int} {n : Int} {p : Int → Nat} {x : Nat} (H : HOk ky n p) : HuO ky n n p x := ⟨fun i a b c d => H i a (by omega), fun i a b c d => by omega⟩
theorem HuO.step {ky : Nat → Int} {n k : Int} {g : Int → Nat} {x : Nat} (H : HuO ky n k g x) (hk : 0 < k ∧ k ≤ n) (hx : ky x < ky (g ((k - 1) / 2))) : HuO ky n ((k - 1) / 2) (upn g k (g ((k - 1) / 2))) x := by
  obtain ⟨h1, h2⟩ := H
  have hp : (k - 1) / 2 ≠ k := by omega
  refine ⟨fun i a b c d => ?_, fun i a b c d => ?_⟩
  · by_cases e1 : (i - 1) / 2 = k
    · rw [e1, upn_at, upn_ne (by omega)]
      exact (h2 i a b e1 (by omega)).2 hk.1
    · rw [upn_ne e1]
      by_cases e2 : i = k
      · omega
      · rw [upn_ne e2]; exact h1 i a b e2 e1
  · by_cases e2 : i = k
    · rw [e2, upn_at]
      refine ⟨Int.le_of_lt hx, fun h9 => ?_⟩
      rw [upn_ne (by omega)]
      exact h1 ((k - 1) / 2) (by omega) (by omega) hp (by omega)
    · rw [upn_ne e2]
      have o1 := h1 i a b e2 (by omega)
      rw [c] at o1
      refine ⟨by omega, fun h9 => ?_⟩
      rw [upn_ne (by omega)]
      exact Int.le_trans (h1 ((k - 1) / 2) (by omega) (by omega) hp (by omega)) o1
theorem HuO.fin {ky : Nat → Int} {n k : Int} {g : Int → Nat} {x : Nat} (H : HuO ky n k g x) (hk : 0 ≤ k ∧ k ≤ n) (hx : k = 0 ∨ ky (g ((k - 1) / 2)) ≤ ky x) : HOk ky (n + 1) (upn g k x) := by
  obtain ⟨h1, h2⟩ := H
  intro i a b
  by_cases e1 : (i - 1) / 2 = k
  · rw [e1, upn_at, upn_ne (by omega)]; exact (h2 i a (by omega) e1 (by omega)).1
  · rw [upn_ne e1]
    by_cases e2 : i = k
    · rw [e2, upn_at]
      rcases hx with h9 | h9
      · omega
      · exact h9
    · rw [upn_ne e2]; exact h1 i a (by omega) e2 e1
/-- a hole at k, on the way down, among the places below n -/
def HdO (ky : Nat → Int) (n k : Int) (g : Int → Nat) (x : Nat) : Prop := (∀ i, 1 ≤ i → i < n → i ≠ k → (i - 1) / 2 ≠ k → ky (g ((i - 1) / 2)) ≤ ky (g i)) ∧ (∀ i, 1 ≤ i → i < n → (i - 1) / 2 = k → i ≠ k → 0 < k → ky (g ((k - 1) / 2)) ≤ ky (g i)) ∧ (0 < k → ky (g ((k - 1) / 2)) ≤ ky x)
theorem HdO.start {ky : Nat → Int} {n : Int} {p : Int → Nat} {x : Nat} (H : HOk ky (n + 1) p) : HdO ky n 0 p x := ⟨fun i a b c d => H i a (by omega), fun i a b c d e => absurd e (by omega), fun e => absurd e (by omega)⟩
theorem HdO.step {ky : Nat → Int} {n k m : Int} {g : Int → Nat} {x : Nat} (H : HdO ky n k g x) (hk : 0 ≤ k) (hm : (m - 1) / 2 = k ∧ 1 ≤ m ∧ m < n ∧ m ≠ k) (hs : ∀ i, 1 ≤ i → i < n → (i - 1) / 2 = k → i ≠ k → ky (g m) ≤ ky (g i)) (hx : ky (g m) < ky x) : HdO ky n m (upn g k (g m)) x := by
  obtain ⟨h1, h2, h3⟩ := H
  refine ⟨fun i a b c d => ?_, fun i a b c d e => ?_, fun _ => ?_⟩
  · by_cases e1 : (i - 1) / 2 = k
    · rw [e1, upn_at, upn_ne (by omega)]; exact hs i a b e1 (by omega)
    · rw [upn_ne e1]
      by_cases e2 : i = k
      · rw [e2, upn_at]; exact h2 m hm.2.1 hm.2.2.1 hm.1 hm.2.2.2 (by omega)
      · rw [upn_ne e2]; exact h1 i a b e2 e1
  · rw [hm.1, upn_at, upn_ne (by omega)]
    have := h1 i a b (by omega) (by omega)
    rw [c] at this; exact this
  · rw [hm.1, upn_at]; omega
theorem HdO.fin {ky : Nat → Int} {n k : Int} {g : Int → Nat} {x : Nat} (H : HdO ky n k g x) (hx : ∀ i, 1 ≤ i → i < n → (i - 1) / 2 = k → i ≠ k → ky x ≤ ky (g i)) : HOk ky n (upn g k x) := by
  obtain ⟨h1, h2, h3⟩ := H
  intro i a b
  by_cases e1 : (i - 1) / 2 = k
  · rw [e1, upn_at, upn_ne (by omega)]; exact hx i a b e1 (by omega)
  · rw [upn_ne e1]
    by_cases e2 : i = k
    · rw [e2, upn_at]; exact h3 (by omega)
    · rw [upn_ne e2]; exact h1 i a b e2 e1
theorem PlA.ltg {mi rk mi' rk' v : Int} (hb : PlB mi rk) (hb' : PlB mi' rk') (h : sgn (rk2 mi rk) (rk2 mi' rk') v) : (v < 0 ↔ rk2 mi rk < rk2 mi' rk') ∧ (0 < v ↔ rk2 mi' rk' < rk2 mi rk) := ⟨h.1, h.2.1⟩
section PQS
variable {K : KT} {d : Nat} {h : MH} {q e cap : Nat} {f : Int → Option Nat} {mi rk : Nat → Int}
abbrev kyP (mi rk : Nat → Int) : Nat → Int := fun a => rk2 (mi a) (rk a)
/-- siftUp: x goes into the hole at k -/
theorem c_J40_siftUpC (k : Int) (x : Nat) (p : Int → Nat) (hd : 3 ≤ d) (he : h.2.2 e = some (true, oaE K cap f)) (hcap : cap ≤ 100000) (hk : 0 ≤ k ∧ k < (cap : Int)) (hf : ∀ i, 0 ≤ i → i < k → f i = some (p i)) (hp : ∀ i, 0 ≤ i → i < k → PlC (exc e e h) (mi (p i)) (rk (p i)) (p i) ∧ PlB (mi (p i)) (rk (p i))) (hx : PlC (exc e e h) (mi x) (rk x) x ∧ PlB (mi x) (rk x)) (hO : HOk (kyP mi rk) k p) : Mt K yiJ40_siftUpComparable d [vi k, .ref x, .ref e] h (Rv fun h' => ∃ f' p', h'.2.2 e = some (true, oaE K cap f') ∧ (∀ i, 0 ≤ i → i < k + 1 → f' i = some (p' i)) ∧ (∀ i, k < i → f' i = f i) ∧ HOk (kyP mi rk) (k + 1) p' ∧ (∀ a, (∃ i, 0 ≤ i ∧ i < k + 1 ∧ p' i = a) ↔ (a = x ∨ ∃ i, 0 ≤ i ∧ i < k ∧ p i = a)) ∧ h'.1 = h.1 ∧ h'.2.1 = h.2.1 ∧ ∀ b, b ≠ e → h'.2.2 b = h.2.2 b) := by
  obtain ⟨a0, a1, a2, a3, hxc⟩ := hx.1.cell4
  have hxc9 := exc_at hxc
  have hxv := hxc9.1
  have n1 : x ≠ e := hxc9.2.1
  refine mt_ofQ (by decide) (Nat.le_of_ble_eq_true rfl) (fun Q hQ => ?_)
  show MW K yiJ40_siftUpComparable d h 0 [some (vi k), some (.ref x), some (.ref e), none, none, none] [] Q
  refine mw_wf (fun hwf => ?_)
  have l_he := hwf _ _ he
  have l_hxv := hwf _ _ hxv
  have fR : ∀ b, (b ≠ e) → h.2.2 b = h.2.2 b := fun _ _ => rfl
  refine m_aload_n (y := yiJ40_siftUpComparable) dJ40_siftUpComparable_0 rfl ?_
  refine m_cast (y := yiJ40_siftUpComparable) dJ40_siftUpComparable_1 hxv rfl q2252 (Or.inr q1518) ?_
  refine m_astore_n (y := yiJ40_siftUpComparable) dJ40_siftUpComparable_4 (by decide) rfl ?_
  show MW K yiJ40_siftUpComparable d h 5 [some (vi k), some (.ref x), some (.ref e), some (.ref x), none, none] [] Q
  have L5 : ∀ (N : Nat) (j : Int) (g : Int → Option Nat) (r : Int → Nat) (gh : MH), j.toNat = N → (gh.2.2 e = some (true, oaE K cap g)) → (gh.2.2 x = some (true, .inr (10, [a0, a1, a2, a3]))) → (∀ b, (b ≠ e) → gh.2.2 b = h.2.2 b) → (0 ≤ j ∧ j ≤ k) → (∀ i, 0 ≤ i → i < k + 1 → i ≠ j → g i = some (r i)) → (∀ i, k < i → g i = f i) → (∀ i, 0 ≤ i → i < k + 1 → i ≠ j → ∃ i', 0 ≤ i' ∧ i' < k ∧ p i' = r i) → (∀ i, 0 ≤ i → i < k → ∃ i', (0 ≤ i' ∧ i' < k + 1) ∧ i' ≠ j ∧ r i' = p i) → (HuO (kyP mi rk) k j r x) → (gh.1 = h.1 ∧ gh.2.1 = h.2.1) → MW K yiJ40_siftUpComparable d gh 5 [some (vi j), some (.ref x), some (.ref e), some (.ref x), none, none] [] Q := by
    intro N
    induction N using Nat.strongRecOn with
    | _ N ih5 =>
    intro j g r gh hN5 he hxv fR hj hg hg2 hr hr2 hH hs
    refine mw_wf (fun hwf5 => ?_)
    have l_he5 := hwf5 _ _ he
    have l_hxv5 := hwf5 _ _ hxv
    refine j_iload_n (y := yiJ40_siftUpComparable) dJ40_siftUpComparable_5 rfl ?_
    refine j_if_le (y := yiJ40_siftUpComparable) 47 dJ40_siftUpComparable_6 (by decide) ⟨by omega, by omega⟩ (fun c6 => ?_) (fun c6 => ?_)
    · have hfinH : HOk (kyP mi rk) (k + 1) (upn r j x) := hH.fin ⟨hj.1, hj.2⟩ (by first | exact Or.inl (by omega) | exact Or.inr (by have q9 : ¬ kyP mi rk x < kyP mi rk (r ((j - 1) / 2)) := fun h9 => absurd (s1.mpr h9) (by omega); omega))
      have fR9 := fR
      refine m_aload_n (y := yiJ40_siftUpComparable) dJ40_siftUpComparable_47 rfl ?_
      refine j_iload_n (y := yiJ40_siftUpComparable) dJ40_siftUpComparable_48 rfl ?_
      refine m_aload_n (y := yiJ40_siftUpComparable) dJ40_siftUpComparable_49 rfl ?_
      refine h_aast (y := yiJ40_siftUpComparable) dJ40_siftUpComparable_50 he ⟨_, _, _, _, hxv, rfl, kObj 10 _ rfl⟩ ⟨by omega, by omega⟩ (by omega) (hp_put fun g1 g1H => ?_)
      have hxv : g1.2.2 x = some (true, .inr (10, [a0, a1, a2, a3])) := (g1H.2.2.2 _ (by omega)).trans hxv
      have fR : ∀ b, (b ≠ e) → g1.2.2 b = h.2.2 b := fun b hb => (g1H.2.2.2 b (by omega)).trans (fR b hb)
      have he : g1.2.2 e = some (true, oaE K cap (upq g j (some x))) := g1H.2.2.1
      have g11 := g1H.1
      have g12 := g1H.2.1
      subst hQ; exact j_vret (y := yiJ40_siftUpComparable) dJ40_siftUpComparable_51 rfl (⟨upq g j (some x), upn r j x, he, fun i a b => by { unfold upq; by_cases e9 : i = j; { rw [if_pos e9, e9, upn_at] }; { rw [if_neg e9, upn_ne e9]; exact hg i a b e9 } }, fun i a => by { unfold upq; rw [if_neg (by omega)]; exact hg2 i a }, hfinH, fun a => ⟨fun ⟨i, w1, w2, w3⟩ => by { by_cases e9 : i = j; { rw [e9, upn_at] at w3; exact Or.inl w3.symm }; { rw [upn_ne e9] at w3; obtain ⟨i', v1, v2, v3⟩ := hr i w1 w2 e9; exact Or.inr ⟨i', v1, v2, v3.trans w3⟩ } }, fun w => by { rcases w with w | ⟨i, w1, w2, w3⟩; { exact ⟨j, hj.1, by omega, by rw [upn_at]; exact w.symm⟩ }; { obtain ⟨i', v1, v2, v3⟩ := hr2 i w1 w2; exact ⟨i', v1.1, v1.2, by rw [upn_ne v2]; exact v3.trans w3⟩ } }⟩, by omega, by omega, fun b hb => (g1H.2.2.2 b hb).trans (fR9 b hb)⟩)
    · refine j_iload_n (y := yiJ40_siftUpComparable) dJ40_siftUpComparable_9 rfl ?_
      refine j_iconst (y := yiJ40_siftUpComparable) dJ40_siftUpComparable_10 ?_
      refine j_isub (y := yiJ40_siftUpComparable) dJ40_siftUpComparable_11 ?_
      refine j_iconst (y := yiJ40_siftUpComparable) dJ40_siftUpComparable_12 ?_
      refine j_iushr1 (y := yiJ40_siftUpComparable) dJ40_siftUpComparable_13 ⟨by omega, by omega⟩ ?_
      refine j_istore (y := yiJ40_siftUpComparable) [some (vi j), some (.ref x), some (.ref e), some (.ref x), some (vi ((j - 1) / 2)), none] dJ40_siftUpComparable_14 (by decide) rfl rfl ?_
      have hpar : 0 ≤ (j - 1) / 2 ∧ (j - 1) / 2 < j := by omega
      refine m_aload_n (y := yiJ40_siftUpComparable) dJ40_siftUpComparable_16 rfl ?_
      refine j_iload (y := yiJ40_siftUpComparable) dJ40_siftUpComparable_17 rfl ?_
      refine h_aald5 (y := yiJ40_siftUpComparable) dJ40_siftUpComparable_19 he ⟨by omega, by omega⟩ (by omega) ?_
      rw [hg ((j - 1) / 2) (by omega) (by omega) (by omega)]
      show MW K yiJ40_siftUpComparable d gh 20 [some (vi j), some (.ref x), some (.ref e), some (.ref x), some (vi ((j - 1) / 2)), none] [(.ref (r ((j - 1) / 2)))] Q
      obtain ⟨i9, i91, i92, i93⟩ := hr ((j - 1) / 2) (by omega) (by omega) (by omega)
      have hpl := hp i9 i91 i92
      rw [i93] at hpl
      obtain ⟨b0, b1, b2, b3, hyc⟩ := hpl.1.cell4
      have hyc9 := exc_at hyc
      have hup : ∀ b c, (exc e e h).2.2 b = some c → gh.2.2 b = some c := fun b c e9 => by { have u9 := exc_at e9; exact (fR b u9.2.1).trans u9.1 }
      refine m_astore (y := yiJ40_siftUpComparable) dJ40_siftUpComparable_20 (by decide) rfl ?_
      show MW K yiJ40_siftUpComparable d gh 22 [some (vi j), some (.ref x), some (.ref e), some (.ref x), some (vi ((j - 1) / 2)), some (.ref (r ((j - 1) / 2)))] [] Q
      have hyv : gh.2.2 (r ((j - 1) / 2)) = some (true, .inr (10, [b0, b1, b2, b3])) := hup _ _ hyc
      have l_hyv := hwf5 _ _ hyv
      refine m_aload_n (y := yiJ40_siftUpComparable) dJ40_siftUpComparable_22 rfl ?_
      refine m_aload (y := yiJ40_siftUpComparable) dJ40_siftUpComparable_23 rfl ?_
      refine m_invF (y := yiJ40_siftUpComparable) (rB := (RX11, TX11, 4)) [(.ref (r ((j - 1) / 2)))] dJ40_siftUpComparable_25 hxv rfl q2254 q1517 q1516 rfl q1519 q1521 q1522 q1520 q1518 q178 q1523 ⟨by decide, by decide⟩ (by show _ = some 1; decide +kernel) (c_X11_compareTo K 2 gh x (r ((j - 1) / 2)) (mi x) (rk x) (mi (r ((j - 1) / 2))) (rk (r ((j - 1) / 2))) (by omega) (hx.1.up hup) (hpl.1.up hup) ⟨hx.2.1, hpl.2.1⟩ ⟨hx.2.2, hpl.2.2⟩) pdX11_compareTo ⟨Nat.le_of_ble_eq_true rfl, by decide, by omega⟩ (kk_z fun r25 h25 q25 => ?_) kx_z
      obtain ⟨rfl, e25⟩ := q25
      have s1 := e25.1
      have s2 := e25.2.1
      have s3 := e25.2.2
      refine j_if_lt (y := yiJ40_siftUpComparable) 36 dJ40_siftUpComparable_30 (by decide) ⟨by omega, by omega⟩ (fun c30 => ?_) (fun c30 => ?_)
      · have hlt : kyP mi rk x < kyP mi rk (r ((j - 1) / 2)) := s1.mp c30
        refine m_aload_n (y := yiJ40_siftUpComparable) dJ40_siftUpComparable_36 rfl ?_
        refine j_iload_n (y := yiJ40_siftUpComparable) dJ40_siftUpComparable_37 rfl ?_
        refine m_aload (y := yiJ40_siftUpComparable) dJ40_siftUpComparable_38 rfl ?_
        refine h_aast (y := yiJ40_siftUpComparable) dJ40_siftUpComparable_40 he ⟨_, _, _, _, hyv, rfl, kObj 10 _ rfl⟩ ⟨by omega, by omega⟩ (by omega) (hp_put fun g2 g2H => ?_)
        have hxv : g2.2.2 x = some (true, .inr (10, [a0, a1, a2, a3])) := (g2H.2.2.2 _ (by omega)).trans hxv
        have hyv : g2.2.2 (r ((j - 1) / 2)) = some (true, .inr (10, [b0, b1, b2, b3])) := (g2H.2.2.2 _ (by omega)).trans hyv
        have fR : ∀ b, (b ≠ e) → g2.2.2 b = h.2.2 b := fun b hb => (g2H.2.2.2 b (by omega)).trans (fR b hb)
        have he : g2.2.2 e = some (true, oaE K cap (upq g j (some (r ((j - 1) / 2))))) := g2H.2.2.1
        have g21 := g2H.1
        have g22 := g2H.2.1
        refine j_iload (y := yiJ40_siftUpComparable) dJ40_siftUpComparable_41 rfl ?_
        refine j_istore_n (y := yiJ40_siftUpComparable) [some (vi ((j - 1) / 2)), some (.ref x), some (.ref e), some (.ref x), some (vi ((j - 1) / 2)), some (.ref (r ((j - 1) / 2)))] dJ40_siftUpComparable_43 (by decide) rfl rfl ?_
        refine m_goto (y := yiJ40_siftUpComparable) 5 dJ40_siftUpComparable_44 (by decide) ?_
        refine mw_forget 4 ?_
        refine mw_forget 5 ?_
        exact ih5 _ (by omega) _ _ _ _ rfl he hxv fR (by omega) (fun i a b c => by { unfold upq; by_cases e9 : i = j; { rw [if_pos e9, e9, upn_at] }; { rw [if_neg e9, upn_ne e9]; exact hg i a b e9 } }) (fun i a => by { unfold upq; rw [if_neg (by omega)]; exact hg2 i a }) (fun i a b c => by { by_cases e9 : i = j; { rw [e9, upn_at]; exact ⟨i9, i91, i92, i93⟩ }; { rw [upn_ne e9]; exact hr i a b e9 } }) (fun i a b => by { obtain ⟨i', w1, w2, w3⟩ := hr2 i a b; by_cases e9 : i' = (j - 1) / 2; { exact ⟨j, by omega, by omega, by rw [upn_at, ← e9]; exact w3⟩ }; { exact ⟨i', w1, e9, by rw [upn_ne w2]; exact w3⟩ } }) (hH.step ⟨by omega, by omega⟩ hlt) (⟨by omega, by omega⟩)
      · refine m_goto (y := yiJ40_siftUpComparable) 47 dJ40_siftUpComparable_33 (by decide) ?_
        have hfinH : HOk (kyP mi rk) (k + 1) (upn r j x) := hH.fin ⟨hj.1, hj.2⟩ (by first | exact Or.inl (by omega) | exact Or.inr (by have q9 : ¬ kyP mi rk x < kyP mi rk (r ((j - 1) / 2)) := fun h9 => absurd (s1.mpr h9) (by omega); omega))
        have fR9 := fR
        refine m_aload_n (y := yiJ40_siftUpComparable) dJ40_siftUpComparable_47 rfl ?_
        refine j_iload_n (y := yiJ40_siftUpComparable) dJ40_siftUpComparable_48 rfl ?_
        refine m_aload_n (y := yiJ40_siftUpComparable) dJ40_siftUpComparable_49 rfl ?_
        refine h_aast (y := yiJ40_siftUpComparable) dJ40_siftUpComparable_50 he ⟨_, _, _, _, hxv, rfl, kObj 10 _ rfl⟩ ⟨by omega, by omega⟩ (by omega) (hp_put fun g3 g3H => ?_)
        have hxv : g3.2.2 x = some (true, .inr (10, [a0, a1, a2, a3])) := (g3H.2.2.2 _ (by omega)).trans hxv
        have hyv : g3.2.2 (r ((j - 1) / 2)) = some (true, .inr (10, [b0, b1, b2, b3])) := (g3H.2.2.2 _ (by omega)).trans hyv
        have fR : ∀ b, (b ≠ e) → g3.2.2 b = h.2.2 b := fun b hb => (g3H.2.2.2 b (by omega)).trans (fR b hb)
        have he : g3.2.2 e = some (true, oaE K cap (upq g j (some x))) := g3H.2.2.1
        have g31 := g3H.1
        have g32 := g3H.2.1
        subst hQ; exact j_vret (y := yiJ40_siftUpComparable) dJ40_siftUpComparable_51 rfl (⟨upq g j (some x), upn r j x, he, fun i a b => by { unfold upq; by_cases e9 : i = j; { rw [if_pos e9, e9, upn_at] }; { rw [if_neg e9, upn_ne e9]; exact hg i a b e9 } }, fun i a => by { unfold upq; rw [if_neg (by omega)]; exact hg2 i a }, hfinH, fun a => ⟨fun ⟨i, w1, w2, w3⟩ => by { by_cases e9 : i = j; { rw [e9, upn_at] at w3; exact Or.inl w3.symm }; { rw [upn_ne e9] at w3; obtain ⟨i', v1, v2, v3⟩ := hr i w1 w2 e9; exact Or.inr ⟨i', v1, v2, v3.trans w3⟩ } }, fun w => by { rcases w with w | ⟨i, w1, w2, w3⟩; { exact ⟨j, hj.1, by omega, by rw [upn_at]; exact w.symm⟩ }; { obtain ⟨i', v1, v2, v3⟩ := hr2 i w1 w2; exact ⟨i', v1.1, v1.2, by rw [upn_ne v2]; exact v3.trans w3⟩ } }⟩, by omega, by omega, fun b hb => (g3H.2.2.2 b hb).trans (fR9 b hb)⟩)
  exact L5 _ k f p _ rfl he hxv fR (by omega) (fun i a b c => hf i a (by omega)) (fun i a => rfl) (fun i a b c => ⟨i, a, by omega, rfl⟩) (fun i a b => ⟨i, ⟨a, by omega⟩, by omega, rfl⟩) (HuO.start hO) (⟨rfl, rfl⟩)
/-- siftDown from the root: x goes in, among n places -/
theorem c_J40_siftDownC (n : Int) (x : Nat) (p : Int → Nat) (hd : 3 ≤ d) (he : h.2.2 e = some (true, oaE K cap f)) (hcap : cap ≤ 100000) (hn : 1 ≤ n ∧ n < (cap : Int)) (hf : ∀ i, 0 ≤ i → i < n → f i = some (p i)) (hp : ∀ i, 0 ≤ i → i < n → PlC (exc e e h) (mi (p i)) (rk (p i)) (p i) ∧ PlB (mi (p i)) (rk (p i))) (hx : PlC (exc e e h) (mi x) (rk x) x ∧ PlB (mi x) (rk x)) (hO : HOk (kyP mi rk) (n + 1) p) : Mt K yiJ40_siftDownComparable d [vi 0, .ref x, .ref e, vi n] h (Rv fun h' => ∃ f' p', h'.2.2 e = some (true, oaE K cap f') ∧ (∀ i, 0 ≤ i → i < n → f' i = some (p' i)) ∧ (∀ i, n ≤ i → f' i = f i) ∧ HOk (kyP mi rk) n p' ∧ (∀ a, (∃ i, 0 ≤ i ∧ i < n ∧ p' i = a) ↔ (a = x ∨ ∃ i, 1 ≤ i ∧ i < n ∧ p i = a)) ∧ h'.1 = h.1 ∧ h'.2.1 = h.2.1 ∧ ∀ b, b ≠ e → h'.2.2 b = h.2.2 b) := by
  obtain ⟨a0, a1, a2, a3, hxc⟩ := hx.1.cell4
  have hxc9 := exc_at hxc
  have hxv := hxc9.1
  have n1 : x ≠ e := hxc9.2.1
  refine mt_ofQ (by decide) (Nat.le_of_ble_eq_true rfl) (fun Q hQ => ?_)
  show MW K yiJ40_siftDownComparable d h 0 [some (vi 0), some (.ref x), some (.ref e), some (vi n), none, none, none, none, none] [] Q
  refine mw_wf (fun hwf => ?_)
  have l_he := hwf _ _ he
  have l_hxv := hwf _ _ hxv
  have fR : ∀ b, (b ≠ e) → h.2.2 b = h.2.2 b := fun _ _ => rfl
  refine m_aload_n (y := yiJ40_siftDownComparable) dJ40_siftDownComparable_0 rfl ?_
  refine m_cast (y := yiJ40_siftDownComparable) dJ40_siftDownComparable_1 hxv rfl q2252 (Or.inr q1518) ?_
  refine m_astore (y := yiJ40_siftDownComparable) dJ40_siftDownComparable_4 (by decide) rfl ?_
  show MW K yiJ40_siftDownComparable d h 6 [some (vi 0), some (.ref x), some (.ref e), some (vi n), some (.ref x), none, none, none, none] [] Q
  refine j_iload_n (y := yiJ40_siftDownComparable) dJ40_siftDownComparable_6 rfl ?_
  refine j_iconst (y := yiJ40_siftDownComparable) dJ40_siftDownComparable_7 ?_
  refine j_iushr1 (y := yiJ40_siftDownComparable) dJ40_siftDownComparable_8 ⟨by omega, by omega⟩ ?_
  refine j_istore (y := yiJ40_siftDownComparable) [some (vi 0), some (.ref x), some (.ref e), some (vi n), some (.ref x), some (vi (n / 2)), none, none, none] dJ40_siftDownComparable_9 (by decide) rfl rfl ?_
  have L11 : ∀ (N : Nat) (k : Int) (g : Int → Option Nat) (r : Int → Nat) (gh : MH), (n - k).toNat = N → (gh.2.2 e = some (true, oaE K cap g)) → (gh.2.2 x = some (true, .inr (10, [a0, a1, a2, a3]))) → (∀ b, (b ≠ e) → gh.2.2 b = h.2.2 b) → (0 ≤ k ∧ k < n) → (∀ i, 0 ≤ i → i < n → i ≠ k → g i = some (r i)) → (∀ i, n ≤ i → g i = f i) → (∀ i, 0 ≤ i → i < n → i ≠ k → ∃ i', 1 ≤ i' ∧ i' < n ∧ p i' = r i) → (∀ i, 1 ≤ i → i < n → ∃ i', (0 ≤ i' ∧ i' < n) ∧ i' ≠ k ∧ r i' = p i) → (HdO (kyP mi rk) n k r x) → (gh.1 = h.1 ∧ gh.2.1 = h.2.1) → MW K yiJ40_siftDownComparable d gh 11 [some (vi k), some (.ref x), some (.ref e), some (vi n), some (.ref x), some (vi (n / 2)), none, none, none] [] Q := by
    intro N
    induction N using Nat.strongRecOn with
    | _ N ih11 =>
    intro k g r gh hN11 he hxv fR hk hg hg2 hr hr2 hH hs
    refine mw_wf (fun hwf11 => ?_)
    have l_he11 := hwf11 _ _ he
    have l_hxv11 := hwf11 _ _ hxv
    refine j_iload_n (y := yiJ40_siftDownComparable) dJ40_siftDownComparable_11 rfl ?_
    refine j_iload (y := yiJ40_siftDownComparable) dJ40_siftDownComparable_12 rfl ?_
    refine j_icmp_ge (y := yiJ40_siftDownComparable) 94 dJ40_siftDownComparable_14 (by decide) ⟨⟨by omega, by omega⟩, ⟨by omega, by omega⟩⟩ (fun c14 => ?_) (fun c14 => ?_)
    · have hfinH : HOk (kyP mi rk) n (upn r k x) := hH.fin (by first | exact fun i a b c d' => by omega | exact fun i a b c d' => Int.le_trans (Int.not_lt.mp (fun h9 => absurd (s72.mpr h9) (by omega))) (hmin i a b c d'))
      have fR9 := fR
      refine m_aload_n (y := yiJ40_siftDownComparable) dJ40_siftDownComparable_94 rfl ?_
      refine j_iload_n (y := yiJ40_siftDownComparable) dJ40_siftDownComparable_95 rfl ?_
      refine m_aload (y := yiJ40_siftDownComparable) dJ40_siftDownComparable_96 rfl ?_
      refine h_aast (y := yiJ40_siftDownComparable) dJ40_siftDownComparable_98 he ⟨_, _, _, _, hxv, rfl, kObj 10 _ rfl⟩ ⟨by omega, by omega⟩ (by omega) (hp_put fun g1 g1H => ?_)
      have hxv : g1.2.2 x = some (true, .inr (10, [a0, a1, a2, a3])) := (g1H.2.2.2 _ (by omega)).trans hxv
      have fR : ∀ b, (b ≠ e) → g1.2.2 b = h.2.2 b := fun b hb => (g1H.2.2.2 b (by omega)).trans (fR b hb)
      have he : g1.2.2 e = some (true, oaE K cap (upq g k (some x))) := g1H.2.2.1
      have g11 := g1H.1
      have g12 := g1H.2.1
      subst hQ; exact j_vret (y := yiJ40_siftDownComparable) dJ40_siftDownComparable_99 rfl (⟨upq g k (some x), upn r k x, he, fun i a b => by { unfold upq; by_cases e9 : i = k; { rw [if_pos e9, e9, upn_at] }; { rw [if_neg e9, upn_ne e9]; exact hg i a b e9 } }, fun i a => by { unfold upq; rw [if_neg (by omega)]; exact hg2 i a }, hfinH, fun a => ⟨fun ⟨i, w1, w2, w3⟩ => by { by_cases e9 : i = k; { rw [e9, upn_at] at w3; exact Or.inl w3.symm }; { rw [upn_ne e9] at w3; obtain ⟨i', v1, v2, v3⟩ := hr i w1 w2 e9; exact Or.inr ⟨i', v1, v2, v3.trans w3⟩ } }, fun w => by { rcases w with w | ⟨i, w1, w2, w3⟩; { exact ⟨k, hk.1, hk.2, by rw [upn_at]; exact w.symm⟩ }; { obtain ⟨i', v1, v2, v3⟩ := hr2 i w1 w2; exact ⟨i', v1.1, v1.2, by rw [upn_ne v2]; exact v3.trans w3⟩ } }⟩, by omega, by omega, fun b hb => (g1H.2.2.2 b hb).trans (fR9 b hb)⟩)
    · have hup : ∀ b c, (exc e e h).2.2 b = some c → gh.2.2 b = some c := fun b c e9 => by { have u9 := exc_at e9; exact (fR b u9.2.1).trans u9.1 }
      have hpr : ∀ i, 0 ≤ i → i < n → i ≠ k → PlC (exc e e h) (mi (r i)) (rk (r i)) (r i) ∧ PlB (mi (r i)) (rk (r i)) := fun i a b c => by { obtain ⟨i9, i91, i92, i93⟩ := hr i a b c; have u9 := hp i9 (by omega) i92; rw [i93] at u9; exact u9 }
      refine j_iload_n (y := yiJ40_siftDownComparable) dJ40_siftDownComparable_17 rfl ?_
      refine j_iconst (y := yiJ40_siftDownComparable) dJ40_siftDownComparable_18 ?_
      refine j_ishlb (y := yiJ40_siftDownComparable) dJ40_siftDownComparable_19 ⟨by omega, by omega⟩ ?_
      refine j_iconst (y := yiJ40_siftDownComparable) dJ40_siftDownComparable_20 ?_
      refine j_iadd (y := yiJ40_siftDownComparable) dJ40_siftDownComparable_21 ?_
      refine mw_top (x' := 2 * k + 1) ((by omega)) ?_
      refine j_istore (y := yiJ40_siftDownComparable) [some (vi k), some (.ref x), some (.ref e), some (vi n), some (.ref x), some (vi (n / 2)), some (vi (2 * k + 1)), none, none] dJ40_siftDownComparable_22 (by decide) rfl rfl ?_
      refine m_aload_n (y := yiJ40_siftDownComparable) dJ40_siftDownComparable_24 rfl ?_
      refine j_iload (y := yiJ40_siftDownComparable) dJ40_siftDownComparable_25 rfl ?_
      refine h_aald5 (y := yiJ40_siftDownComparable) dJ40_siftDownComparable_27 he ⟨by omega, by omega⟩ (by omega) ?_
      rw [hg (2 * k + 1) (by omega) (by omega) (by omega)]
      show MW K yiJ40_siftDownComparable d gh 28 [some (vi k), some (.ref x), some (.ref e), some (vi n), some (.ref x), some (vi (n / 2)), some (vi (2 * k + 1)), none, none] [(.ref (r (2 * k + 1)))] Q
      refine m_astore (y := yiJ40_siftDownComparable) dJ40_siftDownComparable_28 (by decide) rfl ?_
      show MW K yiJ40_siftDownComparable d gh 30 [some (vi k), some (.ref x), some (.ref e), some (vi n), some (.ref x), some (vi (n / 2)), some (vi (2 * k + 1)), some (.ref (r (2 * k + 1))), none] [] Q
      have hp1 := hpr (2 * k + 1) (by omega) (by omega) (by omega)
      obtain ⟨b0, b1, b2, b3, hyc⟩ := hp1.1.cell4
      have hyv : gh.2.2 (r (2 * k + 1)) = some (true, .inr (10, [b0, b1, b2, b3])) := hup _ _ hyc
      have l_hyv := hwf11 _ _ hyv
      refine j_iload (y := yiJ40_siftDownComparable) dJ40_siftDownComparable_30 rfl ?_
      refine j_iconst (y := yiJ40_siftDownComparable) dJ40_siftDownComparable_32 ?_
      refine j_iadd (y := yiJ40_siftDownComparable) dJ40_siftDownComparable_33 ?_
      refine mw_top (x' := 2 * k + 2) ((by omega)) ?_
      refine j_istore (y := yiJ40_siftDownComparable) [some (vi k), some (.ref x), some (.ref e), some (vi n), some (.ref x), some (vi (n / 2)), some (vi (2 * k + 1)), some (.ref (r (2 * k + 1))), some (vi (2 * k + 2))] dJ40_siftDownComparable_34 (by decide) rfl rfl ?_
      have J68 : ∀ (m : Int), ((m - 1) / 2 = k ∧ 1 ≤ m ∧ m < n ∧ m ≠ k) → (∀ i, 1 ≤ i → i < n → (i - 1) / 2 = k → i ≠ k → kyP mi rk (r m) ≤ kyP mi rk (r i)) → MW K yiJ40_siftDownComparable d gh 68 [some (vi k), some (.ref x), some (.ref e), some (vi n), some (.ref x), some (vi (n / 2)), some (vi m), some (.ref (r m)), none] [] Q := by
        intro m hm hmin
        refine m_aload (y := yiJ40_siftDownComparable) dJ40_siftDownComparable_68 rfl ?_
        have hp3 := hpr m (by omega) (by omega) hm.2.2.2
        obtain ⟨c0, c1, c2, c3, hwc⟩ := hp3.1.cell4
        have hwv : gh.2.2 (r m) = some (true, .inr (10, [c0, c1, c2, c3])) := hup _ _ hwc
        have l_hwv := hwf11 _ _ hwv
        refine m_aload (y := yiJ40_siftDownComparable) dJ40_siftDownComparable_70 rfl ?_
        have nye := ne_oa hyv he
        have nwe := ne_oa hwv he
        refine m_invF (y := yiJ40_siftDownComparable) (rB := (RX11, TX11, 4)) [(.ref (r m))] dJ40_siftDownComparable_72 hxv rfl q2254 q1517 q1516 rfl q1519 q1521 q1522 q1520 q1518 q178 q1523 ⟨by decide, by decide⟩ (by show _ = some 1; decide +kernel) (c_X11_compareTo K 2 gh x (r m) (mi x) (rk x) (mi (r m)) (rk (r m)) (by omega) (hx.1.up hup) (hp3.1.up hup) ⟨hx.2.1, hp3.2.1⟩ ⟨hx.2.2, hp3.2.2⟩) pdX11_compareTo ⟨Nat.le_of_ble_eq_true rfl, by decide, by omega⟩ (kk_z fun r72 h72 q72 => ?_) kx_z
        obtain ⟨rfl, e72⟩ := q72
        have s72 := e72.2.1
        have s72b := e72.2.2
        refine j_if_gt (y := yiJ40_siftDownComparable) 83 dJ40_siftDownComparable_77 (by decide) ⟨by omega, by omega⟩ (fun c77 => ?_) (fun c77 => ?_)
        · have hmv := hr m (by omega) (by omega) hm.2.2.2
          refine m_aload_n (y := yiJ40_siftDownComparable) dJ40_siftDownComparable_83 rfl ?_
          refine j_iload_n (y := yiJ40_siftDownComparable) dJ40_siftDownComparable_84 rfl ?_
          refine m_aload (y := yiJ40_siftDownComparable) dJ40_siftDownComparable_85 rfl ?_
          refine h_aast (y := yiJ40_siftDownComparable) dJ40_siftDownComparable_87 he ⟨_, _, _, _, hwv, rfl, kObj 10 _ rfl⟩ ⟨by omega, by omega⟩ (by omega) (hp_put fun g2 g2H => ?_)
          have hxv : g2.2.2 x = some (true, .inr (10, [a0, a1, a2, a3])) := (g2H.2.2.2 _ (by omega)).trans hxv
          have hyv : g2.2.2 (r (2 * k + 1)) = some (true, .inr (10, [b0, b1, b2, b3])) := (g2H.2.2.2 _ (by omega)).trans hyv
          have hwv : g2.2.2 (r m) = some (true, .inr (10, [c0, c1, c2, c3])) := (g2H.2.2.2 _ (by omega)).trans hwv
          have fR : ∀ b, (b ≠ e) → g2.2.2 b = h.2.2 b := fun b hb => (g2H.2.2.2 b (by omega)).trans (fR b hb)
          have he : g2.2.2 e = some (true, oaE K cap (upq g k (some (r m)))) := g2H.2.2.1
          have g21 := g2H.1
          have g22 := g2H.2.1
          refine j_iload (y := yiJ40_siftDownComparable) dJ40_siftDownComparable_88 rfl ?_
          refine j_istore_n (y := yiJ40_siftDownComparable) [some (vi m), some (.ref x), some (.ref e), some (vi n), some (.ref x), some (vi (n / 2)), some (vi m), some (.ref (r m)), none] dJ40_siftDownComparable_90 (by decide) rfl rfl ?_
          refine m_goto (y := yiJ40_siftDownComparable) 11 dJ40_siftDownComparable_91 (by decide) ?_
          refine mw_forget 6 ?_
          refine mw_forget 7 ?_
          exact ih11 _ (by omega) _ _ _ _ rfl he hxv fR (by omega) (fun i a b c => by { unfold upq; by_cases e9 : i = k; { rw [if_pos e9, e9, upn_at] }; { rw [if_neg e9, upn_ne e9]; exact hg i a b e9 } }) (fun i a => by { unfold upq; rw [if_neg (by omega)]; exact hg2 i a }) (fun i a b c => by { by_cases e9 : i = k; { rw [e9, upn_at]; exact hmv }; { rw [upn_ne e9]; exact hr i a b e9 } }) (fun i a b => by { obtain ⟨i', w1, w2, w3⟩ := hr2 i a b; by_cases e9 : i' = m; { exact ⟨k, by omega, fun h9 => hm.2.2.2 h9.symm, by rw [upn_at, ← e9]; exact w3⟩ }; { exact ⟨i', w1, e9, by rw [upn_ne w2]; exact w3⟩ } }) (hH.step hk.1 hm hmin (s72.mp c77)) (⟨by omega, by omega⟩)
        · refine m_goto (y := yiJ40_siftDownComparable) 94 dJ40_siftDownComparable_80 (by decide) ?_
          have hfinH : HOk (kyP mi rk) n (upn r k x) := hH.fin (by first | exact fun i a b c d' => by omega | exact fun i a b c d' => Int.le_trans (Int.not_lt.mp (fun h9 => absurd (s72.mpr h9) (by omega))) (hmin i a b c d'))
          have fR9 := fR
          refine m_aload_n (y := yiJ40_siftDownComparable) dJ40_siftDownComparable_94 rfl ?_
          refine j_iload_n (y := yiJ40_siftDownComparable) dJ40_siftDownComparable_95 rfl ?_
          refine m_aload (y := yiJ40_siftDownComparable) dJ40_siftDownComparable_96 rfl ?_
          refine h_aast (y := yiJ40_siftDownComparable) dJ40_siftDownComparable_98 he ⟨_, _, _, _, hxv, rfl, kObj 10 _ rfl⟩ ⟨by omega, by omega⟩ (by omega) (hp_put fun g3 g3H => ?_)
          have hxv : g3.2.2 x = some (true, .inr (10, [a0, a1, a2, a3])) := (g3H.2.2.2 _ (by omega)).trans hxv
          have hyv : g3.2.2 (r (2 * k + 1)) = some (true, .inr (10, [b0, b1, b2, b3])) := (g3H.2.2.2 _ (by omega)).trans hyv
          have hwv : g3.2.2 (r m) = some (true, .inr (10, [c0, c1, c2, c3])) := (g3H.2.2.2 _ (by omega)).trans hwv
          have fR : ∀ b, (b ≠ e) → g3.2.2 b = h.2.2 b := fun b hb => (g3H.2.2.2 b (by omega)).trans (fR b hb)
          have he : g3.2.2 e = some (true, oaE K cap (upq g k (some x))) := g3H.2.2.1
          have g31 := g3H.1
          have g32 := g3H.2.1
          subst hQ; exact j_vret (y := yiJ40_siftDownComparable) dJ40_siftDownComparable_99 rfl (⟨upq g k (some x), upn r k x, he, fun i a b => by { unfold upq; by_cases e9 : i = k; { rw [if_pos e9, e9, upn_at] }; { rw [if_neg e9, upn_ne e9]; exact hg i a b e9 } }, fun i a => by { unfold upq; rw [if_neg (by omega)]; exact hg2 i a }, hfinH, fun a => ⟨fun ⟨i, w1, w2, w3⟩ => by { by_cases e9 : i = k; { rw [e9, upn_at] at w3; exact Or.inl w3.symm }; { rw [upn_ne e9] at w3; obtain ⟨i', v1, v2, v3⟩ := hr i w1 w2 e9; exact Or.inr ⟨i', v1, v2, v3.trans w3⟩ } }, fun w => by { rcases w with w | ⟨i, w1, w2, w3⟩; { exact ⟨k, hk.1, hk.2, by rw [upn_at]; exact w.symm⟩ }; { obtain ⟨i', v1, v2, v3⟩ := hr2 i w1 w2; exact ⟨i', v1.1, v1.2, by rw [upn_ne v2]; exact v3.trans w3⟩ } }⟩, by omega, by omega, fun b hb => (g3H.2.2.2 b hb).trans (fR9 b hb)⟩)
      refine j_iload (y := yiJ40_siftDownComparable) dJ40_siftDownComparable_36 rfl ?_
      refine j_iload_n (y := yiJ40_siftDownComparable) dJ40_siftDownComparable_38 rfl ?_
      refine j_icmp_ge (y := yiJ40_siftDownComparable) 68 dJ40_siftDownComparable_39 (by decide) ⟨⟨by omega, by omega⟩, ⟨by omega, by omega⟩⟩ (fun c39 => ?_) (fun c39 => ?_)
      · refine mw_forget 8 ?_
        exact J68 _ (⟨by omega, by omega, by omega, by omega⟩) (fun i a b c d' => by { have e9 : i = 2 * k + 1 ∨ i = 2 * k + 2 := (by omega); first | (rcases e9 with e9 | e9; { rw [e9]; exact Int.le_refl _ }; { omega }) | (rcases e9 with e9 | e9; { rw [e9]; exact Int.le_of_lt (s51.mp c56) }; { rw [e9]; exact Int.le_refl _ }) | (rcases e9 with e9 | e9; { rw [e9]; exact Int.le_refl _ }; { rw [e9]; exact Int.not_lt.mp (fun h9 => absurd (s51.mpr h9) (by omega)) }) })
      · refine m_aload (y := yiJ40_siftDownComparable) dJ40_siftDownComparable_42 rfl ?_
        refine m_cast (y := yiJ40_siftDownComparable) dJ40_siftDownComparable_44 hyv rfl q2252 (Or.inr q1518) ?_
        have hp2 := hpr (2 * k + 2) (by omega) (by omega) (by omega)
        obtain ⟨d0, d1, d2, d3, hzc⟩ := hp2.1.cell4
        have hzv : gh.2.2 (r (2 * k + 2)) = some (true, .inr (10, [d0, d1, d2, d3])) := hup _ _ hzc
        have l_hzv := hwf11 _ _ hzv
        refine m_aload_n (y := yiJ40_siftDownComparable) dJ40_siftDownComparable_47 rfl ?_
        refine j_iload (y := yiJ40_siftDownComparable) dJ40_siftDownComparable_48 rfl ?_
        refine h_aald5 (y := yiJ40_siftDownComparable) dJ40_siftDownComparable_50 he ⟨by omega, by omega⟩ (by omega) ?_
        rw [hg (2 * k + 2) (by omega) (by omega) (by omega)]
        show MW K yiJ40_siftDownComparable d gh 51 [some (vi k), some (.ref x), some (.ref e), some (vi n), some (.ref x), some (vi (n / 2)), some (vi (2 * k + 1)), some (.ref (r (2 * k + 1))), some (vi (2 * k + 2))] [(.ref (r (2 * k + 2))), (.ref (r (2 * k + 1)))] Q
        refine m_invF (y := yiJ40_siftDownComparable) (rB := (RX11, TX11, 4)) [(.ref (r (2 * k + 2)))] dJ40_siftDownComparable_51 hyv rfl q2254 q1517 q1516 rfl q1519 q1521 q1522 q1520 q1518 q178 q1523 ⟨by decide, by decide⟩ (by show _ = some 1; decide +kernel) (c_X11_compareTo K 2 gh (r (2 * k + 1)) (r (2 * k + 2)) (mi (r (2 * k + 1))) (rk (r (2 * k + 1))) (mi (r (2 * k + 2))) (rk (r (2 * k + 2))) (by omega) (hp1.1.up hup) (hp2.1.up hup) ⟨hp1.2.1, hp2.2.1⟩ ⟨hp1.2.2, hp2.2.2⟩) pdX11_compareTo ⟨Nat.le_of_ble_eq_true rfl, by decide, by omega⟩ (kk_z fun r51 h51 q51 => ?_) kx_z
        obtain ⟨rfl, e51⟩ := q51
        have s51 := e51.2.1
        have s51b := e51.2.2
        refine j_if_le (y := yiJ40_siftDownComparable) 68 dJ40_siftDownComparable_56 (by decide) ⟨by omega, by omega⟩ (fun c56 => ?_) (fun c56 => ?_)
        · refine mw_forget 8 ?_
          exact J68 _ (⟨by omega, by omega, by omega, by omega⟩) (fun i a b c d' => by { have e9 : i = 2 * k + 1 ∨ i = 2 * k + 2 := (by omega); first | (rcases e9 with e9 | e9; { rw [e9]; exact Int.le_refl _ }; { omega }) | (rcases e9 with e9 | e9; { rw [e9]; exact Int.le_of_lt (s51.mp c56) }; { rw [e9]; exact Int.le_refl _ }) | (rcases e9 with e9 | e9; { rw [e9]; exact Int.le_refl _ }; { rw [e9]; exact Int.not_lt.mp (fun h9 => absurd (s51.mpr h9) (by omega)) }) })
        · refine m_aload_n (y := yiJ40_siftDownComparable) dJ40_siftDownComparable_59 rfl ?_
          refine j_iload (y := yiJ40_siftDownComparable) dJ40_siftDownComparable_60 rfl ?_
          refine m_dup (y := yiJ40_siftDownComparable) dJ40_siftDownComparable_62 rfl ?_
          refine j_istore (y := yiJ40_siftDownComparable) [some (vi k), some (.ref x), some (.ref e), some (vi n), some (.ref x), some (vi (n / 2)), some (vi (2 * k + 2)), some (.ref (r (2 * k + 1))), some (vi (2 * k + 2))] dJ40_siftDownComparable_63 (by decide) rfl rfl ?_
          refine h_aald5 (y := yiJ40_siftDownComparable) dJ40_siftDownComparable_65 he ⟨by omega, by omega⟩ (by omega) ?_
          rw [hg (2 * k + 2) (by omega) (by omega) (by omega)]
          show MW K yiJ40_siftDownComparable d gh 66 [some (vi k), some (.ref x), some (.ref e), some (vi n), some (.ref x), some (vi (n / 2)), some (vi (2 * k + 2)), some (.ref (r (2 * k + 1))), some (vi (2 * k + 2))] [(.ref (r (2 * k + 2)))] Q
          refine m_astore (y := yiJ40_siftDownComparable) dJ40_siftDownComparable_66 (by decide) rfl ?_
          show MW K yiJ40_siftDownComparable d gh 68 [some (vi k), some (.ref x), some (.ref e), some (vi n), some (.ref x), some (vi (n / 2)), some (vi (2 * k + 2)), some (.ref (r (2 * k + 2))), some (vi (2 * k + 2))] [] Q
          refine mw_forget 8 ?_
          exact J68 _ (⟨by omega, by omega, by omega, by omega⟩) (fun i a b c d' => by { have e9 : i = 2 * k + 1 ∨ i = 2 * k + 2 := (by omega); first | (rcases e9 with e9 | e9; { rw [e9]; exact Int.le_refl _ }; { omega }) | (rcases e9 with e9 | e9; { rw [e9]; exact Int.le_of_lt (s51.mp c56) }; { rw [e9]; exact Int.le_refl _ }) | (rcases e9 with e9 | e9; { rw [e9]; exact Int.le_refl _ }; { rw [e9]; exact Int.not_lt.mp (fun h9 => absurd (s51.mpr h9) (by omega)) }) })
  exact L11 _ 0 f p _ rfl he hxv fR (by omega) (fun i a b c => hf i a b) (fun i a => rfl) (fun i a b c => ⟨i, by omega, b, rfl⟩) (fun i a b => ⟨i, ⟨by omega, b⟩, by omega, rfl⟩) (HdO.start hO) (⟨rfl, rfl⟩)
end PQS
