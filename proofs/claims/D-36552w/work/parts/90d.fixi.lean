/-! java.util.TreeMap: the mend behind an insertion -/
theorem ob_inv {f : Nat → Option Nat} {y : Nat} {q : Option Nat} (e : some y = ob f q) : ∃ g, q = some g ∧ f g = some y := by
  cases q with
  | none => cases e
  | some a => exact ⟨a, rfl, e.symm⟩
theorem oc_red {co : Nat → Int} {q : Option Nat} (e : oc co q = 0) : ∃ s, q = some s ∧ co s = 0 := by
  cases q with
  | none => exact absurd (show (1 : Int) = 0 from e) (by decide)
  | some a => exact ⟨a, rfl, e⟩
theorem oc_n1 {co : Nat → Int} {q : Option Nat} (e : oc co q ≠ 1) : ∃ s, q = some s := by
  cases q with
  | none => exact absurd rfl e
  | some a => exact ⟨a, rfl⟩
theorem usc_1 {co : Nat → Int} {q : Option Nat} {r : Nat} (h : co r = 1) : usc co q 1 r = 1 := by
  cases q with
  | none => exact h
  | some a =>
    show upI co a 1 r = 1
    by_cases e : r = a
    · rw [e, upI_at]
    · rw [upI_ne e]; exact h
theorem usc_n {co : Nat → Int} {q : Option Nat} {c : Int} {r : Nat} (n : q ≠ some r) : usc co q c r = co r := by
  cases q with
  | none => rfl
  | some a => exact upI_ne (fun e => n (by rw [e]))
theorem usc_0 {co : Nat → Int} {q : Option Nat} {c : Int} {r : Nat} (n : q ≠ some r) (h : co r = 1) : usc co q c r = 1 := (usc_n n).trans h
theorem usc_p0 {co : Nat → Int} {q : Option Nat} {p : Nat} (n : q ≠ some p) : usc (usc co (some p) 0) q 0 p ≠ 1 := by
  rw [usc_n n]
  show upI co p 0 p ≠ 1
  rw [upI_at]; decide
section TREE
variable {L : List Nat} {key : Nat → Int} {lf rt pa : Nat → Option Nat} {co lo hi : Nat → Int} {root : Option Nat} {LO HI : Int}
theorem TmS.bd {a : Nat} (H : TmS L key lf rt pa lo hi root LO HI) (ha : a ∈ L) : lo a < key a ∧ key a < hi a ∧ LO ≤ lo a ∧ hi a ≤ HI := H.2.2.2.1 a ha
theorem TmS.up {a b : Nat} (H : TmS L key lf rt pa lo hi root LO HI) (ha : a ∈ L) (e : pa a = some b) : b ∈ L ∧ ((lf b = some a ∧ lo a = lo b ∧ hi a = key b) ∨ (rt b = some a ∧ lo a = key b ∧ hi a = hi b)) ∧ b ≠ a := by
  have z := H.2.2.2.2.2.2.1 a b ha e
  have bb := H.bd z.1
  rcases z.2 with h | h
  · have w := H.2.2.2.2.1 b a z.1 h
    exact ⟨z.1, Or.inl ⟨h, w.2.2⟩, fun e9 => by subst e9; omega⟩
  · have w := H.2.2.2.2.2.1 b a z.1 h
    exact ⟨z.1, Or.inr ⟨h, w.2.2⟩, fun e9 => by subst e9; omega⟩
theorem TmS.noroot {a : Nat} (H : TmS L key lf rt pa lo hi root LO HI) (ha : a ∈ L) (n : root ≠ some a) : ∃ b, pa a = some b := by
  cases h : pa a with
  | none => exact absurd (H.2.2.2.2.2.2.2.1 a ha h) n
  | some b => exact ⟨b, rfl⟩
theorem TmS.grow {a b : Nat} (H : TmS L key lf rt pa lo hi root LO HI) (ha : a ∈ L) (e : pa a = some b) : hi a - lo a < hi b - lo b ∧ lo b ≤ lo a ∧ hi a ≤ hi b := by
  have z := H.up ha e
  have bb := H.bd z.1
  rcases z.2.1 with h | h <;> omega
theorem TmS.rootE {a : Nat} (H : TmS L key lf rt pa lo hi root LO HI) (ha : a ∈ L) : ∃ r, root = some r ∧ r ∈ L := by
  cases h : root with
  | none => rw [H.2.1.mp h] at ha; cases ha
  | some r => exact ⟨r, rfl, (H.2.2.1 r h).1⟩
theorem fixB {gp px : Nat} (H : TmI L key lf rt pa lo hi root LO HI) (hc : ∀ r0, root = some r0 → co r0 = 1) (n : px ≠ gp) : ∀ r0, roR root pa gp px = some r0 → usc (usc co (some px) 1) (some gp) 0 r0 = 1 := fun r0 e => by
  unfold roR at e
  split at e
  · cases e
    show upI (upI co px 1) gp 0 px = 1
    rw [upI_ne n, upI_at]
  · next e9 =>
    have z := H.1.2.2.1 r0 e
    have n0 : r0 ≠ gp := fun e8 => e9 (by rw [← e8]; exact z.2.1)
    exact (upI_ne n0).trans (usc_1 (q := some px) (hc r0 e))
theorem fixM {gp px : Nat} (n : px ≠ gp) : usc (usc co (some px) 1) (some gp) 0 px = 1 := by
  show upI (upI co px 1) gp 0 px = 1
  rw [upI_ne n, upI_at]
end TREE

section TREE
variable {K : KT} {d : Nat} {h : MH} {m : Nat} {L : List Nat} {key : Nat → Int} {ko : Nat → Nat} {vl lf0 rt0 pa0 : Nat → Option Nat} {co0 lo0 hi0 : Nat → Int} {root0 : Option Nat} {sz mc LO HI : Int}

theorem c_J4_fixAfterInsertion (x0 : Nat) (hd : 1 ≤ d) (hF0 : TmF h m L ko vl lf0 rt0 pa0 co0 root0 sz mc) (hI0 : TmI L key lf0 rt0 pa0 lo0 hi0 root0 LO HI) (hx0 : x0 ∈ L) (hB0 : ∀ r0, root0 = some r0 → co0 r0 = 1 ∨ r0 = x0) : Mt K yiJ4_fixAfterInsertion d [.ref m, .ref x0] h (Rv fun h' => TFr L m h h' ∧ ∃ (lf rt pa : Nat → Option Nat) (co lo hi : Nat → Int) (root : Option Nat), TmF h' m L ko vl lf rt pa co root sz mc ∧ TmI L key lf rt pa lo hi root LO HI ∧ TmB co root) := by
  have hT0 : TFr L m h h := TFr.refl
  have hbd0 := hI0.1.bd hx0
  refine mt_ofQ (by decide) (Nat.le_of_ble_eq_true rfl) (fun Q hQ => ?_)
  show MW K yiJ4_fixAfterInsertion d h 0 [some (.ref m), some (.ref x0), none] [] Q
  refine mw_wf (fun hwf => ?_)
  refine m_aload_n (y := yiJ4_fixAfterInsertion) dJ4_fixAfterInsertion_0 rfl ?_
  refine j_iconst (y := yiJ4_fixAfterInsertion) dJ4_fixAfterInsertion_1 ?_
  refine m_putfS (y := yiJ4_fixAfterInsertion) kc_18 5 (by decide) dJ4_fixAfterInsertion_2 q1775 rfl (hF0.2.1 x0 (by assumption)) rfl rfl (hp_put fun g1 g1H => ?_)
  have hFg1 := TmF.p5 hF0 (by assumption) g1H
  have hTg1 := TFr.put hT0 (by assumption) g1H
  have L5 : ∀ (N : Nat) (x : Nat) (lf rt pa : Nat → Option Nat) (co lo hi : Nat → Int) (root : Option Nat) (N0 : Nat) (g : MH), N0 = N → (x ∈ L) → (TmF g m L ko vl lf rt pa co root sz mc) → (TmI L key lf rt pa lo hi root LO HI) → (TFr L m h g) → (∀ r0, root = some r0 → co r0 = 1 ∨ r0 = x) → (∀ y, pa x = some y → co y = 1 ∨ (HI - LO - (hi x - lo x)).toNat < N0) → MW K yiJ4_fixAfterInsertion d g 5 [some (.ref m), some (.ref x), none] [] Q := by
    intro N
    induction N using Nat.strongRecOn with
    | _ N ih5 =>
    intro x lf rt pa co lo hi root N0 g hN5 hx hF hI hT hB hm
    refine mw_wf (fun hwf5 => ?_)
    refine m_aload_n (y := yiJ4_fixAfterInsertion) dJ4_fixAfterInsertion_5 rfl ?_
    refine m_ifnull (y := yiJ4_fixAfterInsertion) (x := (some x)) 258 dJ4_fixAfterInsertion_6 (by decide) (fun h9 => nomatch h9) (fun _ _ => ?_)
    refine m_aload_n (y := yiJ4_fixAfterInsertion) dJ4_fixAfterInsertion_9 rfl ?_
    refine m_aload_n (y := yiJ4_fixAfterInsertion) dJ4_fixAfterInsertion_10 rfl ?_
    refine m_getfS (y := yiJ4_fixAfterInsertion) kc_17 3 (by decide) dJ4_fixAfterInsertion_11 q240 hF.1 rfl ?_
    refine m_acmp_eq (y := yiJ4_fixAfterInsertion) (x := (some x)) (z := root) 258 dJ4_fixAfterInsertion_14 (by decide) (fun c14 => ?_) (fun c14 => ?_)
    · obtain ⟨r9, hr9, hr9L⟩ := hI.1.rootE hx
      refine m_aload_n (y := yiJ4_fixAfterInsertion) dJ4_fixAfterInsertion_258 rfl ?_
      refine m_getfS (y := yiJ4_fixAfterInsertion) kc_17 3 (by decide) dJ4_fixAfterInsertion_259 q240 hF.1 rfl ?_
      refine mw_topv (v' := .ref r9) (congrArg va_rf (hr9)) ?_
      refine j_iconst (y := yiJ4_fixAfterInsertion) dJ4_fixAfterInsertion_262 ?_
      refine m_putfS (y := yiJ4_fixAfterInsertion) kc_18 5 (by decide) dJ4_fixAfterInsertion_263 q1775 rfl (hF.2.1 r9 (by assumption)) rfl rfl (hp_put fun g2 g2H => ?_)
      have hFg2 := TmF.p5 hF (by assumption) g2H
      have hTg2 := TFr.put hT (by assumption) g2H
      subst hQ; exact j_vret (y := yiJ4_fixAfterInsertion) dJ4_fixAfterInsertion_266 rfl (⟨hTg2, _, _, _, _, _, _, _, hFg2, hI, fun r0 e => by { have h9 : r0 = r9 := Option.some.inj (e.symm.trans hr9); rw [h9, upI_at] }⟩)
    · obtain ⟨y, hy⟩ := hI.1.noroot hx (fun e => c14 e.symm)
      obtain ⟨hyL, hyc, hyn⟩ := hI.1.up hx hy
      have hcy := hF.2.2 y hyL
      refine m_aload_n (y := yiJ4_fixAfterInsertion) dJ4_fixAfterInsertion_17 rfl ?_
      refine m_getfS (y := yiJ4_fixAfterInsertion) kc_18 4 (by decide) dJ4_fixAfterInsertion_18 q1773 (hF.2.1 x (by assumption)) rfl ?_
      refine mw_topv (v' := .ref y) (congrArg va_rf (hy)) ?_
      refine m_getfS (y := yiJ4_fixAfterInsertion) kc_18 5 (by decide) dJ4_fixAfterInsertion_21 q1775 (hF.2.1 y (by assumption)) rfl ?_
      refine j_if_ne (y := yiJ4_fixAfterInsertion) 258 dJ4_fixAfterInsertion_24 (by decide) ⟨by omega, by omega⟩ (fun c24 => ?_) (fun c24 => ?_)
      · obtain ⟨r9, hr9, hr9L⟩ := hI.1.rootE hx
        refine m_aload_n (y := yiJ4_fixAfterInsertion) dJ4_fixAfterInsertion_258 rfl ?_
        refine m_getfS (y := yiJ4_fixAfterInsertion) kc_17 3 (by decide) dJ4_fixAfterInsertion_259 q240 hF.1 rfl ?_
        refine mw_topv (v' := .ref r9) (congrArg va_rf (hr9)) ?_
        refine j_iconst (y := yiJ4_fixAfterInsertion) dJ4_fixAfterInsertion_262 ?_
        refine m_putfS (y := yiJ4_fixAfterInsertion) kc_18 5 (by decide) dJ4_fixAfterInsertion_263 q1775 rfl (hF.2.1 r9 (by assumption)) rfl rfl (hp_put fun g3 g3H => ?_)
        have hFg3 := TmF.p5 hF (by assumption) g3H
        have hTg3 := TFr.put hT (by assumption) g3H
        subst hQ; exact j_vret (y := yiJ4_fixAfterInsertion) dJ4_fixAfterInsertion_266 rfl (⟨hTg3, _, _, _, _, _, _, _, hFg3, hI, fun r0 e => by { have h9 : r0 = r9 := Option.some.inj (e.symm.trans hr9); rw [h9, upI_at] }⟩)
      · have hN9 := (hm y hy).resolve_left (by omega)
        refine m_aload_n (y := yiJ4_fixAfterInsertion) dJ4_fixAfterInsertion_27 rfl ?_
        refine m_invS (y := yiJ4_fixAfterInsertion) [(.ref x)] dJ4_fixAfterInsertion_28 q1797 q1798 q128 q1799 (c_J4_parentOf (some x) hF (OM.s (by assumption))) pdJ4_parentOf ⟨Nat.le_of_ble_eq_true rfl, by decide, by omega⟩ (kk_q fun r28 h28 q28 => ?_) kx_q
        obtain ⟨rfl, rfl⟩ := q28
        have om28 : OM L (ob pa (some x)) := OM.p hI (OM.s (by assumption))
        refine mw_topv (v' := .ref y) (congrArg va_rf (hy)) ?_
        refine m_aload_n (y := yiJ4_fixAfterInsertion) dJ4_fixAfterInsertion_31 rfl ?_
        refine m_invS (y := yiJ4_fixAfterInsertion) [(.ref x)] dJ4_fixAfterInsertion_32 q1797 q1798 q128 q1799 (c_J4_parentOf (some x) hF (OM.s (by assumption))) pdJ4_parentOf ⟨Nat.le_of_ble_eq_true rfl, by decide, by omega⟩ (kk_q fun r32 h32 q32 => ?_) kx_q
        obtain ⟨rfl, rfl⟩ := q32
        have om32 : OM L (ob pa (some x)) := OM.p hI (OM.s (by assumption))
        refine mw_topv (v' := .ref y) (congrArg va_rf (hy)) ?_
        refine m_invS (y := yiJ4_fixAfterInsertion) [(.ref y)] dJ4_fixAfterInsertion_35 q1797 q1798 q128 q1799 (c_J4_parentOf (some y) hF (OM.s (by assumption))) pdJ4_parentOf ⟨Nat.le_of_ble_eq_true rfl, by decide, by omega⟩ (kk_q fun r35 h35 q35 => ?_) kx_q
        obtain ⟨rfl, rfl⟩ := q35
        have om35 : OM L (ob pa (some y)) := OM.p hI (OM.s (by assumption))
        refine m_invS (y := yiJ4_fixAfterInsertion) [(va_rf (ob pa (some y)))] dJ4_fixAfterInsertion_38 q1800 q1801 q128 q1802 (c_J4_leftOf (ob pa (some y)) hF om35) pdJ4_leftOf ⟨Nat.le_of_ble_eq_true rfl, by decide, by omega⟩ (kk_q fun r38 h38 q38 => ?_) kx_q
        obtain ⟨rfl, rfl⟩ := q38
        have om38 : OM L (ob lf (ob pa (some y))) := OM.l hI om35
        refine m_acmp_ne (y := yiJ4_fixAfterInsertion) (x := (some y)) (z := (ob lf (ob pa (some y)))) 151 dJ4_fixAfterInsertion_41 (by decide) (fun c41 => ?_) (fun c41 => ?_)
        · obtain ⟨gp, hg⟩ := hI.1.noroot hyL (fun e => by { rcases hB y e with h9 | h9; { omega }; { exact hyn h9 } })
          have hg : pa y = some gp := hg
          obtain ⟨hgL, hgc, hgn⟩ := hI.1.up hyL hg
          have hlg : rt gp = some y := (hgc.resolve_left (fun h9 => c41 (by { show some y = ob lf (pa y); rw [hg]; exact h9.1.symm }))).1
          have hco1 : ∀ r0, root = some r0 → co r0 = 1 := fun r0 e => (hB r0 e).resolve_right (fun h9 => c14 (by rw [h9] at e; exact e.symm))
          have hgr1 := hI.1.grow hx hy
          have hgr2 := hI.1.grow hyL hg
          have hxg : x ≠ gp := fun e => by { subst e; omega }
          refine m_aload_n (y := yiJ4_fixAfterInsertion) dJ4_fixAfterInsertion_151 rfl ?_
          refine m_invS (y := yiJ4_fixAfterInsertion) [(.ref x)] dJ4_fixAfterInsertion_152 q1797 q1798 q128 q1799 (c_J4_parentOf (some x) hF (OM.s (by assumption))) pdJ4_parentOf ⟨Nat.le_of_ble_eq_true rfl, by decide, by omega⟩ (kk_q fun r152 h152 q152 => ?_) kx_q
          obtain ⟨rfl, rfl⟩ := q152
          have om152 : OM L (ob pa (some x)) := OM.p hI (OM.s (by assumption))
          refine mw_topv (v' := .ref y) (congrArg va_rf (hy)) ?_
          refine m_invS (y := yiJ4_fixAfterInsertion) [(.ref y)] dJ4_fixAfterInsertion_155 q1797 q1798 q128 q1799 (c_J4_parentOf (some y) hF (OM.s (by assumption))) pdJ4_parentOf ⟨Nat.le_of_ble_eq_true rfl, by decide, by omega⟩ (kk_q fun r155 h155 q155 => ?_) kx_q
          obtain ⟨rfl, rfl⟩ := q155
          have om155 : OM L (ob pa (some y)) := OM.p hI (OM.s (by assumption))
          refine mw_topv (v' := .ref gp) (congrArg va_rf (hg)) ?_
          refine m_invS (y := yiJ4_fixAfterInsertion) [(.ref gp)] dJ4_fixAfterInsertion_158 q1800 q1801 q128 q1802 (c_J4_leftOf (some gp) hF (OM.s (by assumption))) pdJ4_leftOf ⟨Nat.le_of_ble_eq_true rfl, by decide, by omega⟩ (kk_q fun r158 h158 q158 => ?_) kx_q
          obtain ⟨rfl, rfl⟩ := q158
          have om158 : OM L (ob lf (some gp)) := OM.l hI (OM.s (by assumption))
          refine m_astore_nq (y := yiJ4_fixAfterInsertion) dJ4_fixAfterInsertion_161 (by decide) rfl ?_
          show MW K yiJ4_fixAfterInsertion d g 162 [some (.ref m), some (.ref x), some (va_rf (ob lf (some gp)))] [] Q
          refine m_aload_nq (y := yiJ4_fixAfterInsertion) dJ4_fixAfterInsertion_162 rfl ?_
          refine m_invS (y := yiJ4_fixAfterInsertion) [(va_rf (ob lf (some gp)))] dJ4_fixAfterInsertion_163 q1806 q1807 q128 q1808 (c_J4_colorOf (ob lf (some gp)) hF om158) pdJ4_colorOf ⟨Nat.le_of_ble_eq_true rfl, by decide, by omega⟩ (kk_z fun r163 h163 q163 => ?_) kx_z
          obtain ⟨rfl, rfl⟩ := q163
          have oc163 := TmF.oc01 (q := (ob lf (some gp))) hF om158
          refine mw_top (x' := oc co (ob lf (some gp))) rfl ?_
          refine j_if_ne (y := yiJ4_fixAfterInsertion) 204 dJ4_fixAfterInsertion_166 (by decide) ⟨by omega, by omega⟩ (fun c166 => ?_) (fun c166 => ?_)
          · refine m_aload_n (y := yiJ4_fixAfterInsertion) dJ4_fixAfterInsertion_204 rfl ?_
            refine m_aload_n (y := yiJ4_fixAfterInsertion) dJ4_fixAfterInsertion_205 rfl ?_
            refine m_invS (y := yiJ4_fixAfterInsertion) [(.ref x)] dJ4_fixAfterInsertion_206 q1797 q1798 q128 q1799 (c_J4_parentOf (some x) hF (OM.s (by assumption))) pdJ4_parentOf ⟨Nat.le_of_ble_eq_true rfl, by decide, by omega⟩ (kk_q fun r206 h206 q206 => ?_) kx_q
            obtain ⟨rfl, rfl⟩ := q206
            have om206 : OM L (ob pa (some x)) := OM.p hI (OM.s (by assumption))
            refine mw_topv (v' := .ref y) (congrArg va_rf (hy)) ?_
            refine m_invS (y := yiJ4_fixAfterInsertion) [(.ref y)] dJ4_fixAfterInsertion_209 q1800 q1801 q128 q1802 (c_J4_leftOf (some y) hF (OM.s (by assumption))) pdJ4_leftOf ⟨Nat.le_of_ble_eq_true rfl, by decide, by omega⟩ (kk_q fun r209 h209 q209 => ?_) kx_q
            obtain ⟨rfl, rfl⟩ := q209
            have om209 : OM L (ob lf (some y)) := OM.l hI (OM.s (by assumption))
            refine m_acmp_ne (y := yiJ4_fixAfterInsertion) (x := (some x)) (z := (ob lf (some y))) 225 dJ4_fixAfterInsertion_212 (by decide) (fun c212 => ?_) (fun c212 => ?_)
            · refine m_aload_n (y := yiJ4_fixAfterInsertion) dJ4_fixAfterInsertion_225 rfl ?_
              refine m_invS (y := yiJ4_fixAfterInsertion) [(.ref x)] dJ4_fixAfterInsertion_226 q1797 q1798 q128 q1799 (c_J4_parentOf (some x) hF (OM.s (by assumption))) pdJ4_parentOf ⟨Nat.le_of_ble_eq_true rfl, by decide, by omega⟩ (kk_q fun r226 h226 q226 => ?_) kx_q
              obtain ⟨rfl, rfl⟩ := q226
              have om226 : OM L (ob pa (some x)) := OM.p hI (OM.s (by assumption))
              refine mw_topv (v' := .ref y) (congrArg va_rf (hy)) ?_
              refine j_iconst (y := yiJ4_fixAfterInsertion) dJ4_fixAfterInsertion_229 ?_
              refine m_invS (y := yiJ4_fixAfterInsertion) [(.ref y), (vi 1)] dJ4_fixAfterInsertion_230 q1809 q1810 q128 q1811 (c_J4_setColor (some y) 1 hF (OM.s (by assumption)) (by omega)) pdJ4_setColor ⟨Nat.le_of_ble_eq_true rfl, by decide, by omega⟩ (kk_v fun h230 q230 => ?_) kx_v
              obtain ⟨hU230, hF230⟩ := q230
              have hT230 := TFr.trans hT hU230
              refine mw_wf (fun hwf230 => ?_)
              refine m_aload_n (y := yiJ4_fixAfterInsertion) dJ4_fixAfterInsertion_233 rfl ?_
              refine m_invS (y := yiJ4_fixAfterInsertion) [(.ref x)] dJ4_fixAfterInsertion_234 q1797 q1798 q128 q1799 (c_J4_parentOf (some x) hF230 (OM.s (by assumption))) pdJ4_parentOf ⟨Nat.le_of_ble_eq_true rfl, by decide, by omega⟩ (kk_q fun r234 h234 q234 => ?_) kx_q
              obtain ⟨rfl, rfl⟩ := q234
              have om234 : OM L (ob pa (some x)) := OM.p hI (OM.s (by assumption))
              refine mw_topv (v' := .ref y) (congrArg va_rf (hy)) ?_
              refine m_invS (y := yiJ4_fixAfterInsertion) [(.ref y)] dJ4_fixAfterInsertion_237 q1797 q1798 q128 q1799 (c_J4_parentOf (some y) hF230 (OM.s (by assumption))) pdJ4_parentOf ⟨Nat.le_of_ble_eq_true rfl, by decide, by omega⟩ (kk_q fun r237 h237 q237 => ?_) kx_q
              obtain ⟨rfl, rfl⟩ := q237
              have om237 : OM L (ob pa (some y)) := OM.p hI (OM.s (by assumption))
              refine mw_topv (v' := .ref gp) (congrArg va_rf (hg)) ?_
              refine j_iconst (y := yiJ4_fixAfterInsertion) dJ4_fixAfterInsertion_240 ?_
              refine m_invS (y := yiJ4_fixAfterInsertion) [(.ref gp), (vi 0)] dJ4_fixAfterInsertion_241 q1809 q1810 q128 q1811 (c_J4_setColor (some gp) 0 hF230 (OM.s (by assumption)) (by omega)) pdJ4_setColor ⟨Nat.le_of_ble_eq_true rfl, by decide, by omega⟩ (kk_v fun h241 q241 => ?_) kx_v
              obtain ⟨hU241, hF241⟩ := q241
              have hT241 := TFr.trans hT230 hU241
              refine mw_wf (fun hwf241 => ?_)
              refine m_aload_n (y := yiJ4_fixAfterInsertion) dJ4_fixAfterInsertion_244 rfl ?_
              refine m_aload_n (y := yiJ4_fixAfterInsertion) dJ4_fixAfterInsertion_245 rfl ?_
              refine m_invS (y := yiJ4_fixAfterInsertion) [(.ref x)] dJ4_fixAfterInsertion_246 q1797 q1798 q128 q1799 (c_J4_parentOf (some x) hF241 (OM.s (by assumption))) pdJ4_parentOf ⟨Nat.le_of_ble_eq_true rfl, by decide, by omega⟩ (kk_q fun r246 h246 q246 => ?_) kx_q
              obtain ⟨rfl, rfl⟩ := q246
              have om246 : OM L (ob pa (some x)) := OM.p hI (OM.s (by assumption))
              refine mw_topv (v' := .ref y) (congrArg va_rf (hy)) ?_
              refine m_invS (y := yiJ4_fixAfterInsertion) [(.ref y)] dJ4_fixAfterInsertion_249 q1797 q1798 q128 q1799 (c_J4_parentOf (some y) hF241 (OM.s (by assumption))) pdJ4_parentOf ⟨Nat.le_of_ble_eq_true rfl, by decide, by omega⟩ (kk_q fun r249 h249 q249 => ?_) kx_q
              obtain ⟨rfl, rfl⟩ := q249
              have om249 : OM L (ob pa (some y)) := OM.p hI (OM.s (by assumption))
              refine mw_topv (v' := .ref gp) (congrArg va_rf (hg)) ?_
              refine m_invV (y := yiJ4_fixAfterInsertion) (rB := (RJ4, TJ4, 9)) [(.ref gp)] dJ4_fixAfterInsertion_252 hF241.1 rfl q1812 q1814 qs26 q128 q1815 rfl (c_J4_rotateLeft (p := gp) (r := y) hF241 hI hgL hlg) pdJ4_rotateLeft ⟨Nat.le_of_ble_eq_true rfl, by decide, by omega⟩ (kk_v fun h252 q252 => ?_) kx_v
              obtain ⟨hU252, lfX252, rtX252, paX252, loX252, hiX252, roX252, hF252, hI252, hQ252, hR252⟩ := q252
              have hT252 := TFr.trans hT241 hU252
              refine mw_wf (fun hwf252 => ?_)
              refine m_goto (y := yiJ4_fixAfterInsertion) 5 dJ4_fixAfterInsertion_255 (by decide) ?_
              refine mw_forget 2 ?_
              exact ih5 _ (by omega) (x) (lfX252) (rtX252) (paX252) ((usc (usc co (some y) 1) (some gp) 0)) (loX252) (hiX252) (roX252) (N0 - 1) _ rfl hx hF252 hI252 hT252 (fun r0 e => Or.inl (fixB hI hco1 (fun h9 => hgn h9.symm) r0 (by rw [hR252] at e; exact e))) (fun y2 e2 => Or.inl (by { have h9 : y2 = y := Option.some.inj (e2.symm.trans (hI252.1.2.2.2.2.2.1 y x hyL (hQ252.2.1.trans ((hyc.resolve_left (fun h9 => c212 h9.1.symm)).1))).2.1); rw [h9]; exact fixM (fun h9 => hgn h9.symm) }))
            · refine m_aload_n (y := yiJ4_fixAfterInsertion) dJ4_fixAfterInsertion_215 rfl ?_
              refine m_invS (y := yiJ4_fixAfterInsertion) [(.ref x)] dJ4_fixAfterInsertion_216 q1797 q1798 q128 q1799 (c_J4_parentOf (some x) hF (OM.s (by assumption))) pdJ4_parentOf ⟨Nat.le_of_ble_eq_true rfl, by decide, by omega⟩ (kk_q fun r216 h216 q216 => ?_) kx_q
              obtain ⟨rfl, rfl⟩ := q216
              have om216 : OM L (ob pa (some x)) := OM.p hI (OM.s (by assumption))
              refine mw_topv (v' := .ref y) (congrArg va_rf (hy)) ?_
              refine m_astore_n (y := yiJ4_fixAfterInsertion) dJ4_fixAfterInsertion_219 (by decide) rfl ?_
              show MW K yiJ4_fixAfterInsertion d g 220 [some (.ref m), some (.ref y), some (va_rf (ob lf (some gp)))] [] Q
              refine m_aload_n (y := yiJ4_fixAfterInsertion) dJ4_fixAfterInsertion_220 rfl ?_
              refine m_aload_n (y := yiJ4_fixAfterInsertion) dJ4_fixAfterInsertion_221 rfl ?_
              refine m_invV (y := yiJ4_fixAfterInsertion) (rB := (RJ4, TJ4, 9)) [(.ref y)] dJ4_fixAfterInsertion_222 hF.1 rfl q1816 q1818 qs27 q128 q1819 rfl (c_J4_rotateRight (p := y) (r := x) hF hI hyL c212.symm) pdJ4_rotateRight ⟨Nat.le_of_ble_eq_true rfl, by decide, by omega⟩ (kk_v fun h222 q222 => ?_) kx_v
              obtain ⟨hU222, lfX222, rtX222, paX222, loX222, hiX222, roX222, hF222, hI222, hQ222, hR222⟩ := q222
              have hT222 := TFr.trans hT hU222
              have hco222 : ∀ r0, roX222 = some r0 → co r0 = 1 := fun r0 e => hco1 r0 (by { rw [hR222] at e; unfold roR at e; rw [if_neg (by rw [hg]; intro h9; cases h9)] at e; exact e })
              refine mw_wf (fun hwf222 => ?_)
              refine m_aload_n (y := yiJ4_fixAfterInsertion) dJ4_fixAfterInsertion_225 rfl ?_
              refine m_invS (y := yiJ4_fixAfterInsertion) [(.ref y)] dJ4_fixAfterInsertion_226 q1797 q1798 q128 q1799 (c_J4_parentOf (some y) hF222 (OM.s (by assumption))) pdJ4_parentOf ⟨Nat.le_of_ble_eq_true rfl, by decide, by omega⟩ (kk_q fun r226 h226 q226 => ?_) kx_q
              obtain ⟨rfl, rfl⟩ := q226
              have om226 : OM L (ob paX222 (some y)) := OM.p hI222 (OM.s (by assumption))
              refine mw_topv (v' := .ref x) (congrArg va_rf ((hQ222.2.2.2.1))) ?_
              refine j_iconst (y := yiJ4_fixAfterInsertion) dJ4_fixAfterInsertion_229 ?_
              refine m_invS (y := yiJ4_fixAfterInsertion) [(.ref x), (vi 1)] dJ4_fixAfterInsertion_230 q1809 q1810 q128 q1811 (c_J4_setColor (some x) 1 hF222 (OM.s (by assumption)) (by omega)) pdJ4_setColor ⟨Nat.le_of_ble_eq_true rfl, by decide, by omega⟩ (kk_v fun h230 q230 => ?_) kx_v
              obtain ⟨hU230, hF230⟩ := q230
              have hT230 := TFr.trans hT222 hU230
              refine mw_wf (fun hwf230 => ?_)
              refine m_aload_n (y := yiJ4_fixAfterInsertion) dJ4_fixAfterInsertion_233 rfl ?_
              refine m_invS (y := yiJ4_fixAfterInsertion) [(.ref y)] dJ4_fixAfterInsertion_234 q1797 q1798 q128 q1799 (c_J4_parentOf (some y) hF230 (OM.s (by assumption))) pdJ4_parentOf ⟨Nat.le_of_ble_eq_true rfl, by decide, by omega⟩ (kk_q fun r234 h234 q234 => ?_) kx_q
              obtain ⟨rfl, rfl⟩ := q234
              have om234 : OM L (ob paX222 (some y)) := OM.p hI222 (OM.s (by assumption))
              refine mw_topv (v' := .ref x) (congrArg va_rf ((hQ222.2.2.2.1))) ?_
              refine m_invS (y := yiJ4_fixAfterInsertion) [(.ref x)] dJ4_fixAfterInsertion_237 q1797 q1798 q128 q1799 (c_J4_parentOf (some x) hF230 (OM.s (by assumption))) pdJ4_parentOf ⟨Nat.le_of_ble_eq_true rfl, by decide, by omega⟩ (kk_q fun r237 h237 q237 => ?_) kx_q
              obtain ⟨rfl, rfl⟩ := q237
              have om237 : OM L (ob paX222 (some x)) := OM.p hI222 (OM.s (by assumption))
              refine mw_topv (v' := .ref gp) (congrArg va_rf ((hQ222.2.2.2.2.1.trans hg))) ?_
              refine j_iconst (y := yiJ4_fixAfterInsertion) dJ4_fixAfterInsertion_240 ?_
              refine m_invS (y := yiJ4_fixAfterInsertion) [(.ref gp), (vi 0)] dJ4_fixAfterInsertion_241 q1809 q1810 q128 q1811 (c_J4_setColor (some gp) 0 hF230 (OM.s (by assumption)) (by omega)) pdJ4_setColor ⟨Nat.le_of_ble_eq_true rfl, by decide, by omega⟩ (kk_v fun h241 q241 => ?_) kx_v
              obtain ⟨hU241, hF241⟩ := q241
              have hT241 := TFr.trans hT230 hU241
              refine mw_wf (fun hwf241 => ?_)
              refine m_aload_n (y := yiJ4_fixAfterInsertion) dJ4_fixAfterInsertion_244 rfl ?_
              refine m_aload_n (y := yiJ4_fixAfterInsertion) dJ4_fixAfterInsertion_245 rfl ?_
              refine m_invS (y := yiJ4_fixAfterInsertion) [(.ref y)] dJ4_fixAfterInsertion_246 q1797 q1798 q128 q1799 (c_J4_parentOf (some y) hF241 (OM.s (by assumption))) pdJ4_parentOf ⟨Nat.le_of_ble_eq_true rfl, by decide, by omega⟩ (kk_q fun r246 h246 q246 => ?_) kx_q
              obtain ⟨rfl, rfl⟩ := q246
              have om246 : OM L (ob paX222 (some y)) := OM.p hI222 (OM.s (by assumption))
              refine mw_topv (v' := .ref x) (congrArg va_rf ((hQ222.2.2.2.1))) ?_
              refine m_invS (y := yiJ4_fixAfterInsertion) [(.ref x)] dJ4_fixAfterInsertion_249 q1797 q1798 q128 q1799 (c_J4_parentOf (some x) hF241 (OM.s (by assumption))) pdJ4_parentOf ⟨Nat.le_of_ble_eq_true rfl, by decide, by omega⟩ (kk_q fun r249 h249 q249 => ?_) kx_q
              obtain ⟨rfl, rfl⟩ := q249
              have om249 : OM L (ob paX222 (some x)) := OM.p hI222 (OM.s (by assumption))
              refine mw_topv (v' := .ref gp) (congrArg va_rf ((hQ222.2.2.2.2.1.trans hg))) ?_
              refine m_invV (y := yiJ4_fixAfterInsertion) (rB := (RJ4, TJ4, 9)) [(.ref gp)] dJ4_fixAfterInsertion_252 hF241.1 rfl q1812 q1814 qs26 q128 q1815 rfl (c_J4_rotateLeft (p := gp) (r := x) hF241 hI222 hgL (hQ222.2.2.2.2.2.1 gp hgL hlg)) pdJ4_rotateLeft ⟨Nat.le_of_ble_eq_true rfl, by decide, by omega⟩ (kk_v fun h252 q252 => ?_) kx_v
              obtain ⟨hU252, lfX252, rtX252, paX252, loX252, hiX252, roX252, hF252, hI252, hQ252, hR252⟩ := q252
              have hT252 := TFr.trans hT241 hU252
              refine mw_wf (fun hwf252 => ?_)
              refine m_goto (y := yiJ4_fixAfterInsertion) 5 dJ4_fixAfterInsertion_255 (by decide) ?_
              refine mw_forget 2 ?_
              exact ih5 _ (by omega) (y) (lfX252) (rtX252) (paX252) ((usc (usc co (some x) 1) (some gp) 0)) (loX252) (hiX252) (roX252) (N0 - 1) _ rfl hyL hF252 hI252 hT252 (fun r0 e => Or.inl (fixB hI222 hco222 hxg r0 (by rw [hR252] at e; exact e))) (fun y2 e2 => Or.inl (by { have h9 : y2 = x := Option.some.inj (e2.symm.trans (hI252.1.2.2.2.2.2.1 x y hx (hQ252.2.1.trans (hQ222.1))).2.1); rw [h9]; exact fixM hxg }))
          · refine m_aload_n (y := yiJ4_fixAfterInsertion) dJ4_fixAfterInsertion_169 rfl ?_
            refine m_invS (y := yiJ4_fixAfterInsertion) [(.ref x)] dJ4_fixAfterInsertion_170 q1797 q1798 q128 q1799 (c_J4_parentOf (some x) hF (OM.s (by assumption))) pdJ4_parentOf ⟨Nat.le_of_ble_eq_true rfl, by decide, by omega⟩ (kk_q fun r170 h170 q170 => ?_) kx_q
            obtain ⟨rfl, rfl⟩ := q170
            have om170 : OM L (ob pa (some x)) := OM.p hI (OM.s (by assumption))
            refine mw_topv (v' := .ref y) (congrArg va_rf (hy)) ?_
            refine j_iconst (y := yiJ4_fixAfterInsertion) dJ4_fixAfterInsertion_173 ?_
            refine m_invS (y := yiJ4_fixAfterInsertion) [(.ref y), (vi 1)] dJ4_fixAfterInsertion_174 q1809 q1810 q128 q1811 (c_J4_setColor (some y) 1 hF (OM.s (by assumption)) (by omega)) pdJ4_setColor ⟨Nat.le_of_ble_eq_true rfl, by decide, by omega⟩ (kk_v fun h174 q174 => ?_) kx_v
            obtain ⟨hU174, hF174⟩ := q174
            have hT174 := TFr.trans hT hU174
            refine mw_wf (fun hwf174 => ?_)
            refine m_aload_nq (y := yiJ4_fixAfterInsertion) dJ4_fixAfterInsertion_177 rfl ?_
            refine j_iconst (y := yiJ4_fixAfterInsertion) dJ4_fixAfterInsertion_178 ?_
            refine m_invS (y := yiJ4_fixAfterInsertion) [(va_rf (ob lf (some gp))), (vi 1)] dJ4_fixAfterInsertion_179 q1809 q1810 q128 q1811 (c_J4_setColor (ob lf (some gp)) 1 hF174 om158 (by omega)) pdJ4_setColor ⟨Nat.le_of_ble_eq_true rfl, by decide, by omega⟩ (kk_v fun h179 q179 => ?_) kx_v
            obtain ⟨hU179, hF179⟩ := q179
            have hT179 := TFr.trans hT174 hU179
            refine mw_wf (fun hwf179 => ?_)
            refine m_aload_n (y := yiJ4_fixAfterInsertion) dJ4_fixAfterInsertion_182 rfl ?_
            refine m_invS (y := yiJ4_fixAfterInsertion) [(.ref x)] dJ4_fixAfterInsertion_183 q1797 q1798 q128 q1799 (c_J4_parentOf (some x) hF179 (OM.s (by assumption))) pdJ4_parentOf ⟨Nat.le_of_ble_eq_true rfl, by decide, by omega⟩ (kk_q fun r183 h183 q183 => ?_) kx_q
            obtain ⟨rfl, rfl⟩ := q183
            have om183 : OM L (ob pa (some x)) := OM.p hI (OM.s (by assumption))
            refine mw_topv (v' := .ref y) (congrArg va_rf (hy)) ?_
            refine m_invS (y := yiJ4_fixAfterInsertion) [(.ref y)] dJ4_fixAfterInsertion_186 q1797 q1798 q128 q1799 (c_J4_parentOf (some y) hF179 (OM.s (by assumption))) pdJ4_parentOf ⟨Nat.le_of_ble_eq_true rfl, by decide, by omega⟩ (kk_q fun r186 h186 q186 => ?_) kx_q
            obtain ⟨rfl, rfl⟩ := q186
            have om186 : OM L (ob pa (some y)) := OM.p hI (OM.s (by assumption))
            refine mw_topv (v' := .ref gp) (congrArg va_rf (hg)) ?_
            refine j_iconst (y := yiJ4_fixAfterInsertion) dJ4_fixAfterInsertion_189 ?_
            refine m_invS (y := yiJ4_fixAfterInsertion) [(.ref gp), (vi 0)] dJ4_fixAfterInsertion_190 q1809 q1810 q128 q1811 (c_J4_setColor (some gp) 0 hF179 (OM.s (by assumption)) (by omega)) pdJ4_setColor ⟨Nat.le_of_ble_eq_true rfl, by decide, by omega⟩ (kk_v fun h190 q190 => ?_) kx_v
            obtain ⟨hU190, hF190⟩ := q190
            have hT190 := TFr.trans hT179 hU190
            refine mw_wf (fun hwf190 => ?_)
            refine m_aload_n (y := yiJ4_fixAfterInsertion) dJ4_fixAfterInsertion_193 rfl ?_
            refine m_invS (y := yiJ4_fixAfterInsertion) [(.ref x)] dJ4_fixAfterInsertion_194 q1797 q1798 q128 q1799 (c_J4_parentOf (some x) hF190 (OM.s (by assumption))) pdJ4_parentOf ⟨Nat.le_of_ble_eq_true rfl, by decide, by omega⟩ (kk_q fun r194 h194 q194 => ?_) kx_q
            obtain ⟨rfl, rfl⟩ := q194
            have om194 : OM L (ob pa (some x)) := OM.p hI (OM.s (by assumption))
            refine mw_topv (v' := .ref y) (congrArg va_rf (hy)) ?_
            refine m_invS (y := yiJ4_fixAfterInsertion) [(.ref y)] dJ4_fixAfterInsertion_197 q1797 q1798 q128 q1799 (c_J4_parentOf (some y) hF190 (OM.s (by assumption))) pdJ4_parentOf ⟨Nat.le_of_ble_eq_true rfl, by decide, by omega⟩ (kk_q fun r197 h197 q197 => ?_) kx_q
            obtain ⟨rfl, rfl⟩ := q197
            have om197 : OM L (ob pa (some y)) := OM.p hI (OM.s (by assumption))
            refine mw_topv (v' := .ref gp) (congrArg va_rf (hg)) ?_
            refine m_astore_n (y := yiJ4_fixAfterInsertion) dJ4_fixAfterInsertion_200 (by decide) rfl ?_
            show MW K yiJ4_fixAfterInsertion d h190 201 [some (.ref m), some (.ref gp), some (va_rf (ob lf (some gp)))] [] Q
            refine m_goto (y := yiJ4_fixAfterInsertion) 255 dJ4_fixAfterInsertion_201 (by decide) ?_
            refine m_goto (y := yiJ4_fixAfterInsertion) 5 dJ4_fixAfterInsertion_255 (by decide) ?_
            refine mw_forget 2 ?_
            exact ih5 _ (by omega) (gp) (lf) (rt) (pa) ((usc (usc (usc co (some y) 1) (ob lf (some gp)) 1) (some gp) 0)) (lo) (hi) (root) (N0 - 1) _ rfl hgL hF190 hI hT190 (fun r0 e => by { by_cases e9 : r0 = gp; { exact Or.inr e9 }; { exact Or.inl ((upI_ne e9).trans (usc_1 (usc_1 (hco1 r0 e)))) } }) (fun y2 e2 => Or.inr (by { have q1 := (hm y hy).resolve_left (by omega); have q4 := hI.1.bd hgL; omega }))
        · obtain ⟨gp, hg, hlg⟩ := ob_inv c41
          have hg : pa y = some gp := hg
          obtain ⟨hgL, hgc, hgn⟩ := hI.1.up hyL hg
          have hco1 : ∀ r0, root = some r0 → co r0 = 1 := fun r0 e => (hB r0 e).resolve_right (fun h9 => c14 (by rw [h9] at e; exact e.symm))
          have hgr1 := hI.1.grow hx hy
          have hgr2 := hI.1.grow hyL hg
          have hxg : x ≠ gp := fun e => by { subst e; omega }
          refine m_aload_n (y := yiJ4_fixAfterInsertion) dJ4_fixAfterInsertion_44 rfl ?_
          refine m_invS (y := yiJ4_fixAfterInsertion) [(.ref x)] dJ4_fixAfterInsertion_45 q1797 q1798 q128 q1799 (c_J4_parentOf (some x) hF (OM.s (by assumption))) pdJ4_parentOf ⟨Nat.le_of_ble_eq_true rfl, by decide, by omega⟩ (kk_q fun r45 h45 q45 => ?_) kx_q
          obtain ⟨rfl, rfl⟩ := q45
          have om45 : OM L (ob pa (some x)) := OM.p hI (OM.s (by assumption))
          refine mw_topv (v' := .ref y) (congrArg va_rf (hy)) ?_
          refine m_invS (y := yiJ4_fixAfterInsertion) [(.ref y)] dJ4_fixAfterInsertion_48 q1797 q1798 q128 q1799 (c_J4_parentOf (some y) hF (OM.s (by assumption))) pdJ4_parentOf ⟨Nat.le_of_ble_eq_true rfl, by decide, by omega⟩ (kk_q fun r48 h48 q48 => ?_) kx_q
          obtain ⟨rfl, rfl⟩ := q48
          have om48 : OM L (ob pa (some y)) := OM.p hI (OM.s (by assumption))
          refine mw_topv (v' := .ref gp) (congrArg va_rf (hg)) ?_
          refine m_invS (y := yiJ4_fixAfterInsertion) [(.ref gp)] dJ4_fixAfterInsertion_51 q1803 q1804 q128 q1805 (c_J4_rightOf (some gp) hF (OM.s (by assumption))) pdJ4_rightOf ⟨Nat.le_of_ble_eq_true rfl, by decide, by omega⟩ (kk_q fun r51 h51 q51 => ?_) kx_q
          obtain ⟨rfl, rfl⟩ := q51
          have om51 : OM L (ob rt (some gp)) := OM.r hI (OM.s (by assumption))
          refine m_astore_nq (y := yiJ4_fixAfterInsertion) dJ4_fixAfterInsertion_54 (by decide) rfl ?_
          show MW K yiJ4_fixAfterInsertion d g 55 [some (.ref m), some (.ref x), some (va_rf (ob rt (some gp)))] [] Q
          refine m_aload_nq (y := yiJ4_fixAfterInsertion) dJ4_fixAfterInsertion_55 rfl ?_
          refine m_invS (y := yiJ4_fixAfterInsertion) [(va_rf (ob rt (some gp)))] dJ4_fixAfterInsertion_56 q1806 q1807 q128 q1808 (c_J4_colorOf (ob rt (some gp)) hF om51) pdJ4_colorOf ⟨Nat.le_of_ble_eq_true rfl, by decide, by omega⟩ (kk_z fun r56 h56 q56 => ?_) kx_z
          obtain ⟨rfl, rfl⟩ := q56
          have oc56 := TmF.oc01 (q := (ob rt (some gp))) hF om51
          refine mw_top (x' := oc co (ob rt (some gp))) rfl ?_
          refine j_if_ne (y := yiJ4_fixAfterInsertion) 97 dJ4_fixAfterInsertion_59 (by decide) ⟨by omega, by omega⟩ (fun c59 => ?_) (fun c59 => ?_)
          · refine m_aload_n (y := yiJ4_fixAfterInsertion) dJ4_fixAfterInsertion_97 rfl ?_
            refine m_aload_n (y := yiJ4_fixAfterInsertion) dJ4_fixAfterInsertion_98 rfl ?_
            refine m_invS (y := yiJ4_fixAfterInsertion) [(.ref x)] dJ4_fixAfterInsertion_99 q1797 q1798 q128 q1799 (c_J4_parentOf (some x) hF (OM.s (by assumption))) pdJ4_parentOf ⟨Nat.le_of_ble_eq_true rfl, by decide, by omega⟩ (kk_q fun r99 h99 q99 => ?_) kx_q
            obtain ⟨rfl, rfl⟩ := q99
            have om99 : OM L (ob pa (some x)) := OM.p hI (OM.s (by assumption))
            refine mw_topv (v' := .ref y) (congrArg va_rf (hy)) ?_
            refine m_invS (y := yiJ4_fixAfterInsertion) [(.ref y)] dJ4_fixAfterInsertion_102 q1803 q1804 q128 q1805 (c_J4_rightOf (some y) hF (OM.s (by assumption))) pdJ4_rightOf ⟨Nat.le_of_ble_eq_true rfl, by decide, by omega⟩ (kk_q fun r102 h102 q102 => ?_) kx_q
            obtain ⟨rfl, rfl⟩ := q102
            have om102 : OM L (ob rt (some y)) := OM.r hI (OM.s (by assumption))
            refine m_acmp_ne (y := yiJ4_fixAfterInsertion) (x := (some x)) (z := (ob rt (some y))) 118 dJ4_fixAfterInsertion_105 (by decide) (fun c105 => ?_) (fun c105 => ?_)
            · refine m_aload_n (y := yiJ4_fixAfterInsertion) dJ4_fixAfterInsertion_118 rfl ?_
              refine m_invS (y := yiJ4_fixAfterInsertion) [(.ref x)] dJ4_fixAfterInsertion_119 q1797 q1798 q128 q1799 (c_J4_parentOf (some x) hF (OM.s (by assumption))) pdJ4_parentOf ⟨Nat.le_of_ble_eq_true rfl, by decide, by omega⟩ (kk_q fun r119 h119 q119 => ?_) kx_q
              obtain ⟨rfl, rfl⟩ := q119
              have om119 : OM L (ob pa (some x)) := OM.p hI (OM.s (by assumption))
              refine mw_topv (v' := .ref y) (congrArg va_rf (hy)) ?_
              refine j_iconst (y := yiJ4_fixAfterInsertion) dJ4_fixAfterInsertion_122 ?_
              refine m_invS (y := yiJ4_fixAfterInsertion) [(.ref y), (vi 1)] dJ4_fixAfterInsertion_123 q1809 q1810 q128 q1811 (c_J4_setColor (some y) 1 hF (OM.s (by assumption)) (by omega)) pdJ4_setColor ⟨Nat.le_of_ble_eq_true rfl, by decide, by omega⟩ (kk_v fun h123 q123 => ?_) kx_v
              obtain ⟨hU123, hF123⟩ := q123
              have hT123 := TFr.trans hT hU123
              refine mw_wf (fun hwf123 => ?_)
              refine m_aload_n (y := yiJ4_fixAfterInsertion) dJ4_fixAfterInsertion_126 rfl ?_
              refine m_invS (y := yiJ4_fixAfterInsertion) [(.ref x)] dJ4_fixAfterInsertion_127 q1797 q1798 q128 q1799 (c_J4_parentOf (some x) hF123 (OM.s (by assumption))) pdJ4_parentOf ⟨Nat.le_of_ble_eq_true rfl, by decide, by omega⟩ (kk_q fun r127 h127 q127 => ?_) kx_q
              obtain ⟨rfl, rfl⟩ := q127
              have om127 : OM L (ob pa (some x)) := OM.p hI (OM.s (by assumption))
              refine mw_topv (v' := .ref y) (congrArg va_rf (hy)) ?_
              refine m_invS (y := yiJ4_fixAfterInsertion) [(.ref y)] dJ4_fixAfterInsertion_130 q1797 q1798 q128 q1799 (c_J4_parentOf (some y) hF123 (OM.s (by assumption))) pdJ4_parentOf ⟨Nat.le_of_ble_eq_true rfl, by decide, by omega⟩ (kk_q fun r130 h130 q130 => ?_) kx_q
              obtain ⟨rfl, rfl⟩ := q130
              have om130 : OM L (ob pa (some y)) := OM.p hI (OM.s (by assumption))
              refine mw_topv (v' := .ref gp) (congrArg va_rf (hg)) ?_
              refine j_iconst (y := yiJ4_fixAfterInsertion) dJ4_fixAfterInsertion_133 ?_
              refine m_invS (y := yiJ4_fixAfterInsertion) [(.ref gp), (vi 0)] dJ4_fixAfterInsertion_134 q1809 q1810 q128 q1811 (c_J4_setColor (some gp) 0 hF123 (OM.s (by assumption)) (by omega)) pdJ4_setColor ⟨Nat.le_of_ble_eq_true rfl, by decide, by omega⟩ (kk_v fun h134 q134 => ?_) kx_v
              obtain ⟨hU134, hF134⟩ := q134
              have hT134 := TFr.trans hT123 hU134
              refine mw_wf (fun hwf134 => ?_)
              refine m_aload_n (y := yiJ4_fixAfterInsertion) dJ4_fixAfterInsertion_137 rfl ?_
              refine m_aload_n (y := yiJ4_fixAfterInsertion) dJ4_fixAfterInsertion_138 rfl ?_
              refine m_invS (y := yiJ4_fixAfterInsertion) [(.ref x)] dJ4_fixAfterInsertion_139 q1797 q1798 q128 q1799 (c_J4_parentOf (some x) hF134 (OM.s (by assumption))) pdJ4_parentOf ⟨Nat.le_of_ble_eq_true rfl, by decide, by omega⟩ (kk_q fun r139 h139 q139 => ?_) kx_q
              obtain ⟨rfl, rfl⟩ := q139
              have om139 : OM L (ob pa (some x)) := OM.p hI (OM.s (by assumption))
              refine mw_topv (v' := .ref y) (congrArg va_rf (hy)) ?_
              refine m_invS (y := yiJ4_fixAfterInsertion) [(.ref y)] dJ4_fixAfterInsertion_142 q1797 q1798 q128 q1799 (c_J4_parentOf (some y) hF134 (OM.s (by assumption))) pdJ4_parentOf ⟨Nat.le_of_ble_eq_true rfl, by decide, by omega⟩ (kk_q fun r142 h142 q142 => ?_) kx_q
              obtain ⟨rfl, rfl⟩ := q142
              have om142 : OM L (ob pa (some y)) := OM.p hI (OM.s (by assumption))
              refine mw_topv (v' := .ref gp) (congrArg va_rf (hg)) ?_
              refine m_invV (y := yiJ4_fixAfterInsertion) (rB := (RJ4, TJ4, 9)) [(.ref gp)] dJ4_fixAfterInsertion_145 hF134.1 rfl q1816 q1818 qs27 q128 q1819 rfl (c_J4_rotateRight (p := gp) (r := y) hF134 hI hgL hlg) pdJ4_rotateRight ⟨Nat.le_of_ble_eq_true rfl, by decide, by omega⟩ (kk_v fun h145 q145 => ?_) kx_v
              obtain ⟨hU145, lfX145, rtX145, paX145, loX145, hiX145, roX145, hF145, hI145, hQ145, hR145⟩ := q145
              have hT145 := TFr.trans hT134 hU145
              refine mw_wf (fun hwf145 => ?_)
              refine m_goto (y := yiJ4_fixAfterInsertion) 5 dJ4_fixAfterInsertion_148 (by decide) ?_
              refine mw_forget 2 ?_
              exact ih5 _ (by omega) (x) (lfX145) (rtX145) (paX145) ((usc (usc co (some y) 1) (some gp) 0)) (loX145) (hiX145) (roX145) (N0 - 1) _ rfl hx hF145 hI145 hT145 (fun r0 e => Or.inl (fixB hI hco1 (fun h9 => hgn h9.symm) r0 (by rw [hR145] at e; exact e))) (fun y2 e2 => Or.inl (by { have h9 : y2 = y := Option.some.inj (e2.symm.trans (hI145.1.2.2.2.2.1 y x hyL (hQ145.2.1.trans ((hyc.resolve_right (fun h9 => c105 h9.1.symm)).1))).2.1); rw [h9]; exact fixM (fun h9 => hgn h9.symm) }))
            · refine m_aload_n (y := yiJ4_fixAfterInsertion) dJ4_fixAfterInsertion_108 rfl ?_
              refine m_invS (y := yiJ4_fixAfterInsertion) [(.ref x)] dJ4_fixAfterInsertion_109 q1797 q1798 q128 q1799 (c_J4_parentOf (some x) hF (OM.s (by assumption))) pdJ4_parentOf ⟨Nat.le_of_ble_eq_true rfl, by decide, by omega⟩ (kk_q fun r109 h109 q109 => ?_) kx_q
              obtain ⟨rfl, rfl⟩ := q109
              have om109 : OM L (ob pa (some x)) := OM.p hI (OM.s (by assumption))
              refine mw_topv (v' := .ref y) (congrArg va_rf (hy)) ?_
              refine m_astore_n (y := yiJ4_fixAfterInsertion) dJ4_fixAfterInsertion_112 (by decide) rfl ?_
              show MW K yiJ4_fixAfterInsertion d g 113 [some (.ref m), some (.ref y), some (va_rf (ob rt (some gp)))] [] Q
              refine m_aload_n (y := yiJ4_fixAfterInsertion) dJ4_fixAfterInsertion_113 rfl ?_
              refine m_aload_n (y := yiJ4_fixAfterInsertion) dJ4_fixAfterInsertion_114 rfl ?_
              refine m_invV (y := yiJ4_fixAfterInsertion) (rB := (RJ4, TJ4, 9)) [(.ref y)] dJ4_fixAfterInsertion_115 hF.1 rfl q1812 q1814 qs26 q128 q1815 rfl (c_J4_rotateLeft (p := y) (r := x) hF hI hyL c105.symm) pdJ4_rotateLeft ⟨Nat.le_of_ble_eq_true rfl, by decide, by omega⟩ (kk_v fun h115 q115 => ?_) kx_v
              obtain ⟨hU115, lfX115, rtX115, paX115, loX115, hiX115, roX115, hF115, hI115, hQ115, hR115⟩ := q115
              have hT115 := TFr.trans hT hU115
              have hco115 : ∀ r0, roX115 = some r0 → co r0 = 1 := fun r0 e => hco1 r0 (by { rw [hR115] at e; unfold roR at e; rw [if_neg (by rw [hg]; intro h9; cases h9)] at e; exact e })
              refine mw_wf (fun hwf115 => ?_)
              refine m_aload_n (y := yiJ4_fixAfterInsertion) dJ4_fixAfterInsertion_118 rfl ?_
              refine m_invS (y := yiJ4_fixAfterInsertion) [(.ref y)] dJ4_fixAfterInsertion_119 q1797 q1798 q128 q1799 (c_J4_parentOf (some y) hF115 (OM.s (by assumption))) pdJ4_parentOf ⟨Nat.le_of_ble_eq_true rfl, by decide, by omega⟩ (kk_q fun r119 h119 q119 => ?_) kx_q
              obtain ⟨rfl, rfl⟩ := q119
              have om119 : OM L (ob paX115 (some y)) := OM.p hI115 (OM.s (by assumption))
              refine mw_topv (v' := .ref x) (congrArg va_rf ((hQ115.2.2.2.1))) ?_
              refine j_iconst (y := yiJ4_fixAfterInsertion) dJ4_fixAfterInsertion_122 ?_
              refine m_invS (y := yiJ4_fixAfterInsertion) [(.ref x), (vi 1)] dJ4_fixAfterInsertion_123 q1809 q1810 q128 q1811 (c_J4_setColor (some x) 1 hF115 (OM.s (by assumption)) (by omega)) pdJ4_setColor ⟨Nat.le_of_ble_eq_true rfl, by decide, by omega⟩ (kk_v fun h123 q123 => ?_) kx_v
              obtain ⟨hU123, hF123⟩ := q123
              have hT123 := TFr.trans hT115 hU123
              refine mw_wf (fun hwf123 => ?_)
              refine m_aload_n (y := yiJ4_fixAfterInsertion) dJ4_fixAfterInsertion_126 rfl ?_
              refine m_invS (y := yiJ4_fixAfterInsertion) [(.ref y)] dJ4_fixAfterInsertion_127 q1797 q1798 q128 q1799 (c_J4_parentOf (some y) hF123 (OM.s (by assumption))) pdJ4_parentOf ⟨Nat.le_of_ble_eq_true rfl, by decide, by omega⟩ (kk_q fun r127 h127 q127 => ?_) kx_q
              obtain ⟨rfl, rfl⟩ := q127
              have om127 : OM L (ob paX115 (some y)) := OM.p hI115 (OM.s (by assumption))
              refine mw_topv (v' := .ref x) (congrArg va_rf ((hQ115.2.2.2.1))) ?_
              refine m_invS (y := yiJ4_fixAfterInsertion) [(.ref x)] dJ4_fixAfterInsertion_130 q1797 q1798 q128 q1799 (c_J4_parentOf (some x) hF123 (OM.s (by assumption))) pdJ4_parentOf ⟨Nat.le_of_ble_eq_true rfl, by decide, by omega⟩ (kk_q fun r130 h130 q130 => ?_) kx_q
              obtain ⟨rfl, rfl⟩ := q130
              have om130 : OM L (ob paX115 (some x)) := OM.p hI115 (OM.s (by assumption))
              refine mw_topv (v' := .ref gp) (congrArg va_rf ((hQ115.2.2.2.2.1.trans hg))) ?_
              refine j_iconst (y := yiJ4_fixAfterInsertion) dJ4_fixAfterInsertion_133 ?_
              refine m_invS (y := yiJ4_fixAfterInsertion) [(.ref gp), (vi 0)] dJ4_fixAfterInsertion_134 q1809 q1810 q128 q1811 (c_J4_setColor (some gp) 0 hF123 (OM.s (by assumption)) (by omega)) pdJ4_setColor ⟨Nat.le_of_ble_eq_true rfl, by decide, by omega⟩ (kk_v fun h134 q134 => ?_) kx_v
              obtain ⟨hU134, hF134⟩ := q134
              have hT134 := TFr.trans hT123 hU134
              refine mw_wf (fun hwf134 => ?_)
              refine m_aload_n (y := yiJ4_fixAfterInsertion) dJ4_fixAfterInsertion_137 rfl ?_
              refine m_aload_n (y := yiJ4_fixAfterInsertion) dJ4_fixAfterInsertion_138 rfl ?_
              refine m_invS (y := yiJ4_fixAfterInsertion) [(.ref y)] dJ4_fixAfterInsertion_139 q1797 q1798 q128 q1799 (c_J4_parentOf (some y) hF134 (OM.s (by assumption))) pdJ4_parentOf ⟨Nat.le_of_ble_eq_true rfl, by decide, by omega⟩ (kk_q fun r139 h139 q139 => ?_) kx_q
              obtain ⟨rfl, rfl⟩ := q139
              have om139 : OM L (ob paX115 (some y)) := OM.p hI115 (OM.s (by assumption))
              refine mw_topv (v' := .ref x) (congrArg va_rf ((hQ115.2.2.2.1))) ?_
              refine m_invS (y := yiJ4_fixAfterInsertion) [(.ref x)] dJ4_fixAfterInsertion_142 q1797 q1798 q128 q1799 (c_J4_parentOf (some x) hF134 (OM.s (by assumption))) pdJ4_parentOf ⟨Nat.le_of_ble_eq_true rfl, by decide, by omega⟩ (kk_q fun r142 h142 q142 => ?_) kx_q
              obtain ⟨rfl, rfl⟩ := q142
              have om142 : OM L (ob paX115 (some x)) := OM.p hI115 (OM.s (by assumption))
              refine mw_topv (v' := .ref gp) (congrArg va_rf ((hQ115.2.2.2.2.1.trans hg))) ?_
              refine m_invV (y := yiJ4_fixAfterInsertion) (rB := (RJ4, TJ4, 9)) [(.ref gp)] dJ4_fixAfterInsertion_145 hF134.1 rfl q1816 q1818 qs27 q128 q1819 rfl (c_J4_rotateRight (p := gp) (r := x) hF134 hI115 hgL (hQ115.2.2.2.2.2.1 gp hgL hlg)) pdJ4_rotateRight ⟨Nat.le_of_ble_eq_true rfl, by decide, by omega⟩ (kk_v fun h145 q145 => ?_) kx_v
              obtain ⟨hU145, lfX145, rtX145, paX145, loX145, hiX145, roX145, hF145, hI145, hQ145, hR145⟩ := q145
              have hT145 := TFr.trans hT134 hU145
              refine mw_wf (fun hwf145 => ?_)
              refine m_goto (y := yiJ4_fixAfterInsertion) 5 dJ4_fixAfterInsertion_148 (by decide) ?_
              refine mw_forget 2 ?_
              exact ih5 _ (by omega) (y) (lfX145) (rtX145) (paX145) ((usc (usc co (some x) 1) (some gp) 0)) (loX145) (hiX145) (roX145) (N0 - 1) _ rfl hyL hF145 hI145 hT145 (fun r0 e => Or.inl (fixB hI115 hco115 hxg r0 (by rw [hR145] at e; exact e))) (fun y2 e2 => Or.inl (by { have h9 : y2 = x := Option.some.inj (e2.symm.trans (hI145.1.2.2.2.2.1 x y hx (hQ145.2.1.trans (hQ115.1))).2.1); rw [h9]; exact fixM hxg }))
          · refine m_aload_n (y := yiJ4_fixAfterInsertion) dJ4_fixAfterInsertion_62 rfl ?_
            refine m_invS (y := yiJ4_fixAfterInsertion) [(.ref x)] dJ4_fixAfterInsertion_63 q1797 q1798 q128 q1799 (c_J4_parentOf (some x) hF (OM.s (by assumption))) pdJ4_parentOf ⟨Nat.le_of_ble_eq_true rfl, by decide, by omega⟩ (kk_q fun r63 h63 q63 => ?_) kx_q
            obtain ⟨rfl, rfl⟩ := q63
            have om63 : OM L (ob pa (some x)) := OM.p hI (OM.s (by assumption))
            refine mw_topv (v' := .ref y) (congrArg va_rf (hy)) ?_
            refine j_iconst (y := yiJ4_fixAfterInsertion) dJ4_fixAfterInsertion_66 ?_
            refine m_invS (y := yiJ4_fixAfterInsertion) [(.ref y), (vi 1)] dJ4_fixAfterInsertion_67 q1809 q1810 q128 q1811 (c_J4_setColor (some y) 1 hF (OM.s (by assumption)) (by omega)) pdJ4_setColor ⟨Nat.le_of_ble_eq_true rfl, by decide, by omega⟩ (kk_v fun h67 q67 => ?_) kx_v
            obtain ⟨hU67, hF67⟩ := q67
            have hT67 := TFr.trans hT hU67
            refine mw_wf (fun hwf67 => ?_)
            refine m_aload_nq (y := yiJ4_fixAfterInsertion) dJ4_fixAfterInsertion_70 rfl ?_
            refine j_iconst (y := yiJ4_fixAfterInsertion) dJ4_fixAfterInsertion_71 ?_
            refine m_invS (y := yiJ4_fixAfterInsertion) [(va_rf (ob rt (some gp))), (vi 1)] dJ4_fixAfterInsertion_72 q1809 q1810 q128 q1811 (c_J4_setColor (ob rt (some gp)) 1 hF67 om51 (by omega)) pdJ4_setColor ⟨Nat.le_of_ble_eq_true rfl, by decide, by omega⟩ (kk_v fun h72 q72 => ?_) kx_v
            obtain ⟨hU72, hF72⟩ := q72
            have hT72 := TFr.trans hT67 hU72
            refine mw_wf (fun hwf72 => ?_)
            refine m_aload_n (y := yiJ4_fixAfterInsertion) dJ4_fixAfterInsertion_75 rfl ?_
            refine m_invS (y := yiJ4_fixAfterInsertion) [(.ref x)] dJ4_fixAfterInsertion_76 q1797 q1798 q128 q1799 (c_J4_parentOf (some x) hF72 (OM.s (by assumption))) pdJ4_parentOf ⟨Nat.le_of_ble_eq_true rfl, by decide, by omega⟩ (kk_q fun r76 h76 q76 => ?_) kx_q
            obtain ⟨rfl, rfl⟩ := q76
            have om76 : OM L (ob pa (some x)) := OM.p hI (OM.s (by assumption))
            refine mw_topv (v' := .ref y) (congrArg va_rf (hy)) ?_
            refine m_invS (y := yiJ4_fixAfterInsertion) [(.ref y)] dJ4_fixAfterInsertion_79 q1797 q1798 q128 q1799 (c_J4_parentOf (some y) hF72 (OM.s (by assumption))) pdJ4_parentOf ⟨Nat.le_of_ble_eq_true rfl, by decide, by omega⟩ (kk_q fun r79 h79 q79 => ?_) kx_q
            obtain ⟨rfl, rfl⟩ := q79
            have om79 : OM L (ob pa (some y)) := OM.p hI (OM.s (by assumption))
            refine mw_topv (v' := .ref gp) (congrArg va_rf (hg)) ?_
            refine j_iconst (y := yiJ4_fixAfterInsertion) dJ4_fixAfterInsertion_82 ?_
            refine m_invS (y := yiJ4_fixAfterInsertion) [(.ref gp), (vi 0)] dJ4_fixAfterInsertion_83 q1809 q1810 q128 q1811 (c_J4_setColor (some gp) 0 hF72 (OM.s (by assumption)) (by omega)) pdJ4_setColor ⟨Nat.le_of_ble_eq_true rfl, by decide, by omega⟩ (kk_v fun h83 q83 => ?_) kx_v
            obtain ⟨hU83, hF83⟩ := q83
            have hT83 := TFr.trans hT72 hU83
            refine mw_wf (fun hwf83 => ?_)
            refine m_aload_n (y := yiJ4_fixAfterInsertion) dJ4_fixAfterInsertion_86 rfl ?_
            refine m_invS (y := yiJ4_fixAfterInsertion) [(.ref x)] dJ4_fixAfterInsertion_87 q1797 q1798 q128 q1799 (c_J4_parentOf (some x) hF83 (OM.s (by assumption))) pdJ4_parentOf ⟨Nat.le_of_ble_eq_true rfl, by decide, by omega⟩ (kk_q fun r87 h87 q87 => ?_) kx_q
            obtain ⟨rfl, rfl⟩ := q87
            have om87 : OM L (ob pa (some x)) := OM.p hI (OM.s (by assumption))
            refine mw_topv (v' := .ref y) (congrArg va_rf (hy)) ?_
            refine m_invS (y := yiJ4_fixAfterInsertion) [(.ref y)] dJ4_fixAfterInsertion_90 q1797 q1798 q128 q1799 (c_J4_parentOf (some y) hF83 (OM.s (by assumption))) pdJ4_parentOf ⟨Nat.le_of_ble_eq_true rfl, by decide, by omega⟩ (kk_q fun r90 h90 q90 => ?_) kx_q
            obtain ⟨rfl, rfl⟩ := q90
            have om90 : OM L (ob pa (some y)) := OM.p hI (OM.s (by assumption))
            refine mw_topv (v' := .ref gp) (congrArg va_rf (hg)) ?_
            refine m_astore_n (y := yiJ4_fixAfterInsertion) dJ4_fixAfterInsertion_93 (by decide) rfl ?_
            show MW K yiJ4_fixAfterInsertion d h83 94 [some (.ref m), some (.ref gp), some (va_rf (ob rt (some gp)))] [] Q
            refine m_goto (y := yiJ4_fixAfterInsertion) 148 dJ4_fixAfterInsertion_94 (by decide) ?_
            refine m_goto (y := yiJ4_fixAfterInsertion) 5 dJ4_fixAfterInsertion_148 (by decide) ?_
            refine mw_forget 2 ?_
            exact ih5 _ (by omega) (gp) (lf) (rt) (pa) ((usc (usc (usc co (some y) 1) (ob rt (some gp)) 1) (some gp) 0)) (lo) (hi) (root) (N0 - 1) _ rfl hgL hF83 hI hT83 (fun r0 e => by { by_cases e9 : r0 = gp; { exact Or.inr e9 }; { exact Or.inl ((upI_ne e9).trans (usc_1 (usc_1 (hco1 r0 e)))) } }) (fun y2 e2 => Or.inr (by { have q1 := (hm y hy).resolve_left (by omega); have q4 := hI.1.bd hgL; omega }))
  exact L5 _ x0 lf0 rt0 pa0 (upI co0 x0 0) lo0 hi0 root0 ((HI - LO).toNat + 1) _ rfl hx0 hFg1 hI0 hTg1 (fun r0 e => by { by_cases e9 : r0 = x0; { exact Or.inr e9 }; { rw [upI_ne e9]; exact hB0 r0 e } }) (fun y e => Or.inr (by omega))
end TREE
