/-! java.util.TreeMap: the mend behind a deletion -/
theorem ob_inv2 {f : Nat → Option Nat} {y : Nat} {q : Option Nat} (e : ob f q = some y) : ∃ g, q = some g ∧ f g = some y := ob_inv e.symm
/-- places with nothing below that lie under x -/
def PrS (key : Nat → Int) (lf rt : Nat → Option Nat) (lo hi : Nat → Int) (x s : Nat) : Prop := (lo x < key s ∧ key s < hi x) ∧ lf s = none ∧ rt s = none
def KpS (L : List Nat) (key : Nat → Int) (lf rt : Nat → Option Nat) (lo hi : Nat → Int) (x : Nat) (P : Nat → Prop) (l0 : Nat → Int) : Prop := ∀ s, s ∈ L → P s → (lo x < key s ∧ key s < hi x) ∧ lf s = none ∧ rt s = none ∧ lo s = l0 s
section TREE
variable {L : List Nat} {key : Nat → Int} {lf rt pa lf' rt' pa' : Nat → Option Nat} {co lo hi lo' hi' : Nat → Int} {root : Option Nat} {LO HI : Int} {x p r : Nat} {P : Nat → Prop} {l0 : Nat → Int}
theorem KpS.sw (H : KpS L key lf rt lo hi x P l0) : KpS L key rt lf lo hi x P l0 := fun s a b => by have z := H s a b; exact ⟨z.1, z.2.2.1, z.2.1, z.2.2.2⟩
theorem KpS.rot (H : KpS L key lf rt lo hi x P l0) (hQ : RotQ L lf rt pa lo hi lf' rt' pa' lo' hi' p r) (hr : rt p = some r) (n1 : x ≠ p) (n2 : x ≠ r) (hn : ∀ s, s ∈ L → lo x < key s → key s < hi x → s ≠ r) : KpS L key lf' rt' lo' hi' x P l0 := fun s a b => by
  obtain ⟨z1, z2, z3, z4⟩ := H s a b
  have n3 := hn s a z1.1 z1.2
  have n4 : s ≠ p := fun e => by rw [e, hr] at z3; cases z3
  have b1 := hQ.2.2.2.2.2.2.2.1 x n1 n2
  have b2 := hQ.2.2.2.2.2.2.2.1 s n4 n3
  exact ⟨by rw [b1.1, b1.2]; exact z1, (hQ.2.2.2.2.2.2.2.2.1 s a n3 (by rw [z2]; intro h9; cases h9)).trans z2, (hQ.2.2.2.2.2.2.2.2.2 s a n4 (by rw [z3]; intro h9; cases h9)).trans z3, b2.1.trans z4⟩
theorem KpS.up {q : Nat} (H : KpS L key lf rt lo hi x P l0) (h : lo q ≤ lo x ∧ hi x ≤ hi q) : KpS L key lf rt lo hi q P l0 := fun s a b => by
  obtain ⟨z1, z2⟩ := H s a b
  exact ⟨by omega, z2⟩
theorem TmS.nsr (H : TmS L key lf rt pa lo hi root LO HI) (hp : p ∈ L) : rt p ≠ some p := fun e => by
  have z := H.2.2.2.2.2.1 p p hp e; have b := H.bd hp; omega
theorem TmS.nsl (H : TmS L key lf rt pa lo hi root LO HI) (hp : p ∈ L) : lf p ≠ some p := fun e => by
  have z := H.2.2.2.2.1 p p hp e; have b := H.bd hp; omega
theorem TmS.nopr (H : TmS L key lf rt pa lo hi root LO HI) (hp : p ∈ L) (e : rt p = some r) (h : root = some r) : False := by
  have z := H.2.2.2.2.2.1 p r hp e; have w := H.2.2.1 r h; rw [w.2.1] at z; cases z.2.1
theorem TmS.nopl (H : TmS L key lf rt pa lo hi root LO HI) (hp : p ∈ L) (e : lf p = some r) (h : root = some r) : False := by
  have z := H.2.2.2.2.1 p r hp e; have w := H.2.2.1 r h; rw [w.2.1] at z; cases z.2.1
/-- x below p at the left, s at the right, l below s at the left -/
theorem TmS.lrn {s : Nat} (H : TmS L key lf rt pa lo hi root LO HI) (hp : p ∈ L) (hx : lf p = some x) (hs : rt p = some s) : x ≠ s ∧ (∀ a, a ∈ L → lo x < key a → key a < hi x → a ≠ s) ∧ ∀ l, lf s = some l → x ≠ l ∧ (∀ a, a ∈ L → lo x < key a → key a < hi x → a ≠ l) ∧ p ≠ s := by
  have z := H.2.2.2.2.1 p x hp hx
  have w := H.2.2.2.2.2.1 p s hp hs
  have bx := H.bd z.1
  have bs := H.bd w.1
  refine ⟨fun e => by subst e; omega, fun a ha a1 a2 e => by subst e; omega, fun l hl => ?_⟩
  have v := H.2.2.2.2.1 s l w.1 hl
  have bl := H.bd v.1
  exact ⟨fun e => by subst e; omega, fun a ha a1 a2 e => by subst e; omega, fun e => by subst e; omega⟩
theorem TmS.rln {s : Nat} (H : TmS L key lf rt pa lo hi root LO HI) (hp : p ∈ L) (hx : rt p = some x) (hs : lf p = some s) : x ≠ s ∧ (∀ a, a ∈ L → lo x < key a → key a < hi x → a ≠ s) ∧ ∀ l, rt s = some l → x ≠ l ∧ (∀ a, a ∈ L → lo x < key a → key a < hi x → a ≠ l) ∧ p ≠ s := by
  have z := H.2.2.2.2.2.1 p x hp hx
  have w := H.2.2.2.2.1 p s hp hs
  have bx := H.bd z.1
  have bs := H.bd w.1
  refine ⟨fun e => by subst e; omega, fun a ha a1 a2 e => by subst e; omega, fun l hl => ?_⟩
  have v := H.2.2.2.2.2.1 s l w.1 hl
  have bl := H.bd v.1
  exact ⟨fun e => by subst e; omega, fun a ha a1 a2 e => by subst e; omega, fun e => by subst e; omega⟩
theorem roR_n {g : Nat} (h : pa p = some g) : roR root pa p r = root := by unfold roR; rw [if_neg (by rw [h]; intro h9; cases h9)]
end TREE

section TREE
variable {K : KT} {d : Nat} {h : MH} {m : Nat} {L : List Nat} {key : Nat → Int} {ko : Nat → Nat} {vl lf0 rt0 pa0 : Nat → Option Nat} {co0 lo0 hi0 : Nat → Int} {root0 : Option Nat} {sz mc LO HI : Int}

theorem c_J4_fixAfterDeletion (x0 : Nat) (P : Nat → Prop) (hd : 1 ≤ d) (hF0 : TmF h m L ko vl lf0 rt0 pa0 co0 root0 sz mc) (hI0 : TmI L key lf0 rt0 pa0 lo0 hi0 root0 LO HI) (hx0 : x0 ∈ L) (hB0 : ∀ r0, root0 = some r0 → co0 r0 = 1 ∨ r0 = x0) (hk0 : ∀ s, s ∈ L → P s → PrS key lf0 rt0 lo0 hi0 x0 s) : Mt K yiJ4_fixAfterDeletion d [.ref m, .ref x0] h (Rv fun h' => TFr L m h h' ∧ ∃ (lf rt pa : Nat → Option Nat) (co lo hi : Nat → Int) (root : Option Nat), TmF h' m L ko vl lf rt pa co root sz mc ∧ TmI L key lf rt pa lo hi root LO HI ∧ TmB co root ∧ ∀ s, s ∈ L → P s → lf s = none ∧ rt s = none ∧ lo s = lo0 s) := by
  have hT0 : TFr L m h h := TFr.refl
  have hbd0 := hI0.1.bd hx0
  refine mt_ofQ (by decide) (Nat.le_of_ble_eq_true rfl) (fun Q hQ => ?_)
  show MW K yiJ4_fixAfterDeletion d h 0 [some (.ref m), some (.ref x0), none] [] Q
  refine mw_wf (fun hwf => ?_)
  have L0 : ∀ (N : Nat) (x : Nat) (lf rt pa : Nat → Option Nat) (co lo hi : Nat → Int) (root : Option Nat) (N0 : Nat) (g : MH), N0 = N → (x ∈ L) → (TmF g m L ko vl lf rt pa co root sz mc) → (TmI L key lf rt pa lo hi root LO HI) → (TFr L m h g) → (∀ r0, root = some r0 → co r0 = 1 ∨ r0 = x) → (root = some x ∨ co x ≠ 1 ∨ (HI - LO - (hi x - lo x)).toNat < N0) → (KpS L key lf rt lo hi x P lo0) → MW K yiJ4_fixAfterDeletion d g 0 [some (.ref m), some (.ref x), none] [] Q := by
    intro N
    induction N using Nat.strongRecOn with
    | _ N ih0 =>
    intro x lf rt pa co lo hi root N0 g hN0 hx hF hI hT hB hm hk
    refine mw_wf (fun hwf0 => ?_)
    refine m_aload_n (y := yiJ4_fixAfterDeletion) dJ4_fixAfterDeletion_0 rfl ?_
    refine m_aload_n (y := yiJ4_fixAfterDeletion) dJ4_fixAfterDeletion_1 rfl ?_
    refine m_getfS (y := yiJ4_fixAfterDeletion) kc_17 3 (by decide) dJ4_fixAfterDeletion_2 q240 hF.1 rfl ?_
    refine m_acmp_eq (y := yiJ4_fixAfterDeletion) (x := (some x)) (z := root) 345 dJ4_fixAfterDeletion_5 (by decide) (fun c5 => ?_) (fun c5 => ?_)
    · refine m_aload_n (y := yiJ4_fixAfterDeletion) dJ4_fixAfterDeletion_345 rfl ?_
      refine j_iconst (y := yiJ4_fixAfterDeletion) dJ4_fixAfterDeletion_346 ?_
      refine m_invS (y := yiJ4_fixAfterDeletion) [(.ref x), (vi 1)] dJ4_fixAfterDeletion_347 q1809 q1810 q128 q1811 (c_J4_setColor (some x) 1 hF (OM.s (by assumption)) (by omega)) pdJ4_setColor ⟨Nat.le_of_ble_eq_true rfl, by decide, by omega⟩ (kk_v fun h347 q347 => ?_) kx_v
      obtain ⟨hU347, hF347⟩ := q347
      have hT347 := TFr.trans hT hU347
      refine mw_wf (fun hwf347 => ?_)
      subst hQ; exact j_vret (y := yiJ4_fixAfterDeletion) dJ4_fixAfterDeletion_350 rfl (⟨hT347, _, _, _, _, _, _, _, hF347, hI, fun r0 e => by { rcases hB r0 e with h9 | h9; { exact usc_1 (q := some x) h9 }; { rw [h9]; exact upI_at } }, fun s a b => (hk s a b).2⟩)
    · refine m_aload_n (y := yiJ4_fixAfterDeletion) dJ4_fixAfterDeletion_8 rfl ?_
      refine m_invS (y := yiJ4_fixAfterDeletion) [(.ref x)] dJ4_fixAfterDeletion_9 q1806 q1807 q128 q1808 (c_J4_colorOf (some x) hF (OM.s (by assumption))) pdJ4_colorOf ⟨Nat.le_of_ble_eq_true rfl, by decide, by omega⟩ (kk_z fun r9 h9 q9 => ?_) kx_z
      obtain ⟨rfl, rfl⟩ := q9
      have oc9 := TmF.oc01 (q := (some x)) hF (OM.s (by assumption))
      refine mw_top (x' := oc co (some x)) rfl ?_
      refine j_iconst (y := yiJ4_fixAfterDeletion) dJ4_fixAfterDeletion_12 ?_
      refine j_icmp_ne (y := yiJ4_fixAfterDeletion) 345 dJ4_fixAfterDeletion_13 (by decide) ⟨⟨by omega, by omega⟩, ⟨by omega, by omega⟩⟩ (fun c13 => ?_) (fun c13 => ?_)
      · refine m_aload_n (y := yiJ4_fixAfterDeletion) dJ4_fixAfterDeletion_345 rfl ?_
        refine j_iconst (y := yiJ4_fixAfterDeletion) dJ4_fixAfterDeletion_346 ?_
        refine m_invS (y := yiJ4_fixAfterDeletion) [(.ref x), (vi 1)] dJ4_fixAfterDeletion_347 q1809 q1810 q128 q1811 (c_J4_setColor (some x) 1 hF (OM.s (by assumption)) (by omega)) pdJ4_setColor ⟨Nat.le_of_ble_eq_true rfl, by decide, by omega⟩ (kk_v fun h347 q347 => ?_) kx_v
        obtain ⟨hU347, hF347⟩ := q347
        have hT347 := TFr.trans hT hU347
        refine mw_wf (fun hwf347 => ?_)
        subst hQ; exact j_vret (y := yiJ4_fixAfterDeletion) dJ4_fixAfterDeletion_350 rfl (⟨hT347, _, _, _, _, _, _, _, hF347, hI, fun r0 e => by { rcases hB r0 e with h9 | h9; { exact usc_1 (q := some x) h9 }; { rw [h9]; exact upI_at } }, fun s a b => (hk s a b).2⟩)
      · have hN9 := ((hm.resolve_left (fun h9 => c5 h9.symm)).resolve_left (fun h9 => h9 c13))
        obtain ⟨p, hp⟩ := hI.1.noroot hx (fun e => c5 e.symm)
        obtain ⟨hpL, hpc, hpn⟩ := hI.1.up hx hp
        have hco1 : ∀ r0, root = some r0 → co r0 = 1 := fun r0 e => (hB r0 e).resolve_right (fun h9 => c5 (by rw [h9] at e; exact e.symm))
        refine m_aload_n (y := yiJ4_fixAfterDeletion) dJ4_fixAfterDeletion_16 rfl ?_
        refine m_aload_n (y := yiJ4_fixAfterDeletion) dJ4_fixAfterDeletion_17 rfl ?_
        refine m_invS (y := yiJ4_fixAfterDeletion) [(.ref x)] dJ4_fixAfterDeletion_18 q1797 q1798 q128 q1799 (c_J4_parentOf (some x) hF (OM.s (by assumption))) pdJ4_parentOf ⟨Nat.le_of_ble_eq_true rfl, by decide, by omega⟩ (kk_q fun r18 h18 q18 => ?_) kx_q
        obtain ⟨rfl, rfl⟩ := q18
        have om18 : OM L (ob pa (some x)) := OM.p hI (OM.s (by assumption))
        refine mw_topv (v' := .ref p) (congrArg va_rf (hp)) ?_
        refine m_invS (y := yiJ4_fixAfterDeletion) [(.ref p)] dJ4_fixAfterDeletion_21 q1800 q1801 q128 q1802 (c_J4_leftOf (some p) hF (OM.s (by assumption))) pdJ4_leftOf ⟨Nat.le_of_ble_eq_true rfl, by decide, by omega⟩ (kk_q fun r21 h21 q21 => ?_) kx_q
        obtain ⟨rfl, rfl⟩ := q21
        have om21 : OM L (ob lf (some p)) := OM.l hI (OM.s (by assumption))
        refine m_acmp_ne (y := yiJ4_fixAfterDeletion) (x := (some x)) (z := (ob lf (some p))) 186 dJ4_fixAfterDeletion_24 (by decide) (fun c24 => ?_) (fun c24 => ?_)
        · have hlx : rt p = some x := (hpc.resolve_left (fun h9 => c24 h9.1.symm)).1
          refine m_aload_n (y := yiJ4_fixAfterDeletion) dJ4_fixAfterDeletion_186 rfl ?_
          refine m_invS (y := yiJ4_fixAfterDeletion) [(.ref x)] dJ4_fixAfterDeletion_187 q1797 q1798 q128 q1799 (c_J4_parentOf (some x) hF (OM.s (by assumption))) pdJ4_parentOf ⟨Nat.le_of_ble_eq_true rfl, by decide, by omega⟩ (kk_q fun r187 h187 q187 => ?_) kx_q
          obtain ⟨rfl, rfl⟩ := q187
          have om187 : OM L (ob pa (some x)) := OM.p hI (OM.s (by assumption))
          refine mw_topv (v' := .ref p) (congrArg va_rf (hp)) ?_
          refine m_invS (y := yiJ4_fixAfterDeletion) [(.ref p)] dJ4_fixAfterDeletion_190 q1800 q1801 q128 q1802 (c_J4_leftOf (some p) hF (OM.s (by assumption))) pdJ4_leftOf ⟨Nat.le_of_ble_eq_true rfl, by decide, by omega⟩ (kk_q fun r190 h190 q190 => ?_) kx_q
          obtain ⟨rfl, rfl⟩ := q190
          have om190 : OM L (ob lf (some p)) := OM.l hI (OM.s (by assumption))
          refine m_astore_nq (y := yiJ4_fixAfterDeletion) dJ4_fixAfterDeletion_193 (by decide) rfl ?_
          show MW K yiJ4_fixAfterDeletion d g 194 [some (.ref m), some (.ref x), some (va_rf (ob lf (some p)))] [] Q
          refine m_aload_nq (y := yiJ4_fixAfterDeletion) dJ4_fixAfterDeletion_194 rfl ?_
          refine m_invS (y := yiJ4_fixAfterDeletion) [(va_rf (ob lf (some p)))] dJ4_fixAfterDeletion_195 q1806 q1807 q128 q1808 (c_J4_colorOf (ob lf (some p)) hF om190) pdJ4_colorOf ⟨Nat.le_of_ble_eq_true rfl, by decide, by omega⟩ (kk_z fun r195 h195 q195 => ?_) kx_z
          obtain ⟨rfl, rfl⟩ := q195
          have oc195 := TmF.oc01 (q := (ob lf (some p))) hF om190
          refine mw_top (x' := oc co (ob lf (some p))) rfl ?_
          refine j_if_ne (y := yiJ4_fixAfterDeletion) 230 dJ4_fixAfterDeletion_198 (by decide) ⟨by omega, by omega⟩ (fun c198 => ?_) (fun c198 => ?_)
          · refine m_aload_nq (y := yiJ4_fixAfterDeletion) dJ4_fixAfterDeletion_230 rfl ?_
            refine m_invS (y := yiJ4_fixAfterDeletion) [(va_rf (ob lf (some p)))] dJ4_fixAfterDeletion_231 q1803 q1804 q128 q1805 (c_J4_rightOf (ob lf (some p)) hF om190) pdJ4_rightOf ⟨Nat.le_of_ble_eq_true rfl, by decide, by omega⟩ (kk_q fun r231 h231 q231 => ?_) kx_q
            obtain ⟨rfl, rfl⟩ := q231
            have om231 : OM L (ob rt (ob lf (some p))) := OM.r hI om190
            refine m_invS (y := yiJ4_fixAfterDeletion) [(va_rf (ob rt (ob lf (some p))))] dJ4_fixAfterDeletion_234 q1806 q1807 q128 q1808 (c_J4_colorOf (ob rt (ob lf (some p))) hF om231) pdJ4_colorOf ⟨Nat.le_of_ble_eq_true rfl, by decide, by omega⟩ (kk_z fun r234 h234 q234 => ?_) kx_z
            obtain ⟨rfl, rfl⟩ := q234
            have oc234 := TmF.oc01 (q := (ob rt (ob lf (some p)))) hF om231
            refine mw_top (x' := oc co (ob rt (ob lf (some p)))) rfl ?_
            refine j_iconst (y := yiJ4_fixAfterDeletion) dJ4_fixAfterDeletion_237 ?_
            refine j_icmp_ne (y := yiJ4_fixAfterDeletion) 265 dJ4_fixAfterDeletion_238 (by decide) ⟨⟨by omega, by omega⟩, ⟨by omega, by omega⟩⟩ (fun c238 => ?_) (fun c238 => ?_)
            · refine m_aload_nq (y := yiJ4_fixAfterDeletion) dJ4_fixAfterDeletion_265 rfl ?_
              refine m_invS (y := yiJ4_fixAfterDeletion) [(va_rf (ob lf (some p)))] dJ4_fixAfterDeletion_266 q1800 q1801 q128 q1802 (c_J4_leftOf (ob lf (some p)) hF om190) pdJ4_leftOf ⟨Nat.le_of_ble_eq_true rfl, by decide, by omega⟩ (kk_q fun r266 h266 q266 => ?_) kx_q
              obtain ⟨rfl, rfl⟩ := q266
              have om266 : OM L (ob lf (ob lf (some p))) := OM.l hI om190
              refine m_invS (y := yiJ4_fixAfterDeletion) [(va_rf (ob lf (ob lf (some p))))] dJ4_fixAfterDeletion_269 q1806 q1807 q128 q1808 (c_J4_colorOf (ob lf (ob lf (some p))) hF om266) pdJ4_colorOf ⟨Nat.le_of_ble_eq_true rfl, by decide, by omega⟩ (kk_z fun r269 h269 q269 => ?_) kx_z
              obtain ⟨rfl, rfl⟩ := q269
              have oc269 := TmF.oc01 (q := (ob lf (ob lf (some p)))) hF om266
              refine mw_top (x' := oc co (ob lf (ob lf (some p)))) rfl ?_
              refine j_iconst (y := yiJ4_fixAfterDeletion) dJ4_fixAfterDeletion_272 ?_
              refine j_icmp_ne (y := yiJ4_fixAfterDeletion) 302 dJ4_fixAfterDeletion_273 (by decide) ⟨⟨by omega, by omega⟩, ⟨by omega, by omega⟩⟩ (fun c273 => ?_) (fun c273 => ?_)
              · obtain ⟨s3, hs3⟩ : ∃ s3, lf p = some s3 := (by { obtain ⟨a9, e9⟩ := oc_n1 c273; obtain ⟨b9, e8, e7⟩ := ob_inv2 e9; exact ⟨b9, e8⟩ })
                have hm3 := hI.1.rln hpL hlx hs3
                refine m_aload_nq (y := yiJ4_fixAfterDeletion) dJ4_fixAfterDeletion_302 rfl ?_
                refine m_aload_n (y := yiJ4_fixAfterDeletion) dJ4_fixAfterDeletion_303 rfl ?_
                refine m_invS (y := yiJ4_fixAfterDeletion) [(.ref x)] dJ4_fixAfterDeletion_304 q1797 q1798 q128 q1799 (c_J4_parentOf (some x) hF (OM.s (by assumption))) pdJ4_parentOf ⟨by simp only [List.map_cons, va_rf_1]; exact Nat.le_of_ble_eq_true rfl, by decide, by omega⟩ (kk_q fun r304 h304 q304 => ?_) kx_q
                obtain ⟨rfl, rfl⟩ := q304
                have om304 : OM L (ob pa (some x)) := OM.p hI (OM.s (by assumption))
                refine mw_topv (v' := .ref p) (congrArg va_rf (hp)) ?_
                refine m_invS (y := yiJ4_fixAfterDeletion) [(.ref p)] dJ4_fixAfterDeletion_307 q1806 q1807 q128 q1808 (c_J4_colorOf (some p) hF (OM.s (by assumption))) pdJ4_colorOf ⟨by simp only [List.map_cons, va_rf_1]; exact Nat.le_of_ble_eq_true rfl, by decide, by omega⟩ (kk_z fun r307 h307 q307 => ?_) kx_z
                obtain ⟨rfl, rfl⟩ := q307
                have oc307 := TmF.oc01 (q := (some p)) hF (OM.s (by assumption))
                refine mw_top (x' := oc co (some p)) rfl ?_
                refine m_invS (y := yiJ4_fixAfterDeletion) [(va_rf (ob lf (some p))), (vi (oc co (some p)))] dJ4_fixAfterDeletion_310 q1809 q1810 q128 q1811 (c_J4_setColor (ob lf (some p)) (oc co (some p)) hF om190 (by omega)) pdJ4_setColor ⟨Nat.le_of_ble_eq_true rfl, by decide, by omega⟩ (kk_v fun h310 q310 => ?_) kx_v
                obtain ⟨hU310, hF310⟩ := q310
                have hT310 := TFr.trans hT hU310
                refine mw_wf (fun hwf310 => ?_)
                refine m_aload_n (y := yiJ4_fixAfterDeletion) dJ4_fixAfterDeletion_313 rfl ?_
                refine m_invS (y := yiJ4_fixAfterDeletion) [(.ref x)] dJ4_fixAfterDeletion_314 q1797 q1798 q128 q1799 (c_J4_parentOf (some x) hF310 (OM.s (by assumption))) pdJ4_parentOf ⟨Nat.le_of_ble_eq_true rfl, by decide, by omega⟩ (kk_q fun r314 h314 q314 => ?_) kx_q
                obtain ⟨rfl, rfl⟩ := q314
                have om314 : OM L (ob pa (some x)) := OM.p hI (OM.s (by assumption))
                refine mw_topv (v' := .ref p) (congrArg va_rf (hp)) ?_
                refine j_iconst (y := yiJ4_fixAfterDeletion) dJ4_fixAfterDeletion_317 ?_
                refine m_invS (y := yiJ4_fixAfterDeletion) [(.ref p), (vi 1)] dJ4_fixAfterDeletion_318 q1809 q1810 q128 q1811 (c_J4_setColor (some p) 1 hF310 (OM.s (by assumption)) (by omega)) pdJ4_setColor ⟨Nat.le_of_ble_eq_true rfl, by decide, by omega⟩ (kk_v fun h318 q318 => ?_) kx_v
                obtain ⟨hU318, hF318⟩ := q318
                have hT318 := TFr.trans hT310 hU318
                refine mw_wf (fun hwf318 => ?_)
                refine m_aload_nq (y := yiJ4_fixAfterDeletion) dJ4_fixAfterDeletion_321 rfl ?_
                refine m_invS (y := yiJ4_fixAfterDeletion) [(va_rf (ob lf (some p)))] dJ4_fixAfterDeletion_322 q1800 q1801 q128 q1802 (c_J4_leftOf (ob lf (some p)) hF318 om190) pdJ4_leftOf ⟨Nat.le_of_ble_eq_true rfl, by decide, by omega⟩ (kk_q fun r322 h322 q322 => ?_) kx_q
                obtain ⟨rfl, rfl⟩ := q322
                have om322 : OM L (ob lf (ob lf (some p))) := OM.l hI om190
                refine j_iconst (y := yiJ4_fixAfterDeletion) dJ4_fixAfterDeletion_325 ?_
                refine m_invS (y := yiJ4_fixAfterDeletion) [(va_rf (ob lf (ob lf (some p)))), (vi 1)] dJ4_fixAfterDeletion_326 q1809 q1810 q128 q1811 (c_J4_setColor (ob lf (ob lf (some p))) 1 hF318 om322 (by omega)) pdJ4_setColor ⟨Nat.le_of_ble_eq_true rfl, by decide, by omega⟩ (kk_v fun h326 q326 => ?_) kx_v
                obtain ⟨hU326, hF326⟩ := q326
                have hT326 := TFr.trans hT318 hU326
                refine mw_wf (fun hwf326 => ?_)
                refine m_aload_n (y := yiJ4_fixAfterDeletion) dJ4_fixAfterDeletion_329 rfl ?_
                refine m_aload_n (y := yiJ4_fixAfterDeletion) dJ4_fixAfterDeletion_330 rfl ?_
                refine m_invS (y := yiJ4_fixAfterDeletion) [(.ref x)] dJ4_fixAfterDeletion_331 q1797 q1798 q128 q1799 (c_J4_parentOf (some x) hF326 (OM.s (by assumption))) pdJ4_parentOf ⟨Nat.le_of_ble_eq_true rfl, by decide, by omega⟩ (kk_q fun r331 h331 q331 => ?_) kx_q
                obtain ⟨rfl, rfl⟩ := q331
                have om331 : OM L (ob pa (some x)) := OM.p hI (OM.s (by assumption))
                refine mw_topv (v' := .ref p) (congrArg va_rf (hp)) ?_
                refine m_invV (y := yiJ4_fixAfterDeletion) (rB := (RJ4, TJ4, 9)) [(.ref p)] dJ4_fixAfterDeletion_334 hF326.1 rfl q1816 q1818 qs27 q128 q1819 rfl (c_J4_rotateRight (p := p) (r := s3) hF326 hI hpL hs3) pdJ4_rotateRight ⟨Nat.le_of_ble_eq_true rfl, by decide, by omega⟩ (kk_v fun h334 q334 => ?_) kx_v
                obtain ⟨hU334, lfX334, rtX334, paX334, loX334, hiX334, roX334, hF334, hI334, hQ334, hR334⟩ := q334
                have hT334 := TFr.trans hT326 hU334
                have hk334 := (KpS.rot (KpS.sw hk) hQ334 hs3 hpn.symm hm3.1 hm3.2.1).sw
                refine mw_wf (fun hwf334 => ?_)
                obtain ⟨r9, hr9, hr9L⟩ := hI334.1.rootE hx
                refine m_aload_n (y := yiJ4_fixAfterDeletion) dJ4_fixAfterDeletion_337 rfl ?_
                refine m_getfS (y := yiJ4_fixAfterDeletion) kc_17 3 (by decide) dJ4_fixAfterDeletion_338 q240 hF334.1 rfl ?_
                refine mw_topv (v' := .ref r9) (congrArg va_rf (hr9)) ?_
                refine m_astore_n (y := yiJ4_fixAfterDeletion) dJ4_fixAfterDeletion_341 (by decide) rfl ?_
                show MW K yiJ4_fixAfterDeletion d h334 342 [some (.ref m), some (.ref r9), some (va_rf (ob lf (some p)))] [] Q
                refine m_goto (y := yiJ4_fixAfterDeletion) 0 dJ4_fixAfterDeletion_342 (by decide) ?_
                refine mw_forget 2 ?_
                exact ih0 _ (by omega) (r9) (lfX334) (rtX334) (paX334) ((usc (usc (usc co (ob lf (some p)) (oc co (some p))) (some p) 1) (ob lf (ob lf (some p))) 1)) (loX334) (hiX334) (roX334) (N0 - 1) _ rfl hr9L hF334 hI334 hT334 (fun r1 e => Or.inr (Option.some.inj (e.symm.trans hr9))) (Or.inl hr9) (KpS.up hk334 (by { have q1 := hI334.1.2.2.1 r9 hr9; have q2 := hI334.1.bd hx; omega }))
              · obtain ⟨l, hl⟩ := oc_n1 c238
                obtain ⟨s2, hs2, hls⟩ := ob_inv2 hl
                have hs2 : lf p = some s2 := hs2
                have hm9 := hI.1.rln hpL hlx hs2
                have hl9 := hm9.2.2 l hls
                have hs2L := (hI.1.2.2.2.2.1 p s2 hpL hs2)
                refine m_aload_nq (y := yiJ4_fixAfterDeletion) dJ4_fixAfterDeletion_276 rfl ?_
                refine m_invS (y := yiJ4_fixAfterDeletion) [(va_rf (ob lf (some p)))] dJ4_fixAfterDeletion_277 q1803 q1804 q128 q1805 (c_J4_rightOf (ob lf (some p)) hF om190) pdJ4_rightOf ⟨Nat.le_of_ble_eq_true rfl, by decide, by omega⟩ (kk_q fun r277 h277 q277 => ?_) kx_q
                obtain ⟨rfl, rfl⟩ := q277
                have om277 : OM L (ob rt (ob lf (some p))) := OM.r hI om190
                refine j_iconst (y := yiJ4_fixAfterDeletion) dJ4_fixAfterDeletion_280 ?_
                refine m_invS (y := yiJ4_fixAfterDeletion) [(va_rf (ob rt (ob lf (some p)))), (vi 1)] dJ4_fixAfterDeletion_281 q1809 q1810 q128 q1811 (c_J4_setColor (ob rt (ob lf (some p))) 1 hF om277 (by omega)) pdJ4_setColor ⟨Nat.le_of_ble_eq_true rfl, by decide, by omega⟩ (kk_v fun h281 q281 => ?_) kx_v
                obtain ⟨hU281, hF281⟩ := q281
                have hT281 := TFr.trans hT hU281
                refine mw_wf (fun hwf281 => ?_)
                refine m_aload_nq (y := yiJ4_fixAfterDeletion) dJ4_fixAfterDeletion_284 rfl ?_
                refine j_iconst (y := yiJ4_fixAfterDeletion) dJ4_fixAfterDeletion_285 ?_
                refine m_invS (y := yiJ4_fixAfterDeletion) [(va_rf (ob lf (some p))), (vi 0)] dJ4_fixAfterDeletion_286 q1809 q1810 q128 q1811 (c_J4_setColor (ob lf (some p)) 0 hF281 om190 (by omega)) pdJ4_setColor ⟨Nat.le_of_ble_eq_true rfl, by decide, by omega⟩ (kk_v fun h286 q286 => ?_) kx_v
                obtain ⟨hU286, hF286⟩ := q286
                have hT286 := TFr.trans hT281 hU286
                refine mw_wf (fun hwf286 => ?_)
                refine m_aload_n (y := yiJ4_fixAfterDeletion) dJ4_fixAfterDeletion_289 rfl ?_
                refine m_aload_nq (y := yiJ4_fixAfterDeletion) dJ4_fixAfterDeletion_290 rfl ?_
                refine mw_topv (v' := .ref s2) (congrArg va_rf (hs2)) ?_
                refine m_invV (y := yiJ4_fixAfterDeletion) (rB := (RJ4, TJ4, 9)) [(.ref s2)] dJ4_fixAfterDeletion_291 hF286.1 rfl q1812 q1814 qs26 q128 q1815 rfl (c_J4_rotateLeft (p := s2) (r := l) hF286 hI hs2L.1 hls) pdJ4_rotateLeft ⟨Nat.le_of_ble_eq_true rfl, by decide, by omega⟩ (kk_v fun h291 q291 => ?_) kx_v
                obtain ⟨hU291, lfX291, rtX291, paX291, loX291, hiX291, roX291, hF291, hI291, hQ291, hR291⟩ := q291
                have hT291 := TFr.trans hT286 hU291
                have hxl291 : rtX291 p = some x := (hQ291.2.2.2.2.2.2.2.2.2 p hpL hl9.2.2 (fun h9 => hm9.1 (Option.some.inj (hlx.symm.trans h9)))).trans hlx
                have hxp291 := (hI291.1.2.2.2.2.2.1 p x hpL hxl291).2.1
                have hk291 := KpS.rot hk hQ291 hls hm9.1 hl9.1 hl9.2.1
                have hco291 : ∀ r0, roX291 = some r0 → (usc (usc co (ob rt (ob lf (some p))) 1) (ob lf (some p)) 0) r0 = 1 := fun r0 e => by { rw [hR291, roR_n hs2L.2.1] at e; exact usc_0 (fun h9 => hI.1.nopl hpL h9 e) (usc_1 (hco1 r0 e)) }
                refine mw_wf (fun hwf291 => ?_)
                refine m_aload_n (y := yiJ4_fixAfterDeletion) dJ4_fixAfterDeletion_294 rfl ?_
                refine m_invS (y := yiJ4_fixAfterDeletion) [(.ref x)] dJ4_fixAfterDeletion_295 q1797 q1798 q128 q1799 (c_J4_parentOf (some x) hF291 (OM.s (by assumption))) pdJ4_parentOf ⟨Nat.le_of_ble_eq_true rfl, by decide, by omega⟩ (kk_q fun r295 h295 q295 => ?_) kx_q
                obtain ⟨rfl, rfl⟩ := q295
                have om295 : OM L (ob paX291 (some x)) := OM.p hI291 (OM.s (by assumption))
                refine mw_topv (v' := .ref p) (congrArg va_rf (hxp291)) ?_
                refine m_invS (y := yiJ4_fixAfterDeletion) [(.ref p)] dJ4_fixAfterDeletion_298 q1800 q1801 q128 q1802 (c_J4_leftOf (some p) hF291 (OM.s (by assumption))) pdJ4_leftOf ⟨Nat.le_of_ble_eq_true rfl, by decide, by omega⟩ (kk_q fun r298 h298 q298 => ?_) kx_q
                obtain ⟨rfl, rfl⟩ := q298
                have om298 : OM L (ob lfX291 (some p)) := OM.l hI291 (OM.s (by assumption))
                refine m_astore_nq (y := yiJ4_fixAfterDeletion) dJ4_fixAfterDeletion_301 (by decide) rfl ?_
                show MW K yiJ4_fixAfterDeletion d h291 302 [some (.ref m), some (.ref x), some (va_rf (ob lfX291 (some p)))] [] Q
                obtain ⟨s3, hs3⟩ : ∃ s3, lfX291 p = some s3 := (⟨l, hQ291.2.2.2.2.2.1 p hpL hs2⟩)
                have hm3 := hI291.1.rln hpL hxl291 hs3
                refine m_aload_nq (y := yiJ4_fixAfterDeletion) dJ4_fixAfterDeletion_302 rfl ?_
                refine m_aload_n (y := yiJ4_fixAfterDeletion) dJ4_fixAfterDeletion_303 rfl ?_
                refine m_invS (y := yiJ4_fixAfterDeletion) [(.ref x)] dJ4_fixAfterDeletion_304 q1797 q1798 q128 q1799 (c_J4_parentOf (some x) hF291 (OM.s (by assumption))) pdJ4_parentOf ⟨by simp only [List.map_cons, va_rf_1]; exact Nat.le_of_ble_eq_true rfl, by decide, by omega⟩ (kk_q fun r304 h304 q304 => ?_) kx_q
                obtain ⟨rfl, rfl⟩ := q304
                have om304 : OM L (ob paX291 (some x)) := OM.p hI291 (OM.s (by assumption))
                refine mw_topv (v' := .ref p) (congrArg va_rf (hxp291)) ?_
                refine m_invS (y := yiJ4_fixAfterDeletion) [(.ref p)] dJ4_fixAfterDeletion_307 q1806 q1807 q128 q1808 (c_J4_colorOf (some p) hF291 (OM.s (by assumption))) pdJ4_colorOf ⟨by simp only [List.map_cons, va_rf_1]; exact Nat.le_of_ble_eq_true rfl, by decide, by omega⟩ (kk_z fun r307 h307 q307 => ?_) kx_z
                obtain ⟨rfl, rfl⟩ := q307
                have oc307 := TmF.oc01 (q := (some p)) hF291 (OM.s (by assumption))
                refine mw_top (x' := oc (usc (usc co (ob rt (ob lf (some p))) 1) (ob lf (some p)) 0) (some p)) rfl ?_
                refine m_invS (y := yiJ4_fixAfterDeletion) [(va_rf (ob lfX291 (some p))), (vi (oc (usc (usc co (ob rt (ob lf (some p))) 1) (ob lf (some p)) 0) (some p)))] dJ4_fixAfterDeletion_310 q1809 q1810 q128 q1811 (c_J4_setColor (ob lfX291 (some p)) (oc (usc (usc co (ob rt (ob lf (some p))) 1) (ob lf (some p)) 0) (some p)) hF291 om298 (by omega)) pdJ4_setColor ⟨Nat.le_of_ble_eq_true rfl, by decide, by omega⟩ (kk_v fun h310 q310 => ?_) kx_v
                obtain ⟨hU310, hF310⟩ := q310
                have hT310 := TFr.trans hT291 hU310
                refine mw_wf (fun hwf310 => ?_)
                refine m_aload_n (y := yiJ4_fixAfterDeletion) dJ4_fixAfterDeletion_313 rfl ?_
                refine m_invS (y := yiJ4_fixAfterDeletion) [(.ref x)] dJ4_fixAfterDeletion_314 q1797 q1798 q128 q1799 (c_J4_parentOf (some x) hF310 (OM.s (by assumption))) pdJ4_parentOf ⟨Nat.le_of_ble_eq_true rfl, by decide, by omega⟩ (kk_q fun r314 h314 q314 => ?_) kx_q
                obtain ⟨rfl, rfl⟩ := q314
                have om314 : OM L (ob paX291 (some x)) := OM.p hI291 (OM.s (by assumption))
                refine mw_topv (v' := .ref p) (congrArg va_rf (hxp291)) ?_
                refine j_iconst (y := yiJ4_fixAfterDeletion) dJ4_fixAfterDeletion_317 ?_
                refine m_invS (y := yiJ4_fixAfterDeletion) [(.ref p), (vi 1)] dJ4_fixAfterDeletion_318 q1809 q1810 q128 q1811 (c_J4_setColor (some p) 1 hF310 (OM.s (by assumption)) (by omega)) pdJ4_setColor ⟨Nat.le_of_ble_eq_true rfl, by decide, by omega⟩ (kk_v fun h318 q318 => ?_) kx_v
                obtain ⟨hU318, hF318⟩ := q318
                have hT318 := TFr.trans hT310 hU318
                refine mw_wf (fun hwf318 => ?_)
                refine m_aload_nq (y := yiJ4_fixAfterDeletion) dJ4_fixAfterDeletion_321 rfl ?_
                refine m_invS (y := yiJ4_fixAfterDeletion) [(va_rf (ob lfX291 (some p)))] dJ4_fixAfterDeletion_322 q1800 q1801 q128 q1802 (c_J4_leftOf (ob lfX291 (some p)) hF318 om298) pdJ4_leftOf ⟨Nat.le_of_ble_eq_true rfl, by decide, by omega⟩ (kk_q fun r322 h322 q322 => ?_) kx_q
                obtain ⟨rfl, rfl⟩ := q322
                have om322 : OM L (ob lfX291 (ob lfX291 (some p))) := OM.l hI291 om298
                refine j_iconst (y := yiJ4_fixAfterDeletion) dJ4_fixAfterDeletion_325 ?_
                refine m_invS (y := yiJ4_fixAfterDeletion) [(va_rf (ob lfX291 (ob lfX291 (some p)))), (vi 1)] dJ4_fixAfterDeletion_326 q1809 q1810 q128 q1811 (c_J4_setColor (ob lfX291 (ob lfX291 (some p))) 1 hF318 om322 (by omega)) pdJ4_setColor ⟨Nat.le_of_ble_eq_true rfl, by decide, by omega⟩ (kk_v fun h326 q326 => ?_) kx_v
                obtain ⟨hU326, hF326⟩ := q326
                have hT326 := TFr.trans hT318 hU326
                refine mw_wf (fun hwf326 => ?_)
                refine m_aload_n (y := yiJ4_fixAfterDeletion) dJ4_fixAfterDeletion_329 rfl ?_
                refine m_aload_n (y := yiJ4_fixAfterDeletion) dJ4_fixAfterDeletion_330 rfl ?_
                refine m_invS (y := yiJ4_fixAfterDeletion) [(.ref x)] dJ4_fixAfterDeletion_331 q1797 q1798 q128 q1799 (c_J4_parentOf (some x) hF326 (OM.s (by assumption))) pdJ4_parentOf ⟨Nat.le_of_ble_eq_true rfl, by decide, by omega⟩ (kk_q fun r331 h331 q331 => ?_) kx_q
                obtain ⟨rfl, rfl⟩ := q331
                have om331 : OM L (ob paX291 (some x)) := OM.p hI291 (OM.s (by assumption))
                refine mw_topv (v' := .ref p) (congrArg va_rf (hxp291)) ?_
                refine m_invV (y := yiJ4_fixAfterDeletion) (rB := (RJ4, TJ4, 9)) [(.ref p)] dJ4_fixAfterDeletion_334 hF326.1 rfl q1816 q1818 qs27 q128 q1819 rfl (c_J4_rotateRight (p := p) (r := s3) hF326 hI291 hpL hs3) pdJ4_rotateRight ⟨Nat.le_of_ble_eq_true rfl, by decide, by omega⟩ (kk_v fun h334 q334 => ?_) kx_v
                obtain ⟨hU334, lfX334, rtX334, paX334, loX334, hiX334, roX334, hF334, hI334, hQ334, hR334⟩ := q334
                have hT334 := TFr.trans hT326 hU334
                have hk334 := (KpS.rot (KpS.sw hk291) hQ334 hs3 hpn.symm hm3.1 hm3.2.1).sw
                refine mw_wf (fun hwf334 => ?_)
                obtain ⟨r9, hr9, hr9L⟩ := hI334.1.rootE hx
                refine m_aload_n (y := yiJ4_fixAfterDeletion) dJ4_fixAfterDeletion_337 rfl ?_
                refine m_getfS (y := yiJ4_fixAfterDeletion) kc_17 3 (by decide) dJ4_fixAfterDeletion_338 q240 hF334.1 rfl ?_
                refine mw_topv (v' := .ref r9) (congrArg va_rf (hr9)) ?_
                refine m_astore_n (y := yiJ4_fixAfterDeletion) dJ4_fixAfterDeletion_341 (by decide) rfl ?_
                show MW K yiJ4_fixAfterDeletion d h334 342 [some (.ref m), some (.ref r9), some (va_rf (ob lfX291 (some p)))] [] Q
                refine m_goto (y := yiJ4_fixAfterDeletion) 0 dJ4_fixAfterDeletion_342 (by decide) ?_
                refine mw_forget 2 ?_
                exact ih0 _ (by omega) (r9) (lfX334) (rtX334) (paX334) ((usc (usc (usc (usc (usc co (ob rt (ob lf (some p))) 1) (ob lf (some p)) 0) (ob lfX291 (some p)) (oc (usc (usc co (ob rt (ob lf (some p))) 1) (ob lf (some p)) 0) (some p))) (some p) 1) (ob lfX291 (ob lfX291 (some p))) 1)) (loX334) (hiX334) (roX334) (N0 - 1) _ rfl hr9L hF334 hI334 hT334 (fun r1 e => Or.inr (Option.some.inj (e.symm.trans hr9))) (Or.inl hr9) (KpS.up hk334 (by { have q1 := hI334.1.2.2.1 r9 hr9; have q2 := hI334.1.bd hx; omega }))
            · refine m_aload_nq (y := yiJ4_fixAfterDeletion) dJ4_fixAfterDeletion_241 rfl ?_
              refine m_invS (y := yiJ4_fixAfterDeletion) [(va_rf (ob lf (some p)))] dJ4_fixAfterDeletion_242 q1800 q1801 q128 q1802 (c_J4_leftOf (ob lf (some p)) hF om190) pdJ4_leftOf ⟨Nat.le_of_ble_eq_true rfl, by decide, by omega⟩ (kk_q fun r242 h242 q242 => ?_) kx_q
              obtain ⟨rfl, rfl⟩ := q242
              have om242 : OM L (ob lf (ob lf (some p))) := OM.l hI om190
              refine m_invS (y := yiJ4_fixAfterDeletion) [(va_rf (ob lf (ob lf (some p))))] dJ4_fixAfterDeletion_245 q1806 q1807 q128 q1808 (c_J4_colorOf (ob lf (ob lf (some p))) hF om242) pdJ4_colorOf ⟨Nat.le_of_ble_eq_true rfl, by decide, by omega⟩ (kk_z fun r245 h245 q245 => ?_) kx_z
              obtain ⟨rfl, rfl⟩ := q245
              have oc245 := TmF.oc01 (q := (ob lf (ob lf (some p)))) hF om242
              refine mw_top (x' := oc co (ob lf (ob lf (some p)))) rfl ?_
              refine j_iconst (y := yiJ4_fixAfterDeletion) dJ4_fixAfterDeletion_248 ?_
              refine j_icmp_ne (y := yiJ4_fixAfterDeletion) 265 dJ4_fixAfterDeletion_249 (by decide) ⟨⟨by omega, by omega⟩, ⟨by omega, by omega⟩⟩ (fun c249 => ?_) (fun c249 => ?_)
              · refine m_aload_nq (y := yiJ4_fixAfterDeletion) dJ4_fixAfterDeletion_265 rfl ?_
                refine m_invS (y := yiJ4_fixAfterDeletion) [(va_rf (ob lf (some p)))] dJ4_fixAfterDeletion_266 q1800 q1801 q128 q1802 (c_J4_leftOf (ob lf (some p)) hF om190) pdJ4_leftOf ⟨Nat.le_of_ble_eq_true rfl, by decide, by omega⟩ (kk_q fun r266 h266 q266 => ?_) kx_q
                obtain ⟨rfl, rfl⟩ := q266
                have om266 : OM L (ob lf (ob lf (some p))) := OM.l hI om190
                refine m_invS (y := yiJ4_fixAfterDeletion) [(va_rf (ob lf (ob lf (some p))))] dJ4_fixAfterDeletion_269 q1806 q1807 q128 q1808 (c_J4_colorOf (ob lf (ob lf (some p))) hF om266) pdJ4_colorOf ⟨Nat.le_of_ble_eq_true rfl, by decide, by omega⟩ (kk_z fun r269 h269 q269 => ?_) kx_z
                obtain ⟨rfl, rfl⟩ := q269
                have oc269 := TmF.oc01 (q := (ob lf (ob lf (some p)))) hF om266
                refine mw_top (x' := oc co (ob lf (ob lf (some p)))) rfl ?_
                refine j_iconst (y := yiJ4_fixAfterDeletion) dJ4_fixAfterDeletion_272 ?_
                refine j_icmp_ne (y := yiJ4_fixAfterDeletion) 302 dJ4_fixAfterDeletion_273 (by decide) ⟨⟨by omega, by omega⟩, ⟨by omega, by omega⟩⟩ (fun c273 => ?_) (fun c273 => False.elim (by omega))
                obtain ⟨s3, hs3⟩ : ∃ s3, lf p = some s3 := (by { obtain ⟨a9, e9⟩ := oc_n1 c273; obtain ⟨b9, e8, e7⟩ := ob_inv2 e9; exact ⟨b9, e8⟩ })
                have hm3 := hI.1.rln hpL hlx hs3
                refine m_aload_nq (y := yiJ4_fixAfterDeletion) dJ4_fixAfterDeletion_302 rfl ?_
                refine m_aload_n (y := yiJ4_fixAfterDeletion) dJ4_fixAfterDeletion_303 rfl ?_
                refine m_invS (y := yiJ4_fixAfterDeletion) [(.ref x)] dJ4_fixAfterDeletion_304 q1797 q1798 q128 q1799 (c_J4_parentOf (some x) hF (OM.s (by assumption))) pdJ4_parentOf ⟨by simp only [List.map_cons, va_rf_1]; exact Nat.le_of_ble_eq_true rfl, by decide, by omega⟩ (kk_q fun r304 h304 q304 => ?_) kx_q
                obtain ⟨rfl, rfl⟩ := q304
                have om304 : OM L (ob pa (some x)) := OM.p hI (OM.s (by assumption))
                refine mw_topv (v' := .ref p) (congrArg va_rf (hp)) ?_
                refine m_invS (y := yiJ4_fixAfterDeletion) [(.ref p)] dJ4_fixAfterDeletion_307 q1806 q1807 q128 q1808 (c_J4_colorOf (some p) hF (OM.s (by assumption))) pdJ4_colorOf ⟨by simp only [List.map_cons, va_rf_1]; exact Nat.le_of_ble_eq_true rfl, by decide, by omega⟩ (kk_z fun r307 h307 q307 => ?_) kx_z
                obtain ⟨rfl, rfl⟩ := q307
                have oc307 := TmF.oc01 (q := (some p)) hF (OM.s (by assumption))
                refine mw_top (x' := oc co (some p)) rfl ?_
                refine m_invS (y := yiJ4_fixAfterDeletion) [(va_rf (ob lf (some p))), (vi (oc co (some p)))] dJ4_fixAfterDeletion_310 q1809 q1810 q128 q1811 (c_J4_setColor (ob lf (some p)) (oc co (some p)) hF om190 (by omega)) pdJ4_setColor ⟨Nat.le_of_ble_eq_true rfl, by decide, by omega⟩ (kk_v fun h310 q310 => ?_) kx_v
                obtain ⟨hU310, hF310⟩ := q310
                have hT310 := TFr.trans hT hU310
                refine mw_wf (fun hwf310 => ?_)
                refine m_aload_n (y := yiJ4_fixAfterDeletion) dJ4_fixAfterDeletion_313 rfl ?_
                refine m_invS (y := yiJ4_fixAfterDeletion) [(.ref x)] dJ4_fixAfterDeletion_314 q1797 q1798 q128 q1799 (c_J4_parentOf (some x) hF310 (OM.s (by assumption))) pdJ4_parentOf ⟨Nat.le_of_ble_eq_true rfl, by decide, by omega⟩ (kk_q fun r314 h314 q314 => ?_) kx_q
                obtain ⟨rfl, rfl⟩ := q314
                have om314 : OM L (ob pa (some x)) := OM.p hI (OM.s (by assumption))
                refine mw_topv (v' := .ref p) (congrArg va_rf (hp)) ?_
                refine j_iconst (y := yiJ4_fixAfterDeletion) dJ4_fixAfterDeletion_317 ?_
                refine m_invS (y := yiJ4_fixAfterDeletion) [(.ref p), (vi 1)] dJ4_fixAfterDeletion_318 q1809 q1810 q128 q1811 (c_J4_setColor (some p) 1 hF310 (OM.s (by assumption)) (by omega)) pdJ4_setColor ⟨Nat.le_of_ble_eq_true rfl, by decide, by omega⟩ (kk_v fun h318 q318 => ?_) kx_v
                obtain ⟨hU318, hF318⟩ := q318
                have hT318 := TFr.trans hT310 hU318
                refine mw_wf (fun hwf318 => ?_)
                refine m_aload_nq (y := yiJ4_fixAfterDeletion) dJ4_fixAfterDeletion_321 rfl ?_
                refine m_invS (y := yiJ4_fixAfterDeletion) [(va_rf (ob lf (some p)))] dJ4_fixAfterDeletion_322 q1800 q1801 q128 q1802 (c_J4_leftOf (ob lf (some p)) hF318 om190) pdJ4_leftOf ⟨Nat.le_of_ble_eq_true rfl, by decide, by omega⟩ (kk_q fun r322 h322 q322 => ?_) kx_q
                obtain ⟨rfl, rfl⟩ := q322
                have om322 : OM L (ob lf (ob lf (some p))) := OM.l hI om190
                refine j_iconst (y := yiJ4_fixAfterDeletion) dJ4_fixAfterDeletion_325 ?_
                refine m_invS (y := yiJ4_fixAfterDeletion) [(va_rf (ob lf (ob lf (some p)))), (vi 1)] dJ4_fixAfterDeletion_326 q1809 q1810 q128 q1811 (c_J4_setColor (ob lf (ob lf (some p))) 1 hF318 om322 (by omega)) pdJ4_setColor ⟨Nat.le_of_ble_eq_true rfl, by decide, by omega⟩ (kk_v fun h326 q326 => ?_) kx_v
                obtain ⟨hU326, hF326⟩ := q326
                have hT326 := TFr.trans hT318 hU326
                refine mw_wf (fun hwf326 => ?_)
                refine m_aload_n (y := yiJ4_fixAfterDeletion) dJ4_fixAfterDeletion_329 rfl ?_
                refine m_aload_n (y := yiJ4_fixAfterDeletion) dJ4_fixAfterDeletion_330 rfl ?_
                refine m_invS (y := yiJ4_fixAfterDeletion) [(.ref x)] dJ4_fixAfterDeletion_331 q1797 q1798 q128 q1799 (c_J4_parentOf (some x) hF326 (OM.s (by assumption))) pdJ4_parentOf ⟨Nat.le_of_ble_eq_true rfl, by decide, by omega⟩ (kk_q fun r331 h331 q331 => ?_) kx_q
                obtain ⟨rfl, rfl⟩ := q331
                have om331 : OM L (ob pa (some x)) := OM.p hI (OM.s (by assumption))
                refine mw_topv (v' := .ref p) (congrArg va_rf (hp)) ?_
                refine m_invV (y := yiJ4_fixAfterDeletion) (rB := (RJ4, TJ4, 9)) [(.ref p)] dJ4_fixAfterDeletion_334 hF326.1 rfl q1816 q1818 qs27 q128 q1819 rfl (c_J4_rotateRight (p := p) (r := s3) hF326 hI hpL hs3) pdJ4_rotateRight ⟨Nat.le_of_ble_eq_true rfl, by decide, by omega⟩ (kk_v fun h334 q334 => ?_) kx_v
                obtain ⟨hU334, lfX334, rtX334, paX334, loX334, hiX334, roX334, hF334, hI334, hQ334, hR334⟩ := q334
                have hT334 := TFr.trans hT326 hU334
                have hk334 := (KpS.rot (KpS.sw hk) hQ334 hs3 hpn.symm hm3.1 hm3.2.1).sw
                refine mw_wf (fun hwf334 => ?_)
                obtain ⟨r9, hr9, hr9L⟩ := hI334.1.rootE hx
                refine m_aload_n (y := yiJ4_fixAfterDeletion) dJ4_fixAfterDeletion_337 rfl ?_
                refine m_getfS (y := yiJ4_fixAfterDeletion) kc_17 3 (by decide) dJ4_fixAfterDeletion_338 q240 hF334.1 rfl ?_
                refine mw_topv (v' := .ref r9) (congrArg va_rf (hr9)) ?_
                refine m_astore_n (y := yiJ4_fixAfterDeletion) dJ4_fixAfterDeletion_341 (by decide) rfl ?_
                show MW K yiJ4_fixAfterDeletion d h334 342 [some (.ref m), some (.ref r9), some (va_rf (ob lf (some p)))] [] Q
                refine m_goto (y := yiJ4_fixAfterDeletion) 0 dJ4_fixAfterDeletion_342 (by decide) ?_
                refine mw_forget 2 ?_
                exact ih0 _ (by omega) (r9) (lfX334) (rtX334) (paX334) ((usc (usc (usc co (ob lf (some p)) (oc co (some p))) (some p) 1) (ob lf (ob lf (some p))) 1)) (loX334) (hiX334) (roX334) (N0 - 1) _ rfl hr9L hF334 hI334 hT334 (fun r1 e => Or.inr (Option.some.inj (e.symm.trans hr9))) (Or.inl hr9) (KpS.up hk334 (by { have q1 := hI334.1.2.2.1 r9 hr9; have q2 := hI334.1.bd hx; omega }))
              · refine m_aload_nq (y := yiJ4_fixAfterDeletion) dJ4_fixAfterDeletion_252 rfl ?_
                refine j_iconst (y := yiJ4_fixAfterDeletion) dJ4_fixAfterDeletion_253 ?_
                refine m_invS (y := yiJ4_fixAfterDeletion) [(va_rf (ob lf (some p))), (vi 0)] dJ4_fixAfterDeletion_254 q1809 q1810 q128 q1811 (c_J4_setColor (ob lf (some p)) 0 hF om190 (by omega)) pdJ4_setColor ⟨Nat.le_of_ble_eq_true rfl, by decide, by omega⟩ (kk_v fun h254 q254 => ?_) kx_v
                obtain ⟨hU254, hF254⟩ := q254
                have hT254 := TFr.trans hT hU254
                refine mw_wf (fun hwf254 => ?_)
                refine m_aload_n (y := yiJ4_fixAfterDeletion) dJ4_fixAfterDeletion_257 rfl ?_
                refine m_invS (y := yiJ4_fixAfterDeletion) [(.ref x)] dJ4_fixAfterDeletion_258 q1797 q1798 q128 q1799 (c_J4_parentOf (some x) hF254 (OM.s (by assumption))) pdJ4_parentOf ⟨Nat.le_of_ble_eq_true rfl, by decide, by omega⟩ (kk_q fun r258 h258 q258 => ?_) kx_q
                obtain ⟨rfl, rfl⟩ := q258
                have om258 : OM L (ob pa (some x)) := OM.p hI (OM.s (by assumption))
                refine mw_topv (v' := .ref p) (congrArg va_rf (hp)) ?_
                refine m_astore_n (y := yiJ4_fixAfterDeletion) dJ4_fixAfterDeletion_261 (by decide) rfl ?_
                show MW K yiJ4_fixAfterDeletion d h254 262 [some (.ref m), some (.ref p), some (va_rf (ob lf (some p)))] [] Q
                refine m_goto (y := yiJ4_fixAfterDeletion) 342 dJ4_fixAfterDeletion_262 (by decide) ?_
                refine m_goto (y := yiJ4_fixAfterDeletion) 0 dJ4_fixAfterDeletion_342 (by decide) ?_
                refine mw_forget 2 ?_
                exact ih0 _ (by omega) (p) (lf) (rt) (pa) ((usc co (ob lf (some p)) 0)) (lo) (hi) (root) (N0 - 1) _ rfl hpL hF254 hI hT254 (fun r0 e => Or.inl (usc_0 (fun h9 => hI.1.nopl hpL h9 e) (hco1 r0 e))) (Or.inr (Or.inr (by { have q1 := ((hm.resolve_left (fun h9 => c5 h9.symm)).resolve_left (fun h9 => h9 c13)); have q2 := hI.1.grow hx hp; have q3 := hI.1.bd hpL; omega }))) (KpS.up hk (hI.1.grow hx hp).2)
          · obtain ⟨s, hs, hcs⟩ := oc_red c198
            have hsL := om190 s hs
            have hs : lf p = some s := hs
            have hn9 := hI.1.rln hpL hlx hs
            have hps : s ≠ p := fun e => by { subst e; exact hI.1.nsl hpL hs }
            refine m_aload_nq (y := yiJ4_fixAfterDeletion) dJ4_fixAfterDeletion_201 rfl ?_
            refine j_iconst (y := yiJ4_fixAfterDeletion) dJ4_fixAfterDeletion_202 ?_
            refine m_invS (y := yiJ4_fixAfterDeletion) [(va_rf (ob lf (some p))), (vi 1)] dJ4_fixAfterDeletion_203 q1809 q1810 q128 q1811 (c_J4_setColor (ob lf (some p)) 1 hF om190 (by omega)) pdJ4_setColor ⟨Nat.le_of_ble_eq_true rfl, by decide, by omega⟩ (kk_v fun h203 q203 => ?_) kx_v
            obtain ⟨hU203, hF203⟩ := q203
            have hT203 := TFr.trans hT hU203
            refine mw_wf (fun hwf203 => ?_)
            refine m_aload_n (y := yiJ4_fixAfterDeletion) dJ4_fixAfterDeletion_206 rfl ?_
            refine m_invS (y := yiJ4_fixAfterDeletion) [(.ref x)] dJ4_fixAfterDeletion_207 q1797 q1798 q128 q1799 (c_J4_parentOf (some x) hF203 (OM.s (by assumption))) pdJ4_parentOf ⟨Nat.le_of_ble_eq_true rfl, by decide, by omega⟩ (kk_q fun r207 h207 q207 => ?_) kx_q
            obtain ⟨rfl, rfl⟩ := q207
            have om207 : OM L (ob pa (some x)) := OM.p hI (OM.s (by assumption))
            refine mw_topv (v' := .ref p) (congrArg va_rf (hp)) ?_
            refine j_iconst (y := yiJ4_fixAfterDeletion) dJ4_fixAfterDeletion_210 ?_
            refine m_invS (y := yiJ4_fixAfterDeletion) [(.ref p), (vi 0)] dJ4_fixAfterDeletion_211 q1809 q1810 q128 q1811 (c_J4_setColor (some p) 0 hF203 (OM.s (by assumption)) (by omega)) pdJ4_setColor ⟨Nat.le_of_ble_eq_true rfl, by decide, by omega⟩ (kk_v fun h211 q211 => ?_) kx_v
            obtain ⟨hU211, hF211⟩ := q211
            have hT211 := TFr.trans hT203 hU211
            refine mw_wf (fun hwf211 => ?_)
            refine m_aload_n (y := yiJ4_fixAfterDeletion) dJ4_fixAfterDeletion_214 rfl ?_
            refine m_aload_n (y := yiJ4_fixAfterDeletion) dJ4_fixAfterDeletion_215 rfl ?_
            refine m_invS (y := yiJ4_fixAfterDeletion) [(.ref x)] dJ4_fixAfterDeletion_216 q1797 q1798 q128 q1799 (c_J4_parentOf (some x) hF211 (OM.s (by assumption))) pdJ4_parentOf ⟨Nat.le_of_ble_eq_true rfl, by decide, by omega⟩ (kk_q fun r216 h216 q216 => ?_) kx_q
            obtain ⟨rfl, rfl⟩ := q216
            have om216 : OM L (ob pa (some x)) := OM.p hI (OM.s (by assumption))
            refine mw_topv (v' := .ref p) (congrArg va_rf (hp)) ?_
            refine m_invV (y := yiJ4_fixAfterDeletion) (rB := (RJ4, TJ4, 9)) [(.ref p)] dJ4_fixAfterDeletion_219 hF211.1 rfl q1816 q1818 qs27 q128 q1819 rfl (c_J4_rotateRight (p := p) (r := s) hF211 hI hpL hs) pdJ4_rotateRight ⟨Nat.le_of_ble_eq_true rfl, by decide, by omega⟩ (kk_v fun h219 q219 => ?_) kx_v
            obtain ⟨hU219, lfX219, rtX219, paX219, loX219, hiX219, roX219, hF219, hI219, hQ219, hR219⟩ := q219
            have hT219 := TFr.trans hT211 hU219
            have hxl219 : rtX219 p = some x := hQ219.2.2.1.trans hlx
            have hxp219 := (hI219.1.2.2.2.2.2.1 p x hpL hxl219).2.1
            have hk219 := (KpS.rot hk.sw hQ219 hs hpn.symm hn9.1 hn9.2.1).sw
            have hco219 : ∀ r0, roX219 = some r0 → usc (usc co (ob lf (some p)) 1) (some p) 0 r0 = 1 := fun r0 e => by { rw [show ob lf (some p) = some s from hs]; exact fixB hI hco1 hps r0 (by rw [hR219] at e; exact e) }
            refine mw_wf (fun hwf219 => ?_)
            refine m_aload_n (y := yiJ4_fixAfterDeletion) dJ4_fixAfterDeletion_222 rfl ?_
            refine m_invS (y := yiJ4_fixAfterDeletion) [(.ref x)] dJ4_fixAfterDeletion_223 q1797 q1798 q128 q1799 (c_J4_parentOf (some x) hF219 (OM.s (by assumption))) pdJ4_parentOf ⟨Nat.le_of_ble_eq_true rfl, by decide, by omega⟩ (kk_q fun r223 h223 q223 => ?_) kx_q
            obtain ⟨rfl, rfl⟩ := q223
            have om223 : OM L (ob paX219 (some x)) := OM.p hI219 (OM.s (by assumption))
            refine mw_topv (v' := .ref p) (congrArg va_rf (hxp219)) ?_
            refine m_invS (y := yiJ4_fixAfterDeletion) [(.ref p)] dJ4_fixAfterDeletion_226 q1800 q1801 q128 q1802 (c_J4_leftOf (some p) hF219 (OM.s (by assumption))) pdJ4_leftOf ⟨Nat.le_of_ble_eq_true rfl, by decide, by omega⟩ (kk_q fun r226 h226 q226 => ?_) kx_q
            obtain ⟨rfl, rfl⟩ := q226
            have om226 : OM L (ob lfX219 (some p)) := OM.l hI219 (OM.s (by assumption))
            refine m_astore_nq (y := yiJ4_fixAfterDeletion) dJ4_fixAfterDeletion_229 (by decide) rfl ?_
            show MW K yiJ4_fixAfterDeletion d h219 230 [some (.ref m), some (.ref x), some (va_rf (ob lfX219 (some p)))] [] Q
            refine m_aload_nq (y := yiJ4_fixAfterDeletion) dJ4_fixAfterDeletion_230 rfl ?_
            refine m_invS (y := yiJ4_fixAfterDeletion) [(va_rf (ob lfX219 (some p)))] dJ4_fixAfterDeletion_231 q1803 q1804 q128 q1805 (c_J4_rightOf (ob lfX219 (some p)) hF219 om226) pdJ4_rightOf ⟨Nat.le_of_ble_eq_true rfl, by decide, by omega⟩ (kk_q fun r231 h231 q231 => ?_) kx_q
            obtain ⟨rfl, rfl⟩ := q231
            have om231 : OM L (ob rtX219 (ob lfX219 (some p))) := OM.r hI219 om226
            refine m_invS (y := yiJ4_fixAfterDeletion) [(va_rf (ob rtX219 (ob lfX219 (some p))))] dJ4_fixAfterDeletion_234 q1806 q1807 q128 q1808 (c_J4_colorOf (ob rtX219 (ob lfX219 (some p))) hF219 om231) pdJ4_colorOf ⟨Nat.le_of_ble_eq_true rfl, by decide, by omega⟩ (kk_z fun r234 h234 q234 => ?_) kx_z
            obtain ⟨rfl, rfl⟩ := q234
            have oc234 := TmF.oc01 (q := (ob rtX219 (ob lfX219 (some p)))) hF219 om231
            refine mw_top (x' := oc (usc (usc co (ob lf (some p)) 1) (some p) 0) (ob rtX219 (ob lfX219 (some p)))) rfl ?_
            refine j_iconst (y := yiJ4_fixAfterDeletion) dJ4_fixAfterDeletion_237 ?_
            refine j_icmp_ne (y := yiJ4_fixAfterDeletion) 265 dJ4_fixAfterDeletion_238 (by decide) ⟨⟨by omega, by omega⟩, ⟨by omega, by omega⟩⟩ (fun c238 => ?_) (fun c238 => ?_)
            · refine m_aload_nq (y := yiJ4_fixAfterDeletion) dJ4_fixAfterDeletion_265 rfl ?_
              refine m_invS (y := yiJ4_fixAfterDeletion) [(va_rf (ob lfX219 (some p)))] dJ4_fixAfterDeletion_266 q1800 q1801 q128 q1802 (c_J4_leftOf (ob lfX219 (some p)) hF219 om226) pdJ4_leftOf ⟨Nat.le_of_ble_eq_true rfl, by decide, by omega⟩ (kk_q fun r266 h266 q266 => ?_) kx_q
              obtain ⟨rfl, rfl⟩ := q266
              have om266 : OM L (ob lfX219 (ob lfX219 (some p))) := OM.l hI219 om226
              refine m_invS (y := yiJ4_fixAfterDeletion) [(va_rf (ob lfX219 (ob lfX219 (some p))))] dJ4_fixAfterDeletion_269 q1806 q1807 q128 q1808 (c_J4_colorOf (ob lfX219 (ob lfX219 (some p))) hF219 om266) pdJ4_colorOf ⟨Nat.le_of_ble_eq_true rfl, by decide, by omega⟩ (kk_z fun r269 h269 q269 => ?_) kx_z
              obtain ⟨rfl, rfl⟩ := q269
              have oc269 := TmF.oc01 (q := (ob lfX219 (ob lfX219 (some p)))) hF219 om266
              refine mw_top (x' := oc (usc (usc co (ob lf (some p)) 1) (some p) 0) (ob lfX219 (ob lfX219 (some p)))) rfl ?_
              refine j_iconst (y := yiJ4_fixAfterDeletion) dJ4_fixAfterDeletion_272 ?_
              refine j_icmp_ne (y := yiJ4_fixAfterDeletion) 302 dJ4_fixAfterDeletion_273 (by decide) ⟨⟨by omega, by omega⟩, ⟨by omega, by omega⟩⟩ (fun c273 => ?_) (fun c273 => ?_)
              · obtain ⟨s3, hs3⟩ : ∃ s3, lfX219 p = some s3 := (by { obtain ⟨a9, e9⟩ := oc_n1 c273; obtain ⟨b9, e8, e7⟩ := ob_inv2 e9; exact ⟨b9, e8⟩ })
                have hm3 := hI219.1.rln hpL hxl219 hs3
                refine m_aload_nq (y := yiJ4_fixAfterDeletion) dJ4_fixAfterDeletion_302 rfl ?_
                refine m_aload_n (y := yiJ4_fixAfterDeletion) dJ4_fixAfterDeletion_303 rfl ?_
                refine m_invS (y := yiJ4_fixAfterDeletion) [(.ref x)] dJ4_fixAfterDeletion_304 q1797 q1798 q128 q1799 (c_J4_parentOf (some x) hF219 (OM.s (by assumption))) pdJ4_parentOf ⟨by simp only [List.map_cons, va_rf_1]; exact Nat.le_of_ble_eq_true rfl, by decide, by omega⟩ (kk_q fun r304 h304 q304 => ?_) kx_q
                obtain ⟨rfl, rfl⟩ := q304
                have om304 : OM L (ob paX219 (some x)) := OM.p hI219 (OM.s (by assumption))
                refine mw_topv (v' := .ref p) (congrArg va_rf (hxp219)) ?_
                refine m_invS (y := yiJ4_fixAfterDeletion) [(.ref p)] dJ4_fixAfterDeletion_307 q1806 q1807 q128 q1808 (c_J4_colorOf (some p) hF219 (OM.s (by assumption))) pdJ4_colorOf ⟨by simp only [List.map_cons, va_rf_1]; exact Nat.le_of_ble_eq_true rfl, by decide, by omega⟩ (kk_z fun r307 h307 q307 => ?_) kx_z
                obtain ⟨rfl, rfl⟩ := q307
                have oc307 := TmF.oc01 (q := (some p)) hF219 (OM.s (by assumption))
                refine mw_top (x' := oc (usc (usc co (ob lf (some p)) 1) (some p) 0) (some p)) rfl ?_
                refine m_invS (y := yiJ4_fixAfterDeletion) [(va_rf (ob lfX219 (some p))), (vi (oc (usc (usc co (ob lf (some p)) 1) (some p) 0) (some p)))] dJ4_fixAfterDeletion_310 q1809 q1810 q128 q1811 (c_J4_setColor (ob lfX219 (some p)) (oc (usc (usc co (ob lf (some p)) 1) (some p) 0) (some p)) hF219 om226 (by omega)) pdJ4_setColor ⟨Nat.le_of_ble_eq_true rfl, by decide, by omega⟩ (kk_v fun h310 q310 => ?_) kx_v
                obtain ⟨hU310, hF310⟩ := q310
                have hT310 := TFr.trans hT219 hU310
                refine mw_wf (fun hwf310 => ?_)
                refine m_aload_n (y := yiJ4_fixAfterDeletion) dJ4_fixAfterDeletion_313 rfl ?_
                refine m_invS (y := yiJ4_fixAfterDeletion) [(.ref x)] dJ4_fixAfterDeletion_314 q1797 q1798 q128 q1799 (c_J4_parentOf (some x) hF310 (OM.s (by assumption))) pdJ4_parentOf ⟨Nat.le_of_ble_eq_true rfl, by decide, by omega⟩ (kk_q fun r314 h314 q314 => ?_) kx_q
                obtain ⟨rfl, rfl⟩ := q314
                have om314 : OM L (ob paX219 (some x)) := OM.p hI219 (OM.s (by assumption))
                refine mw_topv (v' := .ref p) (congrArg va_rf (hxp219)) ?_
                refine j_iconst (y := yiJ4_fixAfterDeletion) dJ4_fixAfterDeletion_317 ?_
                refine m_invS (y := yiJ4_fixAfterDeletion) [(.ref p), (vi 1)] dJ4_fixAfterDeletion_318 q1809 q1810 q128 q1811 (c_J4_setColor (some p) 1 hF310 (OM.s (by assumption)) (by omega)) pdJ4_setColor ⟨Nat.le_of_ble_eq_true rfl, by decide, by omega⟩ (kk_v fun h318 q318 => ?_) kx_v
                obtain ⟨hU318, hF318⟩ := q318
                have hT318 := TFr.trans hT310 hU318
                refine mw_wf (fun hwf318 => ?_)
                refine m_aload_nq (y := yiJ4_fixAfterDeletion) dJ4_fixAfterDeletion_321 rfl ?_
                refine m_invS (y := yiJ4_fixAfterDeletion) [(va_rf (ob lfX219 (some p)))] dJ4_fixAfterDeletion_322 q1800 q1801 q128 q1802 (c_J4_leftOf (ob lfX219 (some p)) hF318 om226) pdJ4_leftOf ⟨Nat.le_of_ble_eq_true rfl, by decide, by omega⟩ (kk_q fun r322 h322 q322 => ?_) kx_q
                obtain ⟨rfl, rfl⟩ := q322
                have om322 : OM L (ob lfX219 (ob lfX219 (some p))) := OM.l hI219 om226
                refine j_iconst (y := yiJ4_fixAfterDeletion) dJ4_fixAfterDeletion_325 ?_
                refine m_invS (y := yiJ4_fixAfterDeletion) [(va_rf (ob lfX219 (ob lfX219 (some p)))), (vi 1)] dJ4_fixAfterDeletion_326 q1809 q1810 q128 q1811 (c_J4_setColor (ob lfX219 (ob lfX219 (some p))) 1 hF318 om322 (by omega)) pdJ4_setColor ⟨Nat.le_of_ble_eq_true rfl, by decide, by omega⟩ (kk_v fun h326 q326 => ?_) kx_v
                obtain ⟨hU326, hF326⟩ := q326
                have hT326 := TFr.trans hT318 hU326
                refine mw_wf (fun hwf326 => ?_)
                refine m_aload_n (y := yiJ4_fixAfterDeletion) dJ4_fixAfterDeletion_329 rfl ?_
                refine m_aload_n (y := yiJ4_fixAfterDeletion) dJ4_fixAfterDeletion_330 rfl ?_
                refine m_invS (y := yiJ4_fixAfterDeletion) [(.ref x)] dJ4_fixAfterDeletion_331 q1797 q1798 q128 q1799 (c_J4_parentOf (some x) hF326 (OM.s (by assumption))) pdJ4_parentOf ⟨Nat.le_of_ble_eq_true rfl, by decide, by omega⟩ (kk_q fun r331 h331 q331 => ?_) kx_q
                obtain ⟨rfl, rfl⟩ := q331
                have om331 : OM L (ob paX219 (some x)) := OM.p hI219 (OM.s (by assumption))
                refine mw_topv (v' := .ref p) (congrArg va_rf (hxp219)) ?_
                refine m_invV (y := yiJ4_fixAfterDeletion) (rB := (RJ4, TJ4, 9)) [(.ref p)] dJ4_fixAfterDeletion_334 hF326.1 rfl q1816 q1818 qs27 q128 q1819 rfl (c_J4_rotateRight (p := p) (r := s3) hF326 hI219 hpL hs3) pdJ4_rotateRight ⟨Nat.le_of_ble_eq_true rfl, by decide, by omega⟩ (kk_v fun h334 q334 => ?_) kx_v
                obtain ⟨hU334, lfX334, rtX334, paX334, loX334, hiX334, roX334, hF334, hI334, hQ334, hR334⟩ := q334
                have hT334 := TFr.trans hT326 hU334
                have hk334 := (KpS.rot (KpS.sw hk219) hQ334 hs3 hpn.symm hm3.1 hm3.2.1).sw
                refine mw_wf (fun hwf334 => ?_)
                obtain ⟨r9, hr9, hr9L⟩ := hI334.1.rootE hx
                refine m_aload_n (y := yiJ4_fixAfterDeletion) dJ4_fixAfterDeletion_337 rfl ?_
                refine m_getfS (y := yiJ4_fixAfterDeletion) kc_17 3 (by decide) dJ4_fixAfterDeletion_338 q240 hF334.1 rfl ?_
                refine mw_topv (v' := .ref r9) (congrArg va_rf (hr9)) ?_
                refine m_astore_n (y := yiJ4_fixAfterDeletion) dJ4_fixAfterDeletion_341 (by decide) rfl ?_
                show MW K yiJ4_fixAfterDeletion d h334 342 [some (.ref m), some (.ref r9), some (va_rf (ob lfX219 (some p)))] [] Q
                refine m_goto (y := yiJ4_fixAfterDeletion) 0 dJ4_fixAfterDeletion_342 (by decide) ?_
                refine mw_forget 2 ?_
                exact ih0 _ (by omega) (r9) (lfX334) (rtX334) (paX334) ((usc (usc (usc (usc (usc co (ob lf (some p)) 1) (some p) 0) (ob lfX219 (some p)) (oc (usc (usc co (ob lf (some p)) 1) (some p) 0) (some p))) (some p) 1) (ob lfX219 (ob lfX219 (some p))) 1)) (loX334) (hiX334) (roX334) (N0 - 1) _ rfl hr9L hF334 hI334 hT334 (fun r1 e => Or.inr (Option.some.inj (e.symm.trans hr9))) (Or.inl hr9) (KpS.up hk334 (by { have q1 := hI334.1.2.2.1 r9 hr9; have q2 := hI334.1.bd hx; omega }))
              · obtain ⟨l, hl⟩ := oc_n1 c238
                obtain ⟨s2, hs2, hls⟩ := ob_inv2 hl
                have hs2 : lfX219 p = some s2 := hs2
                have hm9 := hI219.1.rln hpL hxl219 hs2
                have hl9 := hm9.2.2 l hls
                have hs2L := (hI219.1.2.2.2.2.1 p s2 hpL hs2)
                refine m_aload_nq (y := yiJ4_fixAfterDeletion) dJ4_fixAfterDeletion_276 rfl ?_
                refine m_invS (y := yiJ4_fixAfterDeletion) [(va_rf (ob lfX219 (some p)))] dJ4_fixAfterDeletion_277 q1803 q1804 q128 q1805 (c_J4_rightOf (ob lfX219 (some p)) hF219 om226) pdJ4_rightOf ⟨Nat.le_of_ble_eq_true rfl, by decide, by omega⟩ (kk_q fun r277 h277 q277 => ?_) kx_q
                obtain ⟨rfl, rfl⟩ := q277
                have om277 : OM L (ob rtX219 (ob lfX219 (some p))) := OM.r hI219 om226
                refine j_iconst (y := yiJ4_fixAfterDeletion) dJ4_fixAfterDeletion_280 ?_
                refine m_invS (y := yiJ4_fixAfterDeletion) [(va_rf (ob rtX219 (ob lfX219 (some p)))), (vi 1)] dJ4_fixAfterDeletion_281 q1809 q1810 q128 q1811 (c_J4_setColor (ob rtX219 (ob lfX219 (some p))) 1 hF219 om277 (by omega)) pdJ4_setColor ⟨Nat.le_of_ble_eq_true rfl, by decide, by omega⟩ (kk_v fun h281 q281 => ?_) kx_v
                obtain ⟨hU281, hF281⟩ := q281
                have hT281 := TFr.trans hT219 hU281
                refine mw_wf (fun hwf281 => ?_)
                refine m_aload_nq (y := yiJ4_fixAfterDeletion) dJ4_fixAfterDeletion_284 rfl ?_
                refine j_iconst (y := yiJ4_fixAfterDeletion) dJ4_fixAfterDeletion_285 ?_
                refine m_invS (y := yiJ4_fixAfterDeletion) [(va_rf (ob lfX219 (some p))), (vi 0)] dJ4_fixAfterDeletion_286 q1809 q1810 q128 q1811 (c_J4_setColor (ob lfX219 (some p)) 0 hF281 om226 (by omega)) pdJ4_setColor ⟨Nat.le_of_ble_eq_true rfl, by decide, by omega⟩ (kk_v fun h286 q286 => ?_) kx_v
                obtain ⟨hU286, hF286⟩ := q286
                have hT286 := TFr.trans hT281 hU286
                refine mw_wf (fun hwf286 => ?_)
                refine m_aload_n (y := yiJ4_fixAfterDeletion) dJ4_fixAfterDeletion_289 rfl ?_
                refine m_aload_nq (y := yiJ4_fixAfterDeletion) dJ4_fixAfterDeletion_290 rfl ?_
                refine mw_topv (v' := .ref s2) (congrArg va_rf (hs2)) ?_
                refine m_invV (y := yiJ4_fixAfterDeletion) (rB := (RJ4, TJ4, 9)) [(.ref s2)] dJ4_fixAfterDeletion_291 hF286.1 rfl q1812 q1814 qs26 q128 q1815 rfl (c_J4_rotateLeft (p := s2) (r := l) hF286 hI219 hs2L.1 hls) pdJ4_rotateLeft ⟨Nat.le_of_ble_eq_true rfl, by decide, by omega⟩ (kk_v fun h291 q291 => ?_) kx_v
                obtain ⟨hU291, lfX291, rtX291, paX291, loX291, hiX291, roX291, hF291, hI291, hQ291, hR291⟩ := q291
                have hT291 := TFr.trans hT286 hU291
                have hxl291 : rtX291 p = some x := (hQ291.2.2.2.2.2.2.2.2.2 p hpL hl9.2.2 (fun h9 => hm9.1 (Option.some.inj (hxl219.symm.trans h9)))).trans hxl219
                have hxp291 := (hI291.1.2.2.2.2.2.1 p x hpL hxl291).2.1
                have hk291 := KpS.rot hk219 hQ291 hls hm9.1 hl9.1 hl9.2.1
                have hco291 : ∀ r0, roX291 = some r0 → (usc (usc (usc (usc co (ob lf (some p)) 1) (some p) 0) (ob rtX219 (ob lfX219 (some p))) 1) (ob lfX219 (some p)) 0) r0 = 1 := fun r0 e => by { rw [hR291, roR_n hs2L.2.1] at e; exact usc_0 (fun h9 => hI219.1.nopl hpL h9 e) (usc_1 (hco219 r0 e)) }
                refine mw_wf (fun hwf291 => ?_)
                refine m_aload_n (y := yiJ4_fixAfterDeletion) dJ4_fixAfterDeletion_294 rfl ?_
                refine m_invS (y := yiJ4_fixAfterDeletion) [(.ref x)] dJ4_fixAfterDeletion_295 q1797 q1798 q128 q1799 (c_J4_parentOf (some x) hF291 (OM.s (by assumption))) pdJ4_parentOf ⟨Nat.le_of_ble_eq_true rfl, by decide, by omega⟩ (kk_q fun r295 h295 q295 => ?_) kx_q
                obtain ⟨rfl, rfl⟩ := q295
                have om295 : OM L (ob paX291 (some x)) := OM.p hI291 (OM.s (by assumption))
                refine mw_topv (v' := .ref p) (congrArg va_rf (hxp291)) ?_
                refine m_invS (y := yiJ4_fixAfterDeletion) [(.ref p)] dJ4_fixAfterDeletion_298 q1800 q1801 q128 q1802 (c_J4_leftOf (some p) hF291 (OM.s (by assumption))) pdJ4_leftOf ⟨Nat.le_of_ble_eq_true rfl, by decide, by omega⟩ (kk_q fun r298 h298 q298 => ?_) kx_q
                obtain ⟨rfl, rfl⟩ := q298
                have om298 : OM L (ob lfX291 (some p)) := OM.l hI291 (OM.s (by assumption))
                refine m_astore_nq (y := yiJ4_fixAfterDeletion) dJ4_fixAfterDeletion_301 (by decide) rfl ?_
                show MW K yiJ4_fixAfterDeletion d h291 302 [some (.ref m), some (.ref x), some (va_rf (ob lfX291 (some p)))] [] Q
                obtain ⟨s3, hs3⟩ : ∃ s3, lfX291 p = some s3 := (⟨l, hQ291.2.2.2.2.2.1 p hpL hs2⟩)
                have hm3 := hI291.1.rln hpL hxl291 hs3
                refine m_aload_nq (y := yiJ4_fixAfterDeletion) dJ4_fixAfterDeletion_302 rfl ?_
                refine m_aload_n (y := yiJ4_fixAfterDeletion) dJ4_fixAfterDeletion_303 rfl ?_
                refine m_invS (y := yiJ4_fixAfterDeletion) [(.ref x)] dJ4_fixAfterDeletion_304 q1797 q1798 q128 q1799 (c_J4_parentOf (some x) hF291 (OM.s (by assumption))) pdJ4_parentOf ⟨by simp only [List.map_cons, va_rf_1]; exact Nat.le_of_ble_eq_true rfl, by decide, by omega⟩ (kk_q fun r304 h304 q304 => ?_) kx_q
                obtain ⟨rfl, rfl⟩ := q304
                have om304 : OM L (ob paX291 (some x)) := OM.p hI291 (OM.s (by assumption))
                refine mw_topv (v' := .ref p) (congrArg va_rf (hxp291)) ?_
                refine m_invS (y := yiJ4_fixAfterDeletion) [(.ref p)] dJ4_fixAfterDeletion_307 q1806 q1807 q128 q1808 (c_J4_colorOf (some p) hF291 (OM.s (by assumption))) pdJ4_colorOf ⟨by simp only [List.map_cons, va_rf_1]; exact Nat.le_of_ble_eq_true rfl, by decide, by omega⟩ (kk_z fun r307 h307 q307 => ?_) kx_z
                obtain ⟨rfl, rfl⟩ := q307
                have oc307 := TmF.oc01 (q := (some p)) hF291 (OM.s (by assumption))
                refine mw_top (x' := oc (usc (usc (usc (usc co (ob lf (some p)) 1) (some p) 0) (ob rtX219 (ob lfX219 (some p))) 1) (ob lfX219 (some p)) 0) (some p)) rfl ?_
                refine m_invS (y := yiJ4_fixAfterDeletion) [(va_rf (ob lfX291 (some p))), (vi (oc (usc (usc (usc (usc co (ob lf (some p)) 1) (some p) 0) (ob rtX219 (ob lfX219 (some p))) 1) (ob lfX219 (some p)) 0) (some p)))] dJ4_fixAfterDeletion_310 q1809 q1810 q128 q1811 (c_J4_setColor (ob lfX291 (some p)) (oc (usc (usc (usc (usc co (ob lf (some p)) 1) (some p) 0) (ob rtX219 (ob lfX219 (some p))) 1) (ob lfX219 (some p)) 0) (some p)) hF291 om298 (by omega)) pdJ4_setColor ⟨Nat.le_of_ble_eq_true rfl, by decide, by omega⟩ (kk_v fun h310 q310 => ?_) kx_v
                obtain ⟨hU310, hF310⟩ := q310
                have hT310 := TFr.trans hT291 hU310
                refine mw_wf (fun hwf310 => ?_)
                refine m_aload_n (y := yiJ4_fixAfterDeletion) dJ4_fixAfterDeletion_313 rfl ?_
                refine m_invS (y := yiJ4_fixAfterDeletion) [(.ref x)] dJ4_fixAfterDeletion_314 q1797 q1798 q128 q1799 (c_J4_parentOf (some x) hF310 (OM.s (by assumption))) pdJ4_parentOf ⟨Nat.le_of_ble_eq_true rfl, by decide, by omega⟩ (kk_q fun r314 h314 q314 => ?_) kx_q
                obtain ⟨rfl, rfl⟩ := q314
                have om314 : OM L (ob paX291 (some x)) := OM.p hI291 (OM.s (by assumption))
                refine mw_topv (v' := .ref p) (congrArg va_rf (hxp291)) ?_
                refine j_iconst (y := yiJ4_fixAfterDeletion) dJ4_fixAfterDeletion_317 ?_
                refine m_invS (y := yiJ4_fixAfterDeletion) [(.ref p), (vi 1)] dJ4_fixAfterDeletion_318 q1809 q1810 q128 q1811 (c_J4_setColor (some p) 1 hF310 (OM.s (by assumption)) (by omega)) pdJ4_setColor ⟨Nat.le_of_ble_eq_true rfl, by decide, by omega⟩ (kk_v fun h318 q318 => ?_) kx_v
                obtain ⟨hU318, hF318⟩ := q318
                have hT318 := TFr.trans hT310 hU318
                refine mw_wf (fun hwf318 => ?_)
                refine m_aload_nq (y := yiJ4_fixAfterDeletion) dJ4_fixAfterDeletion_321 rfl ?_
                refine m_invS (y := yiJ4_fixAfterDeletion) [(va_rf (ob lfX291 (some p)))] dJ4_fixAfterDeletion_322 q1800 q1801 q128 q1802 (c_J4_leftOf (ob lfX291 (some p)) hF318 om298) pdJ4_leftOf ⟨Nat.le_of_ble_eq_true rfl, by decide, by omega⟩ (kk_q fun r322 h322 q322 => ?_) kx_q
                obtain ⟨rfl, rfl⟩ := q322
                have om322 : OM L (ob lfX291 (ob lfX291 (some p))) := OM.l hI291 om298
                refine j_iconst (y := yiJ4_fixAfterDeletion) dJ4_fixAfterDeletion_325 ?_
                refine m_invS (y := yiJ4_fixAfterDeletion) [(va_rf (ob lfX291 (ob lfX291 (some p)))), (vi 1)] dJ4_fixAfterDeletion_326 q1809 q1810 q128 q1811 (c_J4_setColor (ob lfX291 (ob lfX291 (some p))) 1 hF318 om322 (by omega)) pdJ4_setColor ⟨Nat.le_of_ble_eq_true rfl, by decide, by omega⟩ (kk_v fun h326 q326 => ?_) kx_v
                obtain ⟨hU326, hF326⟩ := q326
                have hT326 := TFr.trans hT318 hU326
                refine mw_wf (fun hwf326 => ?_)
                refine m_aload_n (y := yiJ4_fixAfterDeletion) dJ4_fixAfterDeletion_329 rfl ?_
                refine m_aload_n (y := yiJ4_fixAfterDeletion) dJ4_fixAfterDeletion_330 rfl ?_
                refine m_invS (y := yiJ4_fixAfterDeletion) [(.ref x)] dJ4_fixAfterDeletion_331 q1797 q1798 q128 q1799 (c_J4_parentOf (some x) hF326 (OM.s (by assumption))) pdJ4_parentOf ⟨Nat.le_of_ble_eq_true rfl, by decide, by omega⟩ (kk_q fun r331 h331 q331 => ?_) kx_q
                obtain ⟨rfl, rfl⟩ := q331
                have om331 : OM L (ob paX291 (some x)) := OM.p hI291 (OM.s (by assumption))
                refine mw_topv (v' := .ref p) (congrArg va_rf (hxp291)) ?_
                refine m_invV (y := yiJ4_fixAfterDeletion) (rB := (RJ4, TJ4, 9)) [(.ref p)] dJ4_fixAfterDeletion_334 hF326.1 rfl q1816 q1818 qs27 q128 q1819 rfl (c_J4_rotateRight (p := p) (r := s3) hF326 hI291 hpL hs3) pdJ4_rotateRight ⟨Nat.le_of_ble_eq_true rfl, by decide, by omega⟩ (kk_v fun h334 q334 => ?_) kx_v
                obtain ⟨hU334, lfX334, rtX334, paX334, loX334, hiX334, roX334, hF334, hI334, hQ334, hR334⟩ := q334
                have hT334 := TFr.trans hT326 hU334
                have hk334 := (KpS.rot (KpS.sw hk291) hQ334 hs3 hpn.symm hm3.1 hm3.2.1).sw
                refine mw_wf (fun hwf334 => ?_)
                obtain ⟨r9, hr9, hr9L⟩ := hI334.1.rootE hx
                refine m_aload_n (y := yiJ4_fixAfterDeletion) dJ4_fixAfterDeletion_337 rfl ?_
                refine m_getfS (y := yiJ4_fixAfterDeletion) kc_17 3 (by decide) dJ4_fixAfterDeletion_338 q240 hF334.1 rfl ?_
                refine mw_topv (v' := .ref r9) (congrArg va_rf (hr9)) ?_
                refine m_astore_n (y := yiJ4_fixAfterDeletion) dJ4_fixAfterDeletion_341 (by decide) rfl ?_
                show MW K yiJ4_fixAfterDeletion d h334 342 [some (.ref m), some (.ref r9), some (va_rf (ob lfX291 (some p)))] [] Q
                refine m_goto (y := yiJ4_fixAfterDeletion) 0 dJ4_fixAfterDeletion_342 (by decide) ?_
                refine mw_forget 2 ?_
                exact ih0 _ (by omega) (r9) (lfX334) (rtX334) (paX334) ((usc (usc (usc (usc (usc (usc (usc co (ob lf (some p)) 1) (some p) 0) (ob rtX219 (ob lfX219 (some p))) 1) (ob lfX219 (some p)) 0) (ob lfX291 (some p)) (oc (usc (usc (usc (usc co (ob lf (some p)) 1) (some p) 0) (ob rtX219 (ob lfX219 (some p))) 1) (ob lfX219 (some p)) 0) (some p))) (some p) 1) (ob lfX291 (ob lfX291 (some p))) 1)) (loX334) (hiX334) (roX334) (N0 - 1) _ rfl hr9L hF334 hI334 hT334 (fun r1 e => Or.inr (Option.some.inj (e.symm.trans hr9))) (Or.inl hr9) (KpS.up hk334 (by { have q1 := hI334.1.2.2.1 r9 hr9; have q2 := hI334.1.bd hx; omega }))
            · refine m_aload_nq (y := yiJ4_fixAfterDeletion) dJ4_fixAfterDeletion_241 rfl ?_
              refine m_invS (y := yiJ4_fixAfterDeletion) [(va_rf (ob lfX219 (some p)))] dJ4_fixAfterDeletion_242 q1800 q1801 q128 q1802 (c_J4_leftOf (ob lfX219 (some p)) hF219 om226) pdJ4_leftOf ⟨Nat.le_of_ble_eq_true rfl, by decide, by omega⟩ (kk_q fun r242 h242 q242 => ?_) kx_q
              obtain ⟨rfl, rfl⟩ := q242
              have om242 : OM L (ob lfX219 (ob lfX219 (some p))) := OM.l hI219 om226
              refine m_invS (y := yiJ4_fixAfterDeletion) [(va_rf (ob lfX219 (ob lfX219 (some p))))] dJ4_fixAfterDeletion_245 q1806 q1807 q128 q1808 (c_J4_colorOf (ob lfX219 (ob lfX219 (some p))) hF219 om242) pdJ4_colorOf ⟨Nat.le_of_ble_eq_true rfl, by decide, by omega⟩ (kk_z fun r245 h245 q245 => ?_) kx_z
              obtain ⟨rfl, rfl⟩ := q245
              have oc245 := TmF.oc01 (q := (ob lfX219 (ob lfX219 (some p)))) hF219 om242
              refine mw_top (x' := oc (usc (usc co (ob lf (some p)) 1) (some p) 0) (ob lfX219 (ob lfX219 (some p)))) rfl ?_
              refine j_iconst (y := yiJ4_fixAfterDeletion) dJ4_fixAfterDeletion_248 ?_
              refine j_icmp_ne (y := yiJ4_fixAfterDeletion) 265 dJ4_fixAfterDeletion_249 (by decide) ⟨⟨by omega, by omega⟩, ⟨by omega, by omega⟩⟩ (fun c249 => ?_) (fun c249 => ?_)
              · refine m_aload_nq (y := yiJ4_fixAfterDeletion) dJ4_fixAfterDeletion_265 rfl ?_
                refine m_invS (y := yiJ4_fixAfterDeletion) [(va_rf (ob lfX219 (some p)))] dJ4_fixAfterDeletion_266 q1800 q1801 q128 q1802 (c_J4_leftOf (ob lfX219 (some p)) hF219 om226) pdJ4_leftOf ⟨Nat.le_of_ble_eq_true rfl, by decide, by omega⟩ (kk_q fun r266 h266 q266 => ?_) kx_q
                obtain ⟨rfl, rfl⟩ := q266
                have om266 : OM L (ob lfX219 (ob lfX219 (some p))) := OM.l hI219 om226
                refine m_invS (y := yiJ4_fixAfterDeletion) [(va_rf (ob lfX219 (ob lfX219 (some p))))] dJ4_fixAfterDeletion_269 q1806 q1807 q128 q1808 (c_J4_colorOf (ob lfX219 (ob lfX219 (some p))) hF219 om266) pdJ4_colorOf ⟨Nat.le_of_ble_eq_true rfl, by decide, by omega⟩ (kk_z fun r269 h269 q269 => ?_) kx_z
                obtain ⟨rfl, rfl⟩ := q269
                have oc269 := TmF.oc01 (q := (ob lfX219 (ob lfX219 (some p)))) hF219 om266
                refine mw_top (x' := oc (usc (usc co (ob lf (some p)) 1) (some p) 0) (ob lfX219 (ob lfX219 (some p)))) rfl ?_
                refine j_iconst (y := yiJ4_fixAfterDeletion) dJ4_fixAfterDeletion_272 ?_
                refine j_icmp_ne (y := yiJ4_fixAfterDeletion) 302 dJ4_fixAfterDeletion_273 (by decide) ⟨⟨by omega, by omega⟩, ⟨by omega, by omega⟩⟩ (fun c273 => ?_) (fun c273 => False.elim (by omega))
                obtain ⟨s3, hs3⟩ : ∃ s3, lfX219 p = some s3 := (by { obtain ⟨a9, e9⟩ := oc_n1 c273; obtain ⟨b9, e8, e7⟩ := ob_inv2 e9; exact ⟨b9, e8⟩ })
                have hm3 := hI219.1.rln hpL hxl219 hs3
                refine m_aload_nq (y := yiJ4_fixAfterDeletion) dJ4_fixAfterDeletion_302 rfl ?_
                refine m_aload_n (y := yiJ4_fixAfterDeletion) dJ4_fixAfterDeletion_303 rfl ?_
                refine m_invS (y := yiJ4_fixAfterDeletion) [(.ref x)] dJ4_fixAfterDeletion_304 q1797 q1798 q128 q1799 (c_J4_parentOf (some x) hF219 (OM.s (by assumption))) pdJ4_parentOf ⟨by simp only [List.map_cons, va_rf_1]; exact Nat.le_of_ble_eq_true rfl, by decide, by omega⟩ (kk_q fun r304 h304 q304 => ?_) kx_q
                obtain ⟨rfl, rfl⟩ := q304
                have om304 : OM L (ob paX219 (some x)) := OM.p hI219 (OM.s (by assumption))
                refine mw_topv (v' := .ref p) (congrArg va_rf (hxp219)) ?_
                refine m_invS (y := yiJ4_fixAfterDeletion) [(.ref p)] dJ4_fixAfterDeletion_307 q1806 q1807 q128 q1808 (c_J4_colorOf (some p) hF219 (OM.s (by assumption))) pdJ4_colorOf ⟨by simp only [List.map_cons, va_rf_1]; exact Nat.le_of_ble_eq_true rfl, by decide, by omega⟩ (kk_z fun r307 h307 q307 => ?_) kx_z
                obtain ⟨rfl, rfl⟩ := q307
                have oc307 := TmF.oc01 (q := (some p)) hF219 (OM.s (by assumption))
                refine mw_top (x' := oc (usc (usc co (ob lf (some p)) 1) (some p) 0) (some p)) rfl ?_
                refine m_invS (y := yiJ4_fixAfterDeletion) [(va_rf (ob lfX219 (some p))), (vi (oc (usc (usc co (ob lf (some p)) 1) (some p) 0) (some p)))] dJ4_fixAfterDeletion_310 q1809 q1810 q128 q1811 (c_J4_setColor (ob lfX219 (some p)) (oc (usc (usc co (ob lf (some p)) 1) (some p) 0) (some p)) hF219 om226 (by omega)) pdJ4_setColor ⟨Nat.le_of_ble_eq_true rfl, by decide, by omega⟩ (kk_v fun h310 q310 => ?_) kx_v
                obtain ⟨hU310, hF310⟩ := q310
                have hT310 := TFr.trans hT219 hU310
                refine mw_wf (fun hwf310 => ?_)
                refine m_aload_n (y := yiJ4_fixAfterDeletion) dJ4_fixAfterDeletion_313 rfl ?_
                refine m_invS (y := yiJ4_fixAfterDeletion) [(.ref x)] dJ4_fixAfterDeletion_314 q1797 q1798 q128 q1799 (c_J4_parentOf (some x) hF310 (OM.s (by assumption))) pdJ4_parentOf ⟨Nat.le_of_ble_eq_true rfl, by decide, by omega⟩ (kk_q fun r314 h314 q314 => ?_) kx_q
                obtain ⟨rfl, rfl⟩ := q314
                have om314 : OM L (ob paX219 (some x)) := OM.p hI219 (OM.s (by assumption))
                refine mw_topv (v' := .ref p) (congrArg va_rf (hxp219)) ?_
                refine j_iconst (y := yiJ4_fixAfterDeletion) dJ4_fixAfterDeletion_317 ?_
                refine m_invS (y := yiJ4_fixAfterDeletion) [(.ref p), (vi 1)] dJ4_fixAfterDeletion_318 q1809 q1810 q128 q1811 (c_J4_setColor (some p) 1 hF310 (OM.s (by assumption)) (by omega)) pdJ4_setColor ⟨Nat.le_of_ble_eq_true rfl, by decide, by omega⟩ (kk_v fun h318 q318 => ?_) kx_v
                obtain ⟨hU318, hF318⟩ := q318
                have hT318 := TFr.trans hT310 hU318
                refine mw_wf (fun hwf318 => ?_)
                refine m_aload_nq (y := yiJ4_fixAfterDeletion) dJ4_fixAfterDeletion_321 rfl ?_
                refine m_invS (y := yiJ4_fixAfterDeletion) [(va_rf (ob lfX219 (some p)))] dJ4_fixAfterDeletion_322 q1800 q1801 q128 q1802 (c_J4_leftOf (ob lfX219 (some p)) hF318 om226) pdJ4_leftOf ⟨Nat.le_of_ble_eq_true rfl, by decide, by omega⟩ (kk_q fun r322 h322 q322 => ?_) kx_q
                obtain ⟨rfl, rfl⟩ := q322
                have om322 : OM L (ob lfX219 (ob lfX219 (some p))) := OM.l hI219 om226
                refine j_iconst (y := yiJ4_fixAfterDeletion) dJ4_fixAfterDeletion_325 ?_
                refine m_invS (y := yiJ4_fixAfterDeletion) [(va_rf (ob lfX219 (ob lfX219 (some p)))), (vi 1)] dJ4_fixAfterDeletion_326 q1809 q1810 q128 q1811 (c_J4_setColor (ob lfX219 (ob lfX219 (some p))) 1 hF318 om322 (by omega)) pdJ4_setColor ⟨Nat.le_of_ble_eq_true rfl, by decide, by omega⟩ (kk_v fun h326 q326 => ?_) kx_v
                obtain ⟨hU326, hF326⟩ := q326
                have hT326 := TFr.trans hT318 hU326
                refine mw_wf (fun hwf326 => ?_)
                refine m_aload_n (y := yiJ4_fixAfterDeletion) dJ4_fixAfterDeletion_329 rfl ?_
                refine m_aload_n (y := yiJ4_fixAfterDeletion) dJ4_fixAfterDeletion_330 rfl ?_
                refine m_invS (y := yiJ4_fixAfterDeletion) [(.ref x)] dJ4_fixAfterDeletion_331 q1797 q1798 q128 q1799 (c_J4_parentOf (some x) hF326 (OM.s (by assumption))) pdJ4_parentOf ⟨Nat.le_of_ble_eq_true rfl, by decide, by omega⟩ (kk_q fun r331 h331 q331 => ?_) kx_q
                obtain ⟨rfl, rfl⟩ := q331
                have om331 : OM L (ob paX219 (some x)) := OM.p hI219 (OM.s (by assumption))
                refine mw_topv (v' := .ref p) (congrArg va_rf (hxp219)) ?_
                refine m_invV (y := yiJ4_fixAfterDeletion) (rB := (RJ4, TJ4, 9)) [(.ref p)] dJ4_fixAfterDeletion_334 hF326.1 rfl q1816 q1818 qs27 q128 q1819 rfl (c_J4_rotateRight (p := p) (r := s3) hF326 hI219 hpL hs3) pdJ4_rotateRight ⟨Nat.le_of_ble_eq_true rfl, by decide, by omega⟩ (kk_v fun h334 q334 => ?_) kx_v
                obtain ⟨hU334, lfX334, rtX334, paX334, loX334, hiX334, roX334, hF334, hI334, hQ334, hR334⟩ := q334
                have hT334 := TFr.trans hT326 hU334
                have hk334 := (KpS.rot (KpS.sw hk219) hQ334 hs3 hpn.symm hm3.1 hm3.2.1).sw
                refine mw_wf (fun hwf334 => ?_)
                obtain ⟨r9, hr9, hr9L⟩ := hI334.1.rootE hx
                refine m_aload_n (y := yiJ4_fixAfterDeletion) dJ4_fixAfterDeletion_337 rfl ?_
                refine m_getfS (y := yiJ4_fixAfterDeletion) kc_17 3 (by decide) dJ4_fixAfterDeletion_338 q240 hF334.1 rfl ?_
                refine mw_topv (v' := .ref r9) (congrArg va_rf (hr9)) ?_
                refine m_astore_n (y := yiJ4_fixAfterDeletion) dJ4_fixAfterDeletion_341 (by decide) rfl ?_
                show MW K yiJ4_fixAfterDeletion d h334 342 [some (.ref m), some (.ref r9), some (va_rf (ob lfX219 (some p)))] [] Q
                refine m_goto (y := yiJ4_fixAfterDeletion) 0 dJ4_fixAfterDeletion_342 (by decide) ?_
                refine mw_forget 2 ?_
                exact ih0 _ (by omega) (r9) (lfX334) (rtX334) (paX334) ((usc (usc (usc (usc (usc co (ob lf (some p)) 1) (some p) 0) (ob lfX219 (some p)) (oc (usc (usc co (ob lf (some p)) 1) (some p) 0) (some p))) (some p) 1) (ob lfX219 (ob lfX219 (some p))) 1)) (loX334) (hiX334) (roX334) (N0 - 1) _ rfl hr9L hF334 hI334 hT334 (fun r1 e => Or.inr (Option.some.inj (e.symm.trans hr9))) (Or.inl hr9) (KpS.up hk334 (by { have q1 := hI334.1.2.2.1 r9 hr9; have q2 := hI334.1.bd hx; omega }))
              · refine m_aload_nq (y := yiJ4_fixAfterDeletion) dJ4_fixAfterDeletion_252 rfl ?_
                refine j_iconst (y := yiJ4_fixAfterDeletion) dJ4_fixAfterDeletion_253 ?_
                refine m_invS (y := yiJ4_fixAfterDeletion) [(va_rf (ob lfX219 (some p))), (vi 0)] dJ4_fixAfterDeletion_254 q1809 q1810 q128 q1811 (c_J4_setColor (ob lfX219 (some p)) 0 hF219 om226 (by omega)) pdJ4_setColor ⟨Nat.le_of_ble_eq_true rfl, by decide, by omega⟩ (kk_v fun h254 q254 => ?_) kx_v
                obtain ⟨hU254, hF254⟩ := q254
                have hT254 := TFr.trans hT219 hU254
                refine mw_wf (fun hwf254 => ?_)
                refine m_aload_n (y := yiJ4_fixAfterDeletion) dJ4_fixAfterDeletion_257 rfl ?_
                refine m_invS (y := yiJ4_fixAfterDeletion) [(.ref x)] dJ4_fixAfterDeletion_258 q1797 q1798 q128 q1799 (c_J4_parentOf (some x) hF254 (OM.s (by assumption))) pdJ4_parentOf ⟨Nat.le_of_ble_eq_true rfl, by decide, by omega⟩ (kk_q fun r258 h258 q258 => ?_) kx_q
                obtain ⟨rfl, rfl⟩ := q258
                have om258 : OM L (ob paX219 (some x)) := OM.p hI219 (OM.s (by assumption))
                refine mw_topv (v' := .ref p) (congrArg va_rf (hxp219)) ?_
                refine m_astore_n (y := yiJ4_fixAfterDeletion) dJ4_fixAfterDeletion_261 (by decide) rfl ?_
                show MW K yiJ4_fixAfterDeletion d h254 262 [some (.ref m), some (.ref p), some (va_rf (ob lfX219 (some p)))] [] Q
                refine m_goto (y := yiJ4_fixAfterDeletion) 342 dJ4_fixAfterDeletion_262 (by decide) ?_
                refine m_goto (y := yiJ4_fixAfterDeletion) 0 dJ4_fixAfterDeletion_342 (by decide) ?_
                refine mw_forget 2 ?_
                exact ih0 _ (by omega) (p) (lfX219) (rtX219) (paX219) ((usc (usc (usc co (ob lf (some p)) 1) (some p) 0) (ob lfX219 (some p)) 0)) (loX219) (hiX219) (roX219) (N0 - 1) _ rfl hpL hF254 hI219 hT254 (fun r0 e => Or.inl (usc_0 (fun h9 => hI219.1.nopl hpL h9 e) (hco219 r0 e))) (Or.inr (Or.inl (usc_p0 (fun h9 => hI219.1.nsl hpL h9)))) (KpS.up hk219 (hI219.1.grow hx hxp219).2)
        · have hlx : lf p = some x := c24.symm
          refine m_aload_n (y := yiJ4_fixAfterDeletion) dJ4_fixAfterDeletion_27 rfl ?_
          refine m_invS (y := yiJ4_fixAfterDeletion) [(.ref x)] dJ4_fixAfterDeletion_28 q1797 q1798 q128 q1799 (c_J4_parentOf (some x) hF (OM.s (by assumption))) pdJ4_parentOf ⟨Nat.le_of_ble_eq_true rfl, by decide, by omega⟩ (kk_q fun r28 h28 q28 => ?_) kx_q
          obtain ⟨rfl, rfl⟩ := q28
          have om28 : OM L (ob pa (some x)) := OM.p hI (OM.s (by assumption))
          refine mw_topv (v' := .ref p) (congrArg va_rf (hp)) ?_
          refine m_invS (y := yiJ4_fixAfterDeletion) [(.ref p)] dJ4_fixAfterDeletion_31 q1803 q1804 q128 q1805 (c_J4_rightOf (some p) hF (OM.s (by assumption))) pdJ4_rightOf ⟨Nat.le_of_ble_eq_true rfl, by decide, by omega⟩ (kk_q fun r31 h31 q31 => ?_) kx_q
          obtain ⟨rfl, rfl⟩ := q31
          have om31 : OM L (ob rt (some p)) := OM.r hI (OM.s (by assumption))
          refine m_astore_nq (y := yiJ4_fixAfterDeletion) dJ4_fixAfterDeletion_34 (by decide) rfl ?_
          show MW K yiJ4_fixAfterDeletion d g 35 [some (.ref m), some (.ref x), some (va_rf (ob rt (some p)))] [] Q
          refine m_aload_nq (y := yiJ4_fixAfterDeletion) dJ4_fixAfterDeletion_35 rfl ?_
          refine m_invS (y := yiJ4_fixAfterDeletion) [(va_rf (ob rt (some p)))] dJ4_fixAfterDeletion_36 q1806 q1807 q128 q1808 (c_J4_colorOf (ob rt (some p)) hF om31) pdJ4_colorOf ⟨Nat.le_of_ble_eq_true rfl, by decide, by omega⟩ (kk_z fun r36 h36 q36 => ?_) kx_z
          obtain ⟨rfl, rfl⟩ := q36
          have oc36 := TmF.oc01 (q := (ob rt (some p))) hF om31
          refine mw_top (x' := oc co (ob rt (some p))) rfl ?_
          refine j_if_ne (y := yiJ4_fixAfterDeletion) 71 dJ4_fixAfterDeletion_39 (by decide) ⟨by omega, by omega⟩ (fun c39 => ?_) (fun c39 => ?_)
          · refine m_aload_nq (y := yiJ4_fixAfterDeletion) dJ4_fixAfterDeletion_71 rfl ?_
            refine m_invS (y := yiJ4_fixAfterDeletion) [(va_rf (ob rt (some p)))] dJ4_fixAfterDeletion_72 q1800 q1801 q128 q1802 (c_J4_leftOf (ob rt (some p)) hF om31) pdJ4_leftOf ⟨Nat.le_of_ble_eq_true rfl, by decide, by omega⟩ (kk_q fun r72 h72 q72 => ?_) kx_q
            obtain ⟨rfl, rfl⟩ := q72
            have om72 : OM L (ob lf (ob rt (some p))) := OM.l hI om31
            refine m_invS (y := yiJ4_fixAfterDeletion) [(va_rf (ob lf (ob rt (some p))))] dJ4_fixAfterDeletion_75 q1806 q1807 q128 q1808 (c_J4_colorOf (ob lf (ob rt (some p))) hF om72) pdJ4_colorOf ⟨Nat.le_of_ble_eq_true rfl, by decide, by omega⟩ (kk_z fun r75 h75 q75 => ?_) kx_z
            obtain ⟨rfl, rfl⟩ := q75
            have oc75 := TmF.oc01 (q := (ob lf (ob rt (some p)))) hF om72
            refine mw_top (x' := oc co (ob lf (ob rt (some p)))) rfl ?_
            refine j_iconst (y := yiJ4_fixAfterDeletion) dJ4_fixAfterDeletion_78 ?_
            refine j_icmp_ne (y := yiJ4_fixAfterDeletion) 106 dJ4_fixAfterDeletion_79 (by decide) ⟨⟨by omega, by omega⟩, ⟨by omega, by omega⟩⟩ (fun c79 => ?_) (fun c79 => ?_)
            · refine m_aload_nq (y := yiJ4_fixAfterDeletion) dJ4_fixAfterDeletion_106 rfl ?_
              refine m_invS (y := yiJ4_fixAfterDeletion) [(va_rf (ob rt (some p)))] dJ4_fixAfterDeletion_107 q1803 q1804 q128 q1805 (c_J4_rightOf (ob rt (some p)) hF om31) pdJ4_rightOf ⟨Nat.le_of_ble_eq_true rfl, by decide, by omega⟩ (kk_q fun r107 h107 q107 => ?_) kx_q
              obtain ⟨rfl, rfl⟩ := q107
              have om107 : OM L (ob rt (ob rt (some p))) := OM.r hI om31
              refine m_invS (y := yiJ4_fixAfterDeletion) [(va_rf (ob rt (ob rt (some p))))] dJ4_fixAfterDeletion_110 q1806 q1807 q128 q1808 (c_J4_colorOf (ob rt (ob rt (some p))) hF om107) pdJ4_colorOf ⟨Nat.le_of_ble_eq_true rfl, by decide, by omega⟩ (kk_z fun r110 h110 q110 => ?_) kx_z
              obtain ⟨rfl, rfl⟩ := q110
              have oc110 := TmF.oc01 (q := (ob rt (ob rt (some p)))) hF om107
              refine mw_top (x' := oc co (ob rt (ob rt (some p)))) rfl ?_
              refine j_iconst (y := yiJ4_fixAfterDeletion) dJ4_fixAfterDeletion_113 ?_
              refine j_icmp_ne (y := yiJ4_fixAfterDeletion) 143 dJ4_fixAfterDeletion_114 (by decide) ⟨⟨by omega, by omega⟩, ⟨by omega, by omega⟩⟩ (fun c114 => ?_) (fun c114 => ?_)
              · obtain ⟨s3, hs3⟩ : ∃ s3, rt p = some s3 := (by { obtain ⟨a9, e9⟩ := oc_n1 c114; obtain ⟨b9, e8, e7⟩ := ob_inv2 e9; exact ⟨b9, e8⟩ })
                have hm3 := hI.1.lrn hpL hlx hs3
                refine m_aload_nq (y := yiJ4_fixAfterDeletion) dJ4_fixAfterDeletion_143 rfl ?_
                refine m_aload_n (y := yiJ4_fixAfterDeletion) dJ4_fixAfterDeletion_144 rfl ?_
                refine m_invS (y := yiJ4_fixAfterDeletion) [(.ref x)] dJ4_fixAfterDeletion_145 q1797 q1798 q128 q1799 (c_J4_parentOf (some x) hF (OM.s (by assumption))) pdJ4_parentOf ⟨by simp only [List.map_cons, va_rf_1]; exact Nat.le_of_ble_eq_true rfl, by decide, by omega⟩ (kk_q fun r145 h145 q145 => ?_) kx_q
                obtain ⟨rfl, rfl⟩ := q145
                have om145 : OM L (ob pa (some x)) := OM.p hI (OM.s (by assumption))
                refine mw_topv (v' := .ref p) (congrArg va_rf (hp)) ?_
                refine m_invS (y := yiJ4_fixAfterDeletion) [(.ref p)] dJ4_fixAfterDeletion_148 q1806 q1807 q128 q1808 (c_J4_colorOf (some p) hF (OM.s (by assumption))) pdJ4_colorOf ⟨by simp only [List.map_cons, va_rf_1]; exact Nat.le_of_ble_eq_true rfl, by decide, by omega⟩ (kk_z fun r148 h148 q148 => ?_) kx_z
                obtain ⟨rfl, rfl⟩ := q148
                have oc148 := TmF.oc01 (q := (some p)) hF (OM.s (by assumption))
                refine mw_top (x' := oc co (some p)) rfl ?_
                refine m_invS (y := yiJ4_fixAfterDeletion) [(va_rf (ob rt (some p))), (vi (oc co (some p)))] dJ4_fixAfterDeletion_151 q1809 q1810 q128 q1811 (c_J4_setColor (ob rt (some p)) (oc co (some p)) hF om31 (by omega)) pdJ4_setColor ⟨Nat.le_of_ble_eq_true rfl, by decide, by omega⟩ (kk_v fun h151 q151 => ?_) kx_v
                obtain ⟨hU151, hF151⟩ := q151
                have hT151 := TFr.trans hT hU151
                refine mw_wf (fun hwf151 => ?_)
                refine m_aload_n (y := yiJ4_fixAfterDeletion) dJ4_fixAfterDeletion_154 rfl ?_
                refine m_invS (y := yiJ4_fixAfterDeletion) [(.ref x)] dJ4_fixAfterDeletion_155 q1797 q1798 q128 q1799 (c_J4_parentOf (some x) hF151 (OM.s (by assumption))) pdJ4_parentOf ⟨Nat.le_of_ble_eq_true rfl, by decide, by omega⟩ (kk_q fun r155 h155 q155 => ?_) kx_q
                obtain ⟨rfl, rfl⟩ := q155
                have om155 : OM L (ob pa (some x)) := OM.p hI (OM.s (by assumption))
                refine mw_topv (v' := .ref p) (congrArg va_rf (hp)) ?_
                refine j_iconst (y := yiJ4_fixAfterDeletion) dJ4_fixAfterDeletion_158 ?_
                refine m_invS (y := yiJ4_fixAfterDeletion) [(.ref p), (vi 1)] dJ4_fixAfterDeletion_159 q1809 q1810 q128 q1811 (c_J4_setColor (some p) 1 hF151 (OM.s (by assumption)) (by omega)) pdJ4_setColor ⟨Nat.le_of_ble_eq_true rfl, by decide, by omega⟩ (kk_v fun h159 q159 => ?_) kx_v
                obtain ⟨hU159, hF159⟩ := q159
                have hT159 := TFr.trans hT151 hU159
                refine mw_wf (fun hwf159 => ?_)
                refine m_aload_nq (y := yiJ4_fixAfterDeletion) dJ4_fixAfterDeletion_162 rfl ?_
                refine m_invS (y := yiJ4_fixAfterDeletion) [(va_rf (ob rt (some p)))] dJ4_fixAfterDeletion_163 q1803 q1804 q128 q1805 (c_J4_rightOf (ob rt (some p)) hF159 om31) pdJ4_rightOf ⟨Nat.le_of_ble_eq_true rfl, by decide, by omega⟩ (kk_q fun r163 h163 q163 => ?_) kx_q
                obtain ⟨rfl, rfl⟩ := q163
                have om163 : OM L (ob rt (ob rt (some p))) := OM.r hI om31
                refine j_iconst (y := yiJ4_fixAfterDeletion) dJ4_fixAfterDeletion_166 ?_
                refine m_invS (y := yiJ4_fixAfterDeletion) [(va_rf (ob rt (ob rt (some p)))), (vi 1)] dJ4_fixAfterDeletion_167 q1809 q1810 q128 q1811 (c_J4_setColor (ob rt (ob rt (some p))) 1 hF159 om163 (by omega)) pdJ4_setColor ⟨Nat.le_of_ble_eq_true rfl, by decide, by omega⟩ (kk_v fun h167 q167 => ?_) kx_v
                obtain ⟨hU167, hF167⟩ := q167
                have hT167 := TFr.trans hT159 hU167
                refine mw_wf (fun hwf167 => ?_)
                refine m_aload_n (y := yiJ4_fixAfterDeletion) dJ4_fixAfterDeletion_170 rfl ?_
                refine m_aload_n (y := yiJ4_fixAfterDeletion) dJ4_fixAfterDeletion_171 rfl ?_
                refine m_invS (y := yiJ4_fixAfterDeletion) [(.ref x)] dJ4_fixAfterDeletion_172 q1797 q1798 q128 q1799 (c_J4_parentOf (some x) hF167 (OM.s (by assumption))) pdJ4_parentOf ⟨Nat.le_of_ble_eq_true rfl, by decide, by omega⟩ (kk_q fun r172 h172 q172 => ?_) kx_q
                obtain ⟨rfl, rfl⟩ := q172
                have om172 : OM L (ob pa (some x)) := OM.p hI (OM.s (by assumption))
                refine mw_topv (v' := .ref p) (congrArg va_rf (hp)) ?_
                refine m_invV (y := yiJ4_fixAfterDeletion) (rB := (RJ4, TJ4, 9)) [(.ref p)] dJ4_fixAfterDeletion_175 hF167.1 rfl q1812 q1814 qs26 q128 q1815 rfl (c_J4_rotateLeft (p := p) (r := s3) hF167 hI hpL hs3) pdJ4_rotateLeft ⟨Nat.le_of_ble_eq_true rfl, by decide, by omega⟩ (kk_v fun h175 q175 => ?_) kx_v
                obtain ⟨hU175, lfX175, rtX175, paX175, loX175, hiX175, roX175, hF175, hI175, hQ175, hR175⟩ := q175
                have hT175 := TFr.trans hT167 hU175
                have hk175 := KpS.rot hk hQ175 hs3 hpn.symm hm3.1 hm3.2.1
                refine mw_wf (fun hwf175 => ?_)
                obtain ⟨r9, hr9, hr9L⟩ := hI175.1.rootE hx
                refine m_aload_n (y := yiJ4_fixAfterDeletion) dJ4_fixAfterDeletion_178 rfl ?_
                refine m_getfS (y := yiJ4_fixAfterDeletion) kc_17 3 (by decide) dJ4_fixAfterDeletion_179 q240 hF175.1 rfl ?_
                refine mw_topv (v' := .ref r9) (congrArg va_rf (hr9)) ?_
                refine m_astore_n (y := yiJ4_fixAfterDeletion) dJ4_fixAfterDeletion_182 (by decide) rfl ?_
                show MW K yiJ4_fixAfterDeletion d h175 183 [some (.ref m), some (.ref r9), some (va_rf (ob rt (some p)))] [] Q
                refine m_goto (y := yiJ4_fixAfterDeletion) 0 dJ4_fixAfterDeletion_183 (by decide) ?_
                refine mw_forget 2 ?_
                exact ih0 _ (by omega) (r9) (lfX175) (rtX175) (paX175) ((usc (usc (usc co (ob rt (some p)) (oc co (some p))) (some p) 1) (ob rt (ob rt (some p))) 1)) (loX175) (hiX175) (roX175) (N0 - 1) _ rfl hr9L hF175 hI175 hT175 (fun r1 e => Or.inr (Option.some.inj (e.symm.trans hr9))) (Or.inl hr9) (KpS.up hk175 (by { have q1 := hI175.1.2.2.1 r9 hr9; have q2 := hI175.1.bd hx; omega }))
              · obtain ⟨l, hl⟩ := oc_n1 c79
                obtain ⟨s2, hs2, hls⟩ := ob_inv2 hl
                have hs2 : rt p = some s2 := hs2
                have hm9 := hI.1.lrn hpL hlx hs2
                have hl9 := hm9.2.2 l hls
                have hs2L := (hI.1.2.2.2.2.2.1 p s2 hpL hs2)
                refine m_aload_nq (y := yiJ4_fixAfterDeletion) dJ4_fixAfterDeletion_117 rfl ?_
                refine m_invS (y := yiJ4_fixAfterDeletion) [(va_rf (ob rt (some p)))] dJ4_fixAfterDeletion_118 q1800 q1801 q128 q1802 (c_J4_leftOf (ob rt (some p)) hF om31) pdJ4_leftOf ⟨Nat.le_of_ble_eq_true rfl, by decide, by omega⟩ (kk_q fun r118 h118 q118 => ?_) kx_q
                obtain ⟨rfl, rfl⟩ := q118
                have om118 : OM L (ob lf (ob rt (some p))) := OM.l hI om31
                refine j_iconst (y := yiJ4_fixAfterDeletion) dJ4_fixAfterDeletion_121 ?_
                refine m_invS (y := yiJ4_fixAfterDeletion) [(va_rf (ob lf (ob rt (some p)))), (vi 1)] dJ4_fixAfterDeletion_122 q1809 q1810 q128 q1811 (c_J4_setColor (ob lf (ob rt (some p))) 1 hF om118 (by omega)) pdJ4_setColor ⟨Nat.le_of_ble_eq_true rfl, by decide, by omega⟩ (kk_v fun h122 q122 => ?_) kx_v
                obtain ⟨hU122, hF122⟩ := q122
                have hT122 := TFr.trans hT hU122
                refine mw_wf (fun hwf122 => ?_)
                refine m_aload_nq (y := yiJ4_fixAfterDeletion) dJ4_fixAfterDeletion_125 rfl ?_
                refine j_iconst (y := yiJ4_fixAfterDeletion) dJ4_fixAfterDeletion_126 ?_
                refine m_invS (y := yiJ4_fixAfterDeletion) [(va_rf (ob rt (some p))), (vi 0)] dJ4_fixAfterDeletion_127 q1809 q1810 q128 q1811 (c_J4_setColor (ob rt (some p)) 0 hF122 om31 (by omega)) pdJ4_setColor ⟨Nat.le_of_ble_eq_true rfl, by decide, by omega⟩ (kk_v fun h127 q127 => ?_) kx_v
                obtain ⟨hU127, hF127⟩ := q127
                have hT127 := TFr.trans hT122 hU127
                refine mw_wf (fun hwf127 => ?_)
                refine m_aload_n (y := yiJ4_fixAfterDeletion) dJ4_fixAfterDeletion_130 rfl ?_
                refine m_aload_nq (y := yiJ4_fixAfterDeletion) dJ4_fixAfterDeletion_131 rfl ?_
                refine mw_topv (v' := .ref s2) (congrArg va_rf (hs2)) ?_
                refine m_invV (y := yiJ4_fixAfterDeletion) (rB := (RJ4, TJ4, 9)) [(.ref s2)] dJ4_fixAfterDeletion_132 hF127.1 rfl q1816 q1818 qs27 q128 q1819 rfl (c_J4_rotateRight (p := s2) (r := l) hF127 hI hs2L.1 hls) pdJ4_rotateRight ⟨Nat.le_of_ble_eq_true rfl, by decide, by omega⟩ (kk_v fun h132 q132 => ?_) kx_v
                obtain ⟨hU132, lfX132, rtX132, paX132, loX132, hiX132, roX132, hF132, hI132, hQ132, hR132⟩ := q132
                have hT132 := TFr.trans hT127 hU132
                have hxl132 : lfX132 p = some x := (hQ132.2.2.2.2.2.2.2.2.2 p hpL hl9.2.2 (fun h9 => hm9.1 (Option.some.inj (hlx.symm.trans h9)))).trans hlx
                have hxp132 := (hI132.1.2.2.2.2.1 p x hpL hxl132).2.1
                have hk132 := (KpS.rot (KpS.sw hk) hQ132 hls hm9.1 hl9.1 hl9.2.1).sw
                have hco132 : ∀ r0, roX132 = some r0 → (usc (usc co (ob lf (ob rt (some p))) 1) (ob rt (some p)) 0) r0 = 1 := fun r0 e => by { rw [hR132, roR_n hs2L.2.1] at e; exact usc_0 (fun h9 => hI.1.nopr hpL h9 e) (usc_1 (hco1 r0 e)) }
                refine mw_wf (fun hwf132 => ?_)
                refine m_aload_n (y := yiJ4_fixAfterDeletion) dJ4_fixAfterDeletion_135 rfl ?_
                refine m_invS (y := yiJ4_fixAfterDeletion) [(.ref x)] dJ4_fixAfterDeletion_136 q1797 q1798 q128 q1799 (c_J4_parentOf (some x) hF132 (OM.s (by assumption))) pdJ4_parentOf ⟨Nat.le_of_ble_eq_true rfl, by decide, by omega⟩ (kk_q fun r136 h136 q136 => ?_) kx_q
                obtain ⟨rfl, rfl⟩ := q136
                have om136 : OM L (ob paX132 (some x)) := OM.p hI132 (OM.s (by assumption))
                refine mw_topv (v' := .ref p) (congrArg va_rf (hxp132)) ?_
                refine m_invS (y := yiJ4_fixAfterDeletion) [(.ref p)] dJ4_fixAfterDeletion_139 q1803 q1804 q128 q1805 (c_J4_rightOf (some p) hF132 (OM.s (by assumption))) pdJ4_rightOf ⟨Nat.le_of_ble_eq_true rfl, by decide, by omega⟩ (kk_q fun r139 h139 q139 => ?_) kx_q
                obtain ⟨rfl, rfl⟩ := q139
                have om139 : OM L (ob rtX132 (some p)) := OM.r hI132 (OM.s (by assumption))
                refine m_astore_nq (y := yiJ4_fixAfterDeletion) dJ4_fixAfterDeletion_142 (by decide) rfl ?_
                show MW K yiJ4_fixAfterDeletion d h132 143 [some (.ref m), some (.ref x), some (va_rf (ob rtX132 (some p)))] [] Q
                obtain ⟨s3, hs3⟩ : ∃ s3, rtX132 p = some s3 := (⟨l, hQ132.2.2.2.2.2.1 p hpL hs2⟩)
                have hm3 := hI132.1.lrn hpL hxl132 hs3
                refine m_aload_nq (y := yiJ4_fixAfterDeletion) dJ4_fixAfterDeletion_143 rfl ?_
                refine m_aload_n (y := yiJ4_fixAfterDeletion) dJ4_fixAfterDeletion_144 rfl ?_
                refine m_invS (y := yiJ4_fixAfterDeletion) [(.ref x)] dJ4_fixAfterDeletion_145 q1797 q1798 q128 q1799 (c_J4_parentOf (some x) hF132 (OM.s (by assumption))) pdJ4_parentOf ⟨by simp only [List.map_cons, va_rf_1]; exact Nat.le_of_ble_eq_true rfl, by decide, by omega⟩ (kk_q fun r145 h145 q145 => ?_) kx_q
                obtain ⟨rfl, rfl⟩ := q145
                have om145 : OM L (ob paX132 (some x)) := OM.p hI132 (OM.s (by assumption))
                refine mw_topv (v' := .ref p) (congrArg va_rf (hxp132)) ?_
                refine m_invS (y := yiJ4_fixAfterDeletion) [(.ref p)] dJ4_fixAfterDeletion_148 q1806 q1807 q128 q1808 (c_J4_colorOf (some p) hF132 (OM.s (by assumption))) pdJ4_colorOf ⟨by simp only [List.map_cons, va_rf_1]; exact Nat.le_of_ble_eq_true rfl, by decide, by omega⟩ (kk_z fun r148 h148 q148 => ?_) kx_z
                obtain ⟨rfl, rfl⟩ := q148
                have oc148 := TmF.oc01 (q := (some p)) hF132 (OM.s (by assumption))
                refine mw_top (x' := oc (usc (usc co (ob lf (ob rt (some p))) 1) (ob rt (some p)) 0) (some p)) rfl ?_
                refine m_invS (y := yiJ4_fixAfterDeletion) [(va_rf (ob rtX132 (some p))), (vi (oc (usc (usc co (ob lf (ob rt (some p))) 1) (ob rt (some p)) 0) (some p)))] dJ4_fixAfterDeletion_151 q1809 q1810 q128 q1811 (c_J4_setColor (ob rtX132 (some p)) (oc (usc (usc co (ob lf (ob rt (some p))) 1) (ob rt (some p)) 0) (some p)) hF132 om139 (by omega)) pdJ4_setColor ⟨Nat.le_of_ble_eq_true rfl, by decide, by omega⟩ (kk_v fun h151 q151 => ?_) kx_v
                obtain ⟨hU151, hF151⟩ := q151
                have hT151 := TFr.trans hT132 hU151
                refine mw_wf (fun hwf151 => ?_)
                refine m_aload_n (y := yiJ4_fixAfterDeletion) dJ4_fixAfterDeletion_154 rfl ?_
                refine m_invS (y := yiJ4_fixAfterDeletion) [(.ref x)] dJ4_fixAfterDeletion_155 q1797 q1798 q128 q1799 (c_J4_parentOf (some x) hF151 (OM.s (by assumption))) pdJ4_parentOf ⟨Nat.le_of_ble_eq_true rfl, by decide, by omega⟩ (kk_q fun r155 h155 q155 => ?_) kx_q
                obtain ⟨rfl, rfl⟩ := q155
                have om155 : OM L (ob paX132 (some x)) := OM.p hI132 (OM.s (by assumption))
                refine mw_topv (v' := .ref p) (congrArg va_rf (hxp132)) ?_
                refine j_iconst (y := yiJ4_fixAfterDeletion) dJ4_fixAfterDeletion_158 ?_
                refine m_invS (y := yiJ4_fixAfterDeletion) [(.ref p), (vi 1)] dJ4_fixAfterDeletion_159 q1809 q1810 q128 q1811 (c_J4_setColor (some p) 1 hF151 (OM.s (by assumption)) (by omega)) pdJ4_setColor ⟨Nat.le_of_ble_eq_true rfl, by decide, by omega⟩ (kk_v fun h159 q159 => ?_) kx_v
                obtain ⟨hU159, hF159⟩ := q159
                have hT159 := TFr.trans hT151 hU159
                refine mw_wf (fun hwf159 => ?_)
                refine m_aload_nq (y := yiJ4_fixAfterDeletion) dJ4_fixAfterDeletion_162 rfl ?_
                refine m_invS (y := yiJ4_fixAfterDeletion) [(va_rf (ob rtX132 (some p)))] dJ4_fixAfterDeletion_163 q1803 q1804 q128 q1805 (c_J4_rightOf (ob rtX132 (some p)) hF159 om139) pdJ4_rightOf ⟨Nat.le_of_ble_eq_true rfl, by decide, by omega⟩ (kk_q fun r163 h163 q163 => ?_) kx_q
                obtain ⟨rfl, rfl⟩ := q163
                have om163 : OM L (ob rtX132 (ob rtX132 (some p))) := OM.r hI132 om139
                refine j_iconst (y := yiJ4_fixAfterDeletion) dJ4_fixAfterDeletion_166 ?_
                refine m_invS (y := yiJ4_fixAfterDeletion) [(va_rf (ob rtX132 (ob rtX132 (some p)))), (vi 1)] dJ4_fixAfterDeletion_167 q1809 q1810 q128 q1811 (c_J4_setColor (ob rtX132 (ob rtX132 (some p))) 1 hF159 om163 (by omega)) pdJ4_setColor ⟨Nat.le_of_ble_eq_true rfl, by decide, by omega⟩ (kk_v fun h167 q167 => ?_) kx_v
                obtain ⟨hU167, hF167⟩ := q167
                have hT167 := TFr.trans hT159 hU167
                refine mw_wf (fun hwf167 => ?_)
                refine m_aload_n (y := yiJ4_fixAfterDeletion) dJ4_fixAfterDeletion_170 rfl ?_
                refine m_aload_n (y := yiJ4_fixAfterDeletion) dJ4_fixAfterDeletion_171 rfl ?_
                refine m_invS (y := yiJ4_fixAfterDeletion) [(.ref x)] dJ4_fixAfterDeletion_172 q1797 q1798 q128 q1799 (c_J4_parentOf (some x) hF167 (OM.s (by assumption))) pdJ4_parentOf ⟨Nat.le_of_ble_eq_true rfl, by decide, by omega⟩ (kk_q fun r172 h172 q172 => ?_) kx_q
                obtain ⟨rfl, rfl⟩ := q172
                have om172 : OM L (ob paX132 (some x)) := OM.p hI132 (OM.s (by assumption))
                refine mw_topv (v' := .ref p) (congrArg va_rf (hxp132)) ?_
                refine m_invV (y := yiJ4_fixAfterDeletion) (rB := (RJ4, TJ4, 9)) [(.ref p)] dJ4_fixAfterDeletion_175 hF167.1 rfl q1812 q1814 qs26 q128 q1815 rfl (c_J4_rotateLeft (p := p) (r := s3) hF167 hI132 hpL hs3) pdJ4_rotateLeft ⟨Nat.le_of_ble_eq_true rfl, by decide, by omega⟩ (kk_v fun h175 q175 => ?_) kx_v
                obtain ⟨hU175, lfX175, rtX175, paX175, loX175, hiX175, roX175, hF175, hI175, hQ175, hR175⟩ := q175
                have hT175 := TFr.trans hT167 hU175
                have hk175 := KpS.rot hk132 hQ175 hs3 hpn.symm hm3.1 hm3.2.1
                refine mw_wf (fun hwf175 => ?_)
                obtain ⟨r9, hr9, hr9L⟩ := hI175.1.rootE hx
                refine m_aload_n (y := yiJ4_fixAfterDeletion) dJ4_fixAfterDeletion_178 rfl ?_
                refine m_getfS (y := yiJ4_fixAfterDeletion) kc_17 3 (by decide) dJ4_fixAfterDeletion_179 q240 hF175.1 rfl ?_
                refine mw_topv (v' := .ref r9) (congrArg va_rf (hr9)) ?_
                refine m_astore_n (y := yiJ4_fixAfterDeletion) dJ4_fixAfterDeletion_182 (by decide) rfl ?_
                show MW K yiJ4_fixAfterDeletion d h175 183 [some (.ref m), some (.ref r9), some (va_rf (ob rtX132 (some p)))] [] Q
                refine m_goto (y := yiJ4_fixAfterDeletion) 0 dJ4_fixAfterDeletion_183 (by decide) ?_
                refine mw_forget 2 ?_
                exact ih0 _ (by omega) (r9) (lfX175) (rtX175) (paX175) ((usc (usc (usc (usc (usc co (ob lf (ob rt (some p))) 1) (ob rt (some p)) 0) (ob rtX132 (some p)) (oc (usc (usc co (ob lf (ob rt (some p))) 1) (ob rt (some p)) 0) (some p))) (some p) 1) (ob rtX132 (ob rtX132 (some p))) 1)) (loX175) (hiX175) (roX175) (N0 - 1) _ rfl hr9L hF175 hI175 hT175 (fun r1 e => Or.inr (Option.some.inj (e.symm.trans hr9))) (Or.inl hr9) (KpS.up hk175 (by { have q1 := hI175.1.2.2.1 r9 hr9; have q2 := hI175.1.bd hx; omega }))
            · refine m_aload_nq (y := yiJ4_fixAfterDeletion) dJ4_fixAfterDeletion_82 rfl ?_
              refine m_invS (y := yiJ4_fixAfterDeletion) [(va_rf (ob rt (some p)))] dJ4_fixAfterDeletion_83 q1803 q1804 q128 q1805 (c_J4_rightOf (ob rt (some p)) hF om31) pdJ4_rightOf ⟨Nat.le_of_ble_eq_true rfl, by decide, by omega⟩ (kk_q fun r83 h83 q83 => ?_) kx_q
              obtain ⟨rfl, rfl⟩ := q83
              have om83 : OM L (ob rt (ob rt (some p))) := OM.r hI om31
              refine m_invS (y := yiJ4_fixAfterDeletion) [(va_rf (ob rt (ob rt (some p))))] dJ4_fixAfterDeletion_86 q1806 q1807 q128 q1808 (c_J4_colorOf (ob rt (ob rt (some p))) hF om83) pdJ4_colorOf ⟨Nat.le_of_ble_eq_true rfl, by decide, by omega⟩ (kk_z fun r86 h86 q86 => ?_) kx_z
              obtain ⟨rfl, rfl⟩ := q86
              have oc86 := TmF.oc01 (q := (ob rt (ob rt (some p)))) hF om83
              refine mw_top (x' := oc co (ob rt (ob rt (some p)))) rfl ?_
              refine j_iconst (y := yiJ4_fixAfterDeletion) dJ4_fixAfterDeletion_89 ?_
              refine j_icmp_ne (y := yiJ4_fixAfterDeletion) 106 dJ4_fixAfterDeletion_90 (by decide) ⟨⟨by omega, by omega⟩, ⟨by omega, by omega⟩⟩ (fun c90 => ?_) (fun c90 => ?_)
              · refine m_aload_nq (y := yiJ4_fixAfterDeletion) dJ4_fixAfterDeletion_106 rfl ?_
                refine m_invS (y := yiJ4_fixAfterDeletion) [(va_rf (ob rt (some p)))] dJ4_fixAfterDeletion_107 q1803 q1804 q128 q1805 (c_J4_rightOf (ob rt (some p)) hF om31) pdJ4_rightOf ⟨Nat.le_of_ble_eq_true rfl, by decide, by omega⟩ (kk_q fun r107 h107 q107 => ?_) kx_q
                obtain ⟨rfl, rfl⟩ := q107
                have om107 : OM L (ob rt (ob rt (some p))) := OM.r hI om31
                refine m_invS (y := yiJ4_fixAfterDeletion) [(va_rf (ob rt (ob rt (some p))))] dJ4_fixAfterDeletion_110 q1806 q1807 q128 q1808 (c_J4_colorOf (ob rt (ob rt (some p))) hF om107) pdJ4_colorOf ⟨Nat.le_of_ble_eq_true rfl, by decide, by omega⟩ (kk_z fun r110 h110 q110 => ?_) kx_z
                obtain ⟨rfl, rfl⟩ := q110
                have oc110 := TmF.oc01 (q := (ob rt (ob rt (some p)))) hF om107
                refine mw_top (x' := oc co (ob rt (ob rt (some p)))) rfl ?_
                refine j_iconst (y := yiJ4_fixAfterDeletion) dJ4_fixAfterDeletion_113 ?_
                refine j_icmp_ne (y := yiJ4_fixAfterDeletion) 143 dJ4_fixAfterDeletion_114 (by decide) ⟨⟨by omega, by omega⟩, ⟨by omega, by omega⟩⟩ (fun c114 => ?_) (fun c114 => False.elim (by omega))
                obtain ⟨s3, hs3⟩ : ∃ s3, rt p = some s3 := (by { obtain ⟨a9, e9⟩ := oc_n1 c114; obtain ⟨b9, e8, e7⟩ := ob_inv2 e9; exact ⟨b9, e8⟩ })
                have hm3 := hI.1.lrn hpL hlx hs3
                refine m_aload_nq (y := yiJ4_fixAfterDeletion) dJ4_fixAfterDeletion_143 rfl ?_
                refine m_aload_n (y := yiJ4_fixAfterDeletion) dJ4_fixAfterDeletion_144 rfl ?_
                refine m_invS (y := yiJ4_fixAfterDeletion) [(.ref x)] dJ4_fixAfterDeletion_145 q1797 q1798 q128 q1799 (c_J4_parentOf (some x) hF (OM.s (by assumption))) pdJ4_parentOf ⟨by simp only [List.map_cons, va_rf_1]; exact Nat.le_of_ble_eq_true rfl, by decide, by omega⟩ (kk_q fun r145 h145 q145 => ?_) kx_q
                obtain ⟨rfl, rfl⟩ := q145
                have om145 : OM L (ob pa (some x)) := OM.p hI (OM.s (by assumption))
                refine mw_topv (v' := .ref p) (congrArg va_rf (hp)) ?_
                refine m_invS (y := yiJ4_fixAfterDeletion) [(.ref p)] dJ4_fixAfterDeletion_148 q1806 q1807 q128 q1808 (c_J4_colorOf (some p) hF (OM.s (by assumption))) pdJ4_colorOf ⟨by simp only [List.map_cons, va_rf_1]; exact Nat.le_of_ble_eq_true rfl, by decide, by omega⟩ (kk_z fun r148 h148 q148 => ?_) kx_z
                obtain ⟨rfl, rfl⟩ := q148
                have oc148 := TmF.oc01 (q := (some p)) hF (OM.s (by assumption))
                refine mw_top (x' := oc co (some p)) rfl ?_
                refine m_invS (y := yiJ4_fixAfterDeletion) [(va_rf (ob rt (some p))), (vi (oc co (some p)))] dJ4_fixAfterDeletion_151 q1809 q1810 q128 q1811 (c_J4_setColor (ob rt (some p)) (oc co (some p)) hF om31 (by omega)) pdJ4_setColor ⟨Nat.le_of_ble_eq_true rfl, by decide, by omega⟩ (kk_v fun h151 q151 => ?_) kx_v
                obtain ⟨hU151, hF151⟩ := q151
                have hT151 := TFr.trans hT hU151
                refine mw_wf (fun hwf151 => ?_)
                refine m_aload_n (y := yiJ4_fixAfterDeletion) dJ4_fixAfterDeletion_154 rfl ?_
                refine m_invS (y := yiJ4_fixAfterDeletion) [(.ref x)] dJ4_fixAfterDeletion_155 q1797 q1798 q128 q1799 (c_J4_parentOf (some x) hF151 (OM.s (by assumption))) pdJ4_parentOf ⟨Nat.le_of_ble_eq_true rfl, by decide, by omega⟩ (kk_q fun r155 h155 q155 => ?_) kx_q
                obtain ⟨rfl, rfl⟩ := q155
                have om155 : OM L (ob pa (some x)) := OM.p hI (OM.s (by assumption))
                refine mw_topv (v' := .ref p) (congrArg va_rf (hp)) ?_
                refine j_iconst (y := yiJ4_fixAfterDeletion) dJ4_fixAfterDeletion_158 ?_
                refine m_invS (y := yiJ4_fixAfterDeletion) [(.ref p), (vi 1)] dJ4_fixAfterDeletion_159 q1809 q1810 q128 q1811 (c_J4_setColor (some p) 1 hF151 (OM.s (by assumption)) (by omega)) pdJ4_setColor ⟨Nat.le_of_ble_eq_true rfl, by decide, by omega⟩ (kk_v fun h159 q159 => ?_) kx_v
                obtain ⟨hU159, hF159⟩ := q159
                have hT159 := TFr.trans hT151 hU159
                refine mw_wf (fun hwf159 => ?_)
                refine m_aload_nq (y := yiJ4_fixAfterDeletion) dJ4_fixAfterDeletion_162 rfl ?_
                refine m_invS (y := yiJ4_fixAfterDeletion) [(va_rf (ob rt (some p)))] dJ4_fixAfterDeletion_163 q1803 q1804 q128 q1805 (c_J4_rightOf (ob rt (some p)) hF159 om31) pdJ4_rightOf ⟨Nat.le_of_ble_eq_true rfl, by decide, by omega⟩ (kk_q fun r163 h163 q163 => ?_) kx_q
                obtain ⟨rfl, rfl⟩ := q163
                have om163 : OM L (ob rt (ob rt (some p))) := OM.r hI om31
                refine j_iconst (y := yiJ4_fixAfterDeletion) dJ4_fixAfterDeletion_166 ?_
                refine m_invS (y := yiJ4_fixAfterDeletion) [(va_rf (ob rt (ob rt (some p)))), (vi 1)] dJ4_fixAfterDeletion_167 q1809 q1810 q128 q1811 (c_J4_setColor (ob rt (ob rt (some p))) 1 hF159 om163 (by omega)) pdJ4_setColor ⟨Nat.le_of_ble_eq_true rfl, by decide, by omega⟩ (kk_v fun h167 q167 => ?_) kx_v
                obtain ⟨hU167, hF167⟩ := q167
                have hT167 := TFr.trans hT159 hU167
                refine mw_wf (fun hwf167 => ?_)
                refine m_aload_n (y := yiJ4_fixAfterDeletion) dJ4_fixAfterDeletion_170 rfl ?_
                refine m_aload_n (y := yiJ4_fixAfterDeletion) dJ4_fixAfterDeletion_171 rfl ?_
                refine m_invS (y := yiJ4_fixAfterDeletion) [(.ref x)] dJ4_fixAfterDeletion_172 q1797 q1798 q128 q1799 (c_J4_parentOf (some x) hF167 (OM.s (by assumption))) pdJ4_parentOf ⟨Nat.le_of_ble_eq_true rfl, by decide, by omega⟩ (kk_q fun r172 h172 q172 => ?_) kx_q
                obtain ⟨rfl, rfl⟩ := q172
                have om172 : OM L (ob pa (some x)) := OM.p hI (OM.s (by assumption))
                refine mw_topv (v' := .ref p) (congrArg va_rf (hp)) ?_
                refine m_invV (y := yiJ4_fixAfterDeletion) (rB := (RJ4, TJ4, 9)) [(.ref p)] dJ4_fixAfterDeletion_175 hF167.1 rfl q1812 q1814 qs26 q128 q1815 rfl (c_J4_rotateLeft (p := p) (r := s3) hF167 hI hpL hs3) pdJ4_rotateLeft ⟨Nat.le_of_ble_eq_true rfl, by decide, by omega⟩ (kk_v fun h175 q175 => ?_) kx_v
                obtain ⟨hU175, lfX175, rtX175, paX175, loX175, hiX175, roX175, hF175, hI175, hQ175, hR175⟩ := q175
                have hT175 := TFr.trans hT167 hU175
                have hk175 := KpS.rot hk hQ175 hs3 hpn.symm hm3.1 hm3.2.1
                refine mw_wf (fun hwf175 => ?_)
                obtain ⟨r9, hr9, hr9L⟩ := hI175.1.rootE hx
                refine m_aload_n (y := yiJ4_fixAfterDeletion) dJ4_fixAfterDeletion_178 rfl ?_
                refine m_getfS (y := yiJ4_fixAfterDeletion) kc_17 3 (by decide) dJ4_fixAfterDeletion_179 q240 hF175.1 rfl ?_
                refine mw_topv (v' := .ref r9) (congrArg va_rf (hr9)) ?_
                refine m_astore_n (y := yiJ4_fixAfterDeletion) dJ4_fixAfterDeletion_182 (by decide) rfl ?_
                show MW K yiJ4_fixAfterDeletion d h175 183 [some (.ref m), some (.ref r9), some (va_rf (ob rt (some p)))] [] Q
                refine m_goto (y := yiJ4_fixAfterDeletion) 0 dJ4_fixAfterDeletion_183 (by decide) ?_
                refine mw_forget 2 ?_
                exact ih0 _ (by omega) (r9) (lfX175) (rtX175) (paX175) ((usc (usc (usc co (ob rt (some p)) (oc co (some p))) (some p) 1) (ob rt (ob rt (some p))) 1)) (loX175) (hiX175) (roX175) (N0 - 1) _ rfl hr9L hF175 hI175 hT175 (fun r1 e => Or.inr (Option.some.inj (e.symm.trans hr9))) (Or.inl hr9) (KpS.up hk175 (by { have q1 := hI175.1.2.2.1 r9 hr9; have q2 := hI175.1.bd hx; omega }))
              · refine m_aload_nq (y := yiJ4_fixAfterDeletion) dJ4_fixAfterDeletion_93 rfl ?_
                refine j_iconst (y := yiJ4_fixAfterDeletion) dJ4_fixAfterDeletion_94 ?_
                refine m_invS (y := yiJ4_fixAfterDeletion) [(va_rf (ob rt (some p))), (vi 0)] dJ4_fixAfterDeletion_95 q1809 q1810 q128 q1811 (c_J4_setColor (ob rt (some p)) 0 hF om31 (by omega)) pdJ4_setColor ⟨Nat.le_of_ble_eq_true rfl, by decide, by omega⟩ (kk_v fun h95 q95 => ?_) kx_v
                obtain ⟨hU95, hF95⟩ := q95
                have hT95 := TFr.trans hT hU95
                refine mw_wf (fun hwf95 => ?_)
                refine m_aload_n (y := yiJ4_fixAfterDeletion) dJ4_fixAfterDeletion_98 rfl ?_
                refine m_invS (y := yiJ4_fixAfterDeletion) [(.ref x)] dJ4_fixAfterDeletion_99 q1797 q1798 q128 q1799 (c_J4_parentOf (some x) hF95 (OM.s (by assumption))) pdJ4_parentOf ⟨Nat.le_of_ble_eq_true rfl, by decide, by omega⟩ (kk_q fun r99 h99 q99 => ?_) kx_q
                obtain ⟨rfl, rfl⟩ := q99
                have om99 : OM L (ob pa (some x)) := OM.p hI (OM.s (by assumption))
                refine mw_topv (v' := .ref p) (congrArg va_rf (hp)) ?_
                refine m_astore_n (y := yiJ4_fixAfterDeletion) dJ4_fixAfterDeletion_102 (by decide) rfl ?_
                show MW K yiJ4_fixAfterDeletion d h95 103 [some (.ref m), some (.ref p), some (va_rf (ob rt (some p)))] [] Q
                refine m_goto (y := yiJ4_fixAfterDeletion) 183 dJ4_fixAfterDeletion_103 (by decide) ?_
                refine m_goto (y := yiJ4_fixAfterDeletion) 0 dJ4_fixAfterDeletion_183 (by decide) ?_
                refine mw_forget 2 ?_
                exact ih0 _ (by omega) (p) (lf) (rt) (pa) ((usc co (ob rt (some p)) 0)) (lo) (hi) (root) (N0 - 1) _ rfl hpL hF95 hI hT95 (fun r0 e => Or.inl (usc_0 (fun h9 => hI.1.nopr hpL h9 e) (hco1 r0 e))) (Or.inr (Or.inr (by { have q1 := ((hm.resolve_left (fun h9 => c5 h9.symm)).resolve_left (fun h9 => h9 c13)); have q2 := hI.1.grow hx hp; have q3 := hI.1.bd hpL; omega }))) (KpS.up hk (hI.1.grow hx hp).2)
          · obtain ⟨s, hs, hcs⟩ := oc_red c39
            have hsL := om31 s hs
            have hs : rt p = some s := hs
            have hn9 := hI.1.lrn hpL hlx hs
            have hps : s ≠ p := fun e => by { subst e; exact hI.1.nsr hpL hs }
            refine m_aload_nq (y := yiJ4_fixAfterDeletion) dJ4_fixAfterDeletion_42 rfl ?_
            refine j_iconst (y := yiJ4_fixAfterDeletion) dJ4_fixAfterDeletion_43 ?_
            refine m_invS (y := yiJ4_fixAfterDeletion) [(va_rf (ob rt (some p))), (vi 1)] dJ4_fixAfterDeletion_44 q1809 q1810 q128 q1811 (c_J4_setColor (ob rt (some p)) 1 hF om31 (by omega)) pdJ4_setColor ⟨Nat.le_of_ble_eq_true rfl, by decide, by omega⟩ (kk_v fun h44 q44 => ?_) kx_v
            obtain ⟨hU44, hF44⟩ := q44
            have hT44 := TFr.trans hT hU44
            refine mw_wf (fun hwf44 => ?_)
            refine m_aload_n (y := yiJ4_fixAfterDeletion) dJ4_fixAfterDeletion_47 rfl ?_
            refine m_invS (y := yiJ4_fixAfterDeletion) [(.ref x)] dJ4_fixAfterDeletion_48 q1797 q1798 q128 q1799 (c_J4_parentOf (some x) hF44 (OM.s (by assumption))) pdJ4_parentOf ⟨Nat.le_of_ble_eq_true rfl, by decide, by omega⟩ (kk_q fun r48 h48 q48 => ?_) kx_q
            obtain ⟨rfl, rfl⟩ := q48
            have om48 : OM L (ob pa (some x)) := OM.p hI (OM.s (by assumption))
            refine mw_topv (v' := .ref p) (congrArg va_rf (hp)) ?_
            refine j_iconst (y := yiJ4_fixAfterDeletion) dJ4_fixAfterDeletion_51 ?_
            refine m_invS (y := yiJ4_fixAfterDeletion) [(.ref p), (vi 0)] dJ4_fixAfterDeletion_52 q1809 q1810 q128 q1811 (c_J4_setColor (some p) 0 hF44 (OM.s (by assumption)) (by omega)) pdJ4_setColor ⟨Nat.le_of_ble_eq_true rfl, by decide, by omega⟩ (kk_v fun h52 q52 => ?_) kx_v
            obtain ⟨hU52, hF52⟩ := q52
            have hT52 := TFr.trans hT44 hU52
            refine mw_wf (fun hwf52 => ?_)
            refine m_aload_n (y := yiJ4_fixAfterDeletion) dJ4_fixAfterDeletion_55 rfl ?_
            refine m_aload_n (y := yiJ4_fixAfterDeletion) dJ4_fixAfterDeletion_56 rfl ?_
            refine m_invS (y := yiJ4_fixAfterDeletion) [(.ref x)] dJ4_fixAfterDeletion_57 q1797 q1798 q128 q1799 (c_J4_parentOf (some x) hF52 (OM.s (by assumption))) pdJ4_parentOf ⟨Nat.le_of_ble_eq_true rfl, by decide, by omega⟩ (kk_q fun r57 h57 q57 => ?_) kx_q
            obtain ⟨rfl, rfl⟩ := q57
            have om57 : OM L (ob pa (some x)) := OM.p hI (OM.s (by assumption))
            refine mw_topv (v' := .ref p) (congrArg va_rf (hp)) ?_
            refine m_invV (y := yiJ4_fixAfterDeletion) (rB := (RJ4, TJ4, 9)) [(.ref p)] dJ4_fixAfterDeletion_60 hF52.1 rfl q1812 q1814 qs26 q128 q1815 rfl (c_J4_rotateLeft (p := p) (r := s) hF52 hI hpL hs) pdJ4_rotateLeft ⟨Nat.le_of_ble_eq_true rfl, by decide, by omega⟩ (kk_v fun h60 q60 => ?_) kx_v
            obtain ⟨hU60, lfX60, rtX60, paX60, loX60, hiX60, roX60, hF60, hI60, hQ60, hR60⟩ := q60
            have hT60 := TFr.trans hT52 hU60
            have hxl60 : lfX60 p = some x := hQ60.2.2.1.trans hlx
            have hxp60 := (hI60.1.2.2.2.2.1 p x hpL hxl60).2.1
            have hk60 := KpS.rot hk hQ60 hs hpn.symm hn9.1 hn9.2.1
            have hco60 : ∀ r0, roX60 = some r0 → usc (usc co (ob rt (some p)) 1) (some p) 0 r0 = 1 := fun r0 e => by { rw [show ob rt (some p) = some s from hs]; exact fixB hI hco1 hps r0 (by rw [hR60] at e; exact e) }
            refine mw_wf (fun hwf60 => ?_)
            refine m_aload_n (y := yiJ4_fixAfterDeletion) dJ4_fixAfterDeletion_63 rfl ?_
            refine m_invS (y := yiJ4_fixAfterDeletion) [(.ref x)] dJ4_fixAfterDeletion_64 q1797 q1798 q128 q1799 (c_J4_parentOf (some x) hF60 (OM.s (by assumption))) pdJ4_parentOf ⟨Nat.le_of_ble_eq_true rfl, by decide, by omega⟩ (kk_q fun r64 h64 q64 => ?_) kx_q
            obtain ⟨rfl, rfl⟩ := q64
            have om64 : OM L (ob paX60 (some x)) := OM.p hI60 (OM.s (by assumption))
            refine mw_topv (v' := .ref p) (congrArg va_rf (hxp60)) ?_
            refine m_invS (y := yiJ4_fixAfterDeletion) [(.ref p)] dJ4_fixAfterDeletion_67 q1803 q1804 q128 q1805 (c_J4_rightOf (some p) hF60 (OM.s (by assumption))) pdJ4_rightOf ⟨Nat.le_of_ble_eq_true rfl, by decide, by omega⟩ (kk_q fun r67 h67 q67 => ?_) kx_q
            obtain ⟨rfl, rfl⟩ := q67
            have om67 : OM L (ob rtX60 (some p)) := OM.r hI60 (OM.s (by assumption))
            refine m_astore_nq (y := yiJ4_fixAfterDeletion) dJ4_fixAfterDeletion_70 (by decide) rfl ?_
            show MW K yiJ4_fixAfterDeletion d h60 71 [some (.ref m), some (.ref x), some (va_rf (ob rtX60 (some p)))] [] Q
            refine m_aload_nq (y := yiJ4_fixAfterDeletion) dJ4_fixAfterDeletion_71 rfl ?_
            refine m_invS (y := yiJ4_fixAfterDeletion) [(va_rf (ob rtX60 (some p)))] dJ4_fixAfterDeletion_72 q1800 q1801 q128 q1802 (c_J4_leftOf (ob rtX60 (some p)) hF60 om67) pdJ4_leftOf ⟨Nat.le_of_ble_eq_true rfl, by decide, by omega⟩ (kk_q fun r72 h72 q72 => ?_) kx_q
            obtain ⟨rfl, rfl⟩ := q72
            have om72 : OM L (ob lfX60 (ob rtX60 (some p))) := OM.l hI60 om67
            refine m_invS (y := yiJ4_fixAfterDeletion) [(va_rf (ob lfX60 (ob rtX60 (some p))))] dJ4_fixAfterDeletion_75 q1806 q1807 q128 q1808 (c_J4_colorOf (ob lfX60 (ob rtX60 (some p))) hF60 om72) pdJ4_colorOf ⟨Nat.le_of_ble_eq_true rfl, by decide, by omega⟩ (kk_z fun r75 h75 q75 => ?_) kx_z
            obtain ⟨rfl, rfl⟩ := q75
            have oc75 := TmF.oc01 (q := (ob lfX60 (ob rtX60 (some p)))) hF60 om72
            refine mw_top (x' := oc (usc (usc co (ob rt (some p)) 1) (some p) 0) (ob lfX60 (ob rtX60 (some p)))) rfl ?_
            refine j_iconst (y := yiJ4_fixAfterDeletion) dJ4_fixAfterDeletion_78 ?_
            refine j_icmp_ne (y := yiJ4_fixAfterDeletion) 106 dJ4_fixAfterDeletion_79 (by decide) ⟨⟨by omega, by omega⟩, ⟨by omega, by omega⟩⟩ (fun c79 => ?_) (fun c79 => ?_)
            · refine m_aload_nq (y := yiJ4_fixAfterDeletion) dJ4_fixAfterDeletion_106 rfl ?_
              refine m_invS (y := yiJ4_fixAfterDeletion) [(va_rf (ob rtX60 (some p)))] dJ4_fixAfterDeletion_107 q1803 q1804 q128 q1805 (c_J4_rightOf (ob rtX60 (some p)) hF60 om67) pdJ4_rightOf ⟨Nat.le_of_ble_eq_true rfl, by decide, by omega⟩ (kk_q fun r107 h107 q107 => ?_) kx_q
              obtain ⟨rfl, rfl⟩ := q107
              have om107 : OM L (ob rtX60 (ob rtX60 (some p))) := OM.r hI60 om67
              refine m_invS (y := yiJ4_fixAfterDeletion) [(va_rf (ob rtX60 (ob rtX60 (some p))))] dJ4_fixAfterDeletion_110 q1806 q1807 q128 q1808 (c_J4_colorOf (ob rtX60 (ob rtX60 (some p))) hF60 om107) pdJ4_colorOf ⟨Nat.le_of_ble_eq_true rfl, by decide, by omega⟩ (kk_z fun r110 h110 q110 => ?_) kx_z
              obtain ⟨rfl, rfl⟩ := q110
              have oc110 := TmF.oc01 (q := (ob rtX60 (ob rtX60 (some p)))) hF60 om107
              refine mw_top (x' := oc (usc (usc co (ob rt (some p)) 1) (some p) 0) (ob rtX60 (ob rtX60 (some p)))) rfl ?_
              refine j_iconst (y := yiJ4_fixAfterDeletion) dJ4_fixAfterDeletion_113 ?_
              refine j_icmp_ne (y := yiJ4_fixAfterDeletion) 143 dJ4_fixAfterDeletion_114 (by decide) ⟨⟨by omega, by omega⟩, ⟨by omega, by omega⟩⟩ (fun c114 => ?_) (fun c114 => ?_)
              · obtain ⟨s3, hs3⟩ : ∃ s3, rtX60 p = some s3 := (by { obtain ⟨a9, e9⟩ := oc_n1 c114; obtain ⟨b9, e8, e7⟩ := ob_inv2 e9; exact ⟨b9, e8⟩ })
                have hm3 := hI60.1.lrn hpL hxl60 hs3
                refine m_aload_nq (y := yiJ4_fixAfterDeletion) dJ4_fixAfterDeletion_143 rfl ?_
                refine m_aload_n (y := yiJ4_fixAfterDeletion) dJ4_fixAfterDeletion_144 rfl ?_
                refine m_invS (y := yiJ4_fixAfterDeletion) [(.ref x)] dJ4_fixAfterDeletion_145 q1797 q1798 q128 q1799 (c_J4_parentOf (some x) hF60 (OM.s (by assumption))) pdJ4_parentOf ⟨by simp only [List.map_cons, va_rf_1]; exact Nat.le_of_ble_eq_true rfl, by decide, by omega⟩ (kk_q fun r145 h145 q145 => ?_) kx_q
                obtain ⟨rfl, rfl⟩ := q145
                have om145 : OM L (ob paX60 (some x)) := OM.p hI60 (OM.s (by assumption))
                refine mw_topv (v' := .ref p) (congrArg va_rf (hxp60)) ?_
                refine m_invS (y := yiJ4_fixAfterDeletion) [(.ref p)] dJ4_fixAfterDeletion_148 q1806 q1807 q128 q1808 (c_J4_colorOf (some p) hF60 (OM.s (by assumption))) pdJ4_colorOf ⟨by simp only [List.map_cons, va_rf_1]; exact Nat.le_of_ble_eq_true rfl, by decide, by omega⟩ (kk_z fun r148 h148 q148 => ?_) kx_z
                obtain ⟨rfl, rfl⟩ := q148
                have oc148 := TmF.oc01 (q := (some p)) hF60 (OM.s (by assumption))
                refine mw_top (x' := oc (usc (usc co (ob rt (some p)) 1) (some p) 0) (some p)) rfl ?_
                refine m_invS (y := yiJ4_fixAfterDeletion) [(va_rf (ob rtX60 (some p))), (vi (oc (usc (usc co (ob rt (some p)) 1) (some p) 0) (some p)))] dJ4_fixAfterDeletion_151 q1809 q1810 q128 q1811 (c_J4_setColor (ob rtX60 (some p)) (oc (usc (usc co (ob rt (some p)) 1) (some p) 0) (some p)) hF60 om67 (by omega)) pdJ4_setColor ⟨Nat.le_of_ble_eq_true rfl, by decide, by omega⟩ (kk_v fun h151 q151 => ?_) kx_v
                obtain ⟨hU151, hF151⟩ := q151
                have hT151 := TFr.trans hT60 hU151
                refine mw_wf (fun hwf151 => ?_)
                refine m_aload_n (y := yiJ4_fixAfterDeletion) dJ4_fixAfterDeletion_154 rfl ?_
                refine m_invS (y := yiJ4_fixAfterDeletion) [(.ref x)] dJ4_fixAfterDeletion_155 q1797 q1798 q128 q1799 (c_J4_parentOf (some x) hF151 (OM.s (by assumption))) pdJ4_parentOf ⟨Nat.le_of_ble_eq_true rfl, by decide, by omega⟩ (kk_q fun r155 h155 q155 => ?_) kx_q
                obtain ⟨rfl, rfl⟩ := q155
                have om155 : OM L (ob paX60 (some x)) := OM.p hI60 (OM.s (by assumption))
                refine mw_topv (v' := .ref p) (congrArg va_rf (hxp60)) ?_
                refine j_iconst (y := yiJ4_fixAfterDeletion) dJ4_fixAfterDeletion_158 ?_
                refine m_invS (y := yiJ4_fixAfterDeletion) [(.ref p), (vi 1)] dJ4_fixAfterDeletion_159 q1809 q1810 q128 q1811 (c_J4_setColor (some p) 1 hF151 (OM.s (by assumption)) (by omega)) pdJ4_setColor ⟨Nat.le_of_ble_eq_true rfl, by decide, by omega⟩ (kk_v fun h159 q159 => ?_) kx_v
                obtain ⟨hU159, hF159⟩ := q159
                have hT159 := TFr.trans hT151 hU159
                refine mw_wf (fun hwf159 => ?_)
                refine m_aload_nq (y := yiJ4_fixAfterDeletion) dJ4_fixAfterDeletion_162 rfl ?_
                refine m_invS (y := yiJ4_fixAfterDeletion) [(va_rf (ob rtX60 (some p)))] dJ4_fixAfterDeletion_163 q1803 q1804 q128 q1805 (c_J4_rightOf (ob rtX60 (some p)) hF159 om67) pdJ4_rightOf ⟨Nat.le_of_ble_eq_true rfl, by decide, by omega⟩ (kk_q fun r163 h163 q163 => ?_) kx_q
                obtain ⟨rfl, rfl⟩ := q163
                have om163 : OM L (ob rtX60 (ob rtX60 (some p))) := OM.r hI60 om67
                refine j_iconst (y := yiJ4_fixAfterDeletion) dJ4_fixAfterDeletion_166 ?_
                refine m_invS (y := yiJ4_fixAfterDeletion) [(va_rf (ob rtX60 (ob rtX60 (some p)))), (vi 1)] dJ4_fixAfterDeletion_167 q1809 q1810 q128 q1811 (c_J4_setColor (ob rtX60 (ob rtX60 (some p))) 1 hF159 om163 (by omega)) pdJ4_setColor ⟨Nat.le_of_ble_eq_true rfl, by decide, by omega⟩ (kk_v fun h167 q167 => ?_) kx_v
                obtain ⟨hU167, hF167⟩ := q167
                have hT167 := TFr.trans hT159 hU167
                refine mw_wf (fun hwf167 => ?_)
                refine m_aload_n (y := yiJ4_fixAfterDeletion) dJ4_fixAfterDeletion_170 rfl ?_
                refine m_aload_n (y := yiJ4_fixAfterDeletion) dJ4_fixAfterDeletion_171 rfl ?_
                refine m_invS (y := yiJ4_fixAfterDeletion) [(.ref x)] dJ4_fixAfterDeletion_172 q1797 q1798 q128 q1799 (c_J4_parentOf (some x) hF167 (OM.s (by assumption))) pdJ4_parentOf ⟨Nat.le_of_ble_eq_true rfl, by decide, by omega⟩ (kk_q fun r172 h172 q172 => ?_) kx_q
                obtain ⟨rfl, rfl⟩ := q172
                have om172 : OM L (ob paX60 (some x)) := OM.p hI60 (OM.s (by assumption))
                refine mw_topv (v' := .ref p) (congrArg va_rf (hxp60)) ?_
                refine m_invV (y := yiJ4_fixAfterDeletion) (rB := (RJ4, TJ4, 9)) [(.ref p)] dJ4_fixAfterDeletion_175 hF167.1 rfl q1812 q1814 qs26 q128 q1815 rfl (c_J4_rotateLeft (p := p) (r := s3) hF167 hI60 hpL hs3) pdJ4_rotateLeft ⟨Nat.le_of_ble_eq_true rfl, by decide, by omega⟩ (kk_v fun h175 q175 => ?_) kx_v
                obtain ⟨hU175, lfX175, rtX175, paX175, loX175, hiX175, roX175, hF175, hI175, hQ175, hR175⟩ := q175
                have hT175 := TFr.trans hT167 hU175
                have hk175 := KpS.rot hk60 hQ175 hs3 hpn.symm hm3.1 hm3.2.1
                refine mw_wf (fun hwf175 => ?_)
                obtain ⟨r9, hr9, hr9L⟩ := hI175.1.rootE hx
                refine m_aload_n (y := yiJ4_fixAfterDeletion) dJ4_fixAfterDeletion_178 rfl ?_
                refine m_getfS (y := yiJ4_fixAfterDeletion) kc_17 3 (by decide) dJ4_fixAfterDeletion_179 q240 hF175.1 rfl ?_
                refine mw_topv (v' := .ref r9) (congrArg va_rf (hr9)) ?_
                refine m_astore_n (y := yiJ4_fixAfterDeletion) dJ4_fixAfterDeletion_182 (by decide) rfl ?_
                show MW K yiJ4_fixAfterDeletion d h175 183 [some (.ref m), some (.ref r9), some (va_rf (ob rtX60 (some p)))] [] Q
                refine m_goto (y := yiJ4_fixAfterDeletion) 0 dJ4_fixAfterDeletion_183 (by decide) ?_
                refine mw_forget 2 ?_
                exact ih0 _ (by omega) (r9) (lfX175) (rtX175) (paX175) ((usc (usc (usc (usc (usc co (ob rt (some p)) 1) (some p) 0) (ob rtX60 (some p)) (oc (usc (usc co (ob rt (some p)) 1) (some p) 0) (some p))) (some p) 1) (ob rtX60 (ob rtX60 (some p))) 1)) (loX175) (hiX175) (roX175) (N0 - 1) _ rfl hr9L hF175 hI175 hT175 (fun r1 e => Or.inr (Option.some.inj (e.symm.trans hr9))) (Or.inl hr9) (KpS.up hk175 (by { have q1 := hI175.1.2.2.1 r9 hr9; have q2 := hI175.1.bd hx; omega }))
              · obtain ⟨l, hl⟩ := oc_n1 c79
                obtain ⟨s2, hs2, hls⟩ := ob_inv2 hl
                have hs2 : rtX60 p = some s2 := hs2
                have hm9 := hI60.1.lrn hpL hxl60 hs2
                have hl9 := hm9.2.2 l hls
                have hs2L := (hI60.1.2.2.2.2.2.1 p s2 hpL hs2)
                refine m_aload_nq (y := yiJ4_fixAfterDeletion) dJ4_fixAfterDeletion_117 rfl ?_
                refine m_invS (y := yiJ4_fixAfterDeletion) [(va_rf (ob rtX60 (some p)))] dJ4_fixAfterDeletion_118 q1800 q1801 q128 q1802 (c_J4_leftOf (ob rtX60 (some p)) hF60 om67) pdJ4_leftOf ⟨Nat.le_of_ble_eq_true rfl, by decide, by omega⟩ (kk_q fun r118 h118 q118 => ?_) kx_q
                obtain ⟨rfl, rfl⟩ := q118
                have om118 : OM L (ob lfX60 (ob rtX60 (some p))) := OM.l hI60 om67
                refine j_iconst (y := yiJ4_fixAfterDeletion) dJ4_fixAfterDeletion_121 ?_
                refine m_invS (y := yiJ4_fixAfterDeletion) [(va_rf (ob lfX60 (ob rtX60 (some p)))), (vi 1)] dJ4_fixAfterDeletion_122 q1809 q1810 q128 q1811 (c_J4_setColor (ob lfX60 (ob rtX60 (some p))) 1 hF60 om118 (by omega)) pdJ4_setColor ⟨Nat.le_of_ble_eq_true rfl, by decide, by omega⟩ (kk_v fun h122 q122 => ?_) kx_v
                obtain ⟨hU122, hF122⟩ := q122
                have hT122 := TFr.trans hT60 hU122
                refine mw_wf (fun hwf122 => ?_)
                refine m_aload_nq (y := yiJ4_fixAfterDeletion) dJ4_fixAfterDeletion_125 rfl ?_
                refine j_iconst (y := yiJ4_fixAfterDeletion) dJ4_fixAfterDeletion_126 ?_
                refine m_invS (y := yiJ4_fixAfterDeletion) [(va_rf (ob rtX60 (some p))), (vi 0)] dJ4_fixAfterDeletion_127 q1809 q1810 q128 q1811 (c_J4_setColor (ob rtX60 (some p)) 0 hF122 om67 (by omega)) pdJ4_setColor ⟨Nat.le_of_ble_eq_true rfl, by decide, by omega⟩ (kk_v fun h127 q127 => ?_) kx_v
                obtain ⟨hU127, hF127⟩ := q127
                have hT127 := TFr.trans hT122 hU127
                refine mw_wf (fun hwf127 => ?_)
                refine m_aload_n (y := yiJ4_fixAfterDeletion) dJ4_fixAfterDeletion_130 rfl ?_
                refine m_aload_nq (y := yiJ4_fixAfterDeletion) dJ4_fixAfterDeletion_131 rfl ?_
                refine mw_topv (v' := .ref s2) (congrArg va_rf (hs2)) ?_
                refine m_invV (y := yiJ4_fixAfterDeletion) (rB := (RJ4, TJ4, 9)) [(.ref s2)] dJ4_fixAfterDeletion_132 hF127.1 rfl q1816 q1818 qs27 q128 q1819 rfl (c_J4_rotateRight (p := s2) (r := l) hF127 hI60 hs2L.1 hls) pdJ4_rotateRight ⟨Nat.le_of_ble_eq_true rfl, by decide, by omega⟩ (kk_v fun h132 q132 => ?_) kx_v
                obtain ⟨hU132, lfX132, rtX132, paX132, loX132, hiX132, roX132, hF132, hI132, hQ132, hR132⟩ := q132
                have hT132 := TFr.trans hT127 hU132
                have hxl132 : lfX132 p = some x := (hQ132.2.2.2.2.2.2.2.2.2 p hpL hl9.2.2 (fun h9 => hm9.1 (Option.some.inj (hxl60.symm.trans h9)))).trans hxl60
                have hxp132 := (hI132.1.2.2.2.2.1 p x hpL hxl132).2.1
                have hk132 := (KpS.rot (KpS.sw hk60) hQ132 hls hm9.1 hl9.1 hl9.2.1).sw
                have hco132 : ∀ r0, roX132 = some r0 → (usc (usc (usc (usc co (ob rt (some p)) 1) (some p) 0) (ob lfX60 (ob rtX60 (some p))) 1) (ob rtX60 (some p)) 0) r0 = 1 := fun r0 e => by { rw [hR132, roR_n hs2L.2.1] at e; exact usc_0 (fun h9 => hI60.1.nopr hpL h9 e) (usc_1 (hco60 r0 e)) }
                refine mw_wf (fun hwf132 => ?_)
                refine m_aload_n (y := yiJ4_fixAfterDeletion) dJ4_fixAfterDeletion_135 rfl ?_
                refine m_invS (y := yiJ4_fixAfterDeletion) [(.ref x)] dJ4_fixAfterDeletion_136 q1797 q1798 q128 q1799 (c_J4_parentOf (some x) hF132 (OM.s (by assumption))) pdJ4_parentOf ⟨Nat.le_of_ble_eq_true rfl, by decide, by omega⟩ (kk_q fun r136 h136 q136 => ?_) kx_q
                obtain ⟨rfl, rfl⟩ := q136
                have om136 : OM L (ob paX132 (some x)) := OM.p hI132 (OM.s (by assumption))
                refine mw_topv (v' := .ref p) (congrArg va_rf (hxp132)) ?_
                refine m_invS (y := yiJ4_fixAfterDeletion) [(.ref p)] dJ4_fixAfterDeletion_139 q1803 q1804 q128 q1805 (c_J4_rightOf (some p) hF132 (OM.s (by assumption))) pdJ4_rightOf ⟨Nat.le_of_ble_eq_true rfl, by decide, by omega⟩ (kk_q fun r139 h139 q139 => ?_) kx_q
                obtain ⟨rfl, rfl⟩ := q139
                have om139 : OM L (ob rtX132 (some p)) := OM.r hI132 (OM.s (by assumption))
                refine m_astore_nq (y := yiJ4_fixAfterDeletion) dJ4_fixAfterDeletion_142 (by decide) rfl ?_
                show MW K yiJ4_fixAfterDeletion d h132 143 [some (.ref m), some (.ref x), some (va_rf (ob rtX132 (some p)))] [] Q
                obtain ⟨s3, hs3⟩ : ∃ s3, rtX132 p = some s3 := (⟨l, hQ132.2.2.2.2.2.1 p hpL hs2⟩)
                have hm3 := hI132.1.lrn hpL hxl132 hs3
                refine m_aload_nq (y := yiJ4_fixAfterDeletion) dJ4_fixAfterDeletion_143 rfl ?_
                refine m_aload_n (y := yiJ4_fixAfterDeletion) dJ4_fixAfterDeletion_144 rfl ?_
                refine m_invS (y := yiJ4_fixAfterDeletion) [(.ref x)] dJ4_fixAfterDeletion_145 q1797 q1798 q128 q1799 (c_J4_parentOf (some x) hF132 (OM.s (by assumption))) pdJ4_parentOf ⟨by simp only [List.map_cons, va_rf_1]; exact Nat.le_of_ble_eq_true rfl, by decide, by omega⟩ (kk_q fun r145 h145 q145 => ?_) kx_q
                obtain ⟨rfl, rfl⟩ := q145
                have om145 : OM L (ob paX132 (some x)) := OM.p hI132 (OM.s (by assumption))
                refine mw_topv (v' := .ref p) (congrArg va_rf (hxp132)) ?_
                refine m_invS (y := yiJ4_fixAfterDeletion) [(.ref p)] dJ4_fixAfterDeletion_148 q1806 q1807 q128 q1808 (c_J4_colorOf (some p) hF132 (OM.s (by assumption))) pdJ4_colorOf ⟨by simp only [List.map_cons, va_rf_1]; exact Nat.le_of_ble_eq_true rfl, by decide, by omega⟩ (kk_z fun r148 h148 q148 => ?_) kx_z
                obtain ⟨rfl, rfl⟩ := q148
                have oc148 := TmF.oc01 (q := (some p)) hF132 (OM.s (by assumption))
                refine mw_top (x' := oc (usc (usc (usc (usc co (ob rt (some p)) 1) (some p) 0) (ob lfX60 (ob rtX60 (some p))) 1) (ob rtX60 (some p)) 0) (some p)) rfl ?_
                refine m_invS (y := yiJ4_fixAfterDeletion) [(va_rf (ob rtX132 (some p))), (vi (oc (usc (usc (usc (usc co (ob rt (some p)) 1) (some p) 0) (ob lfX60 (ob rtX60 (some p))) 1) (ob rtX60 (some p)) 0) (some p)))] dJ4_fixAfterDeletion_151 q1809 q1810 q128 q1811 (c_J4_setColor (ob rtX132 (some p)) (oc (usc (usc (usc (usc co (ob rt (some p)) 1) (some p) 0) (ob lfX60 (ob rtX60 (some p))) 1) (ob rtX60 (some p)) 0) (some p)) hF132 om139 (by omega)) pdJ4_setColor ⟨Nat.le_of_ble_eq_true rfl, by decide, by omega⟩ (kk_v fun h151 q151 => ?_) kx_v
                obtain ⟨hU151, hF151⟩ := q151
                have hT151 := TFr.trans hT132 hU151
                refine mw_wf (fun hwf151 => ?_)
                refine m_aload_n (y := yiJ4_fixAfterDeletion) dJ4_fixAfterDeletion_154 rfl ?_
                refine m_invS (y := yiJ4_fixAfterDeletion) [(.ref x)] dJ4_fixAfterDeletion_155 q1797 q1798 q128 q1799 (c_J4_parentOf (some x) hF151 (OM.s (by assumption))) pdJ4_parentOf ⟨Nat.le_of_ble_eq_true rfl, by decide, by omega⟩ (kk_q fun r155 h155 q155 => ?_) kx_q
                obtain ⟨rfl, rfl⟩ := q155
                have om155 : OM L (ob paX132 (some x)) := OM.p hI132 (OM.s (by assumption))
                refine mw_topv (v' := .ref p) (congrArg va_rf (hxp132)) ?_
                refine j_iconst (y := yiJ4_fixAfterDeletion) dJ4_fixAfterDeletion_158 ?_
                refine m_invS (y := yiJ4_fixAfterDeletion) [(.ref p), (vi 1)] dJ4_fixAfterDeletion_159 q1809 q1810 q128 q1811 (c_J4_setColor (some p) 1 hF151 (OM.s (by assumption)) (by omega)) pdJ4_setColor ⟨Nat.le_of_ble_eq_true rfl, by decide, by omega⟩ (kk_v fun h159 q159 => ?_) kx_v
                obtain ⟨hU159, hF159⟩ := q159
                have hT159 := TFr.trans hT151 hU159
                refine mw_wf (fun hwf159 => ?_)
                refine m_aload_nq (y := yiJ4_fixAfterDeletion) dJ4_fixAfterDeletion_162 rfl ?_
                refine m_invS (y := yiJ4_fixAfterDeletion) [(va_rf (ob rtX132 (some p)))] dJ4_fixAfterDeletion_163 q1803 q1804 q128 q1805 (c_J4_rightOf (ob rtX132 (some p)) hF159 om139) pdJ4_rightOf ⟨Nat.le_of_ble_eq_true rfl, by decide, by omega⟩ (kk_q fun r163 h163 q163 => ?_) kx_q
                obtain ⟨rfl, rfl⟩ := q163
                have om163 : OM L (ob rtX132 (ob rtX132 (some p))) := OM.r hI132 om139
                refine j_iconst (y := yiJ4_fixAfterDeletion) dJ4_fixAfterDeletion_166 ?_
                refine m_invS (y := yiJ4_fixAfterDeletion) [(va_rf (ob rtX132 (ob rtX132 (some p)))), (vi 1)] dJ4_fixAfterDeletion_167 q1809 q1810 q128 q1811 (c_J4_setColor (ob rtX132 (ob rtX132 (some p))) 1 hF159 om163 (by omega)) pdJ4_setColor ⟨Nat.le_of_ble_eq_true rfl, by decide, by omega⟩ (kk_v fun h167 q167 => ?_) kx_v
                obtain ⟨hU167, hF167⟩ := q167
                have hT167 := TFr.trans hT159 hU167
                refine mw_wf (fun hwf167 => ?_)
                refine m_aload_n (y := yiJ4_fixAfterDeletion) dJ4_fixAfterDeletion_170 rfl ?_
                refine m_aload_n (y := yiJ4_fixAfterDeletion) dJ4_fixAfterDeletion_171 rfl ?_
                refine m_invS (y := yiJ4_fixAfterDeletion) [(.ref x)] dJ4_fixAfterDeletion_172 q1797 q1798 q128 q1799 (c_J4_parentOf (some x) hF167 (OM.s (by assumption))) pdJ4_parentOf ⟨Nat.le_of_ble_eq_true rfl, by decide, by omega⟩ (kk_q fun r172 h172 q172 => ?_) kx_q
                obtain ⟨rfl, rfl⟩ := q172
                have om172 : OM L (ob paX132 (some x)) := OM.p hI132 (OM.s (by assumption))
                refine mw_topv (v' := .ref p) (congrArg va_rf (hxp132)) ?_
                refine m_invV (y := yiJ4_fixAfterDeletion) (rB := (RJ4, TJ4, 9)) [(.ref p)] dJ4_fixAfterDeletion_175 hF167.1 rfl q1812 q1814 qs26 q128 q1815 rfl (c_J4_rotateLeft (p := p) (r := s3) hF167 hI132 hpL hs3) pdJ4_rotateLeft ⟨Nat.le_of_ble_eq_true rfl, by decide, by omega⟩ (kk_v fun h175 q175 => ?_) kx_v
                obtain ⟨hU175, lfX175, rtX175, paX175, loX175, hiX175, roX175, hF175, hI175, hQ175, hR175⟩ := q175
                have hT175 := TFr.trans hT167 hU175
                have hk175 := KpS.rot hk132 hQ175 hs3 hpn.symm hm3.1 hm3.2.1
                refine mw_wf (fun hwf175 => ?_)
                obtain ⟨r9, hr9, hr9L⟩ := hI175.1.rootE hx
                refine m_aload_n (y := yiJ4_fixAfterDeletion) dJ4_fixAfterDeletion_178 rfl ?_
                refine m_getfS (y := yiJ4_fixAfterDeletion) kc_17 3 (by decide) dJ4_fixAfterDeletion_179 q240 hF175.1 rfl ?_
                refine mw_topv (v' := .ref r9) (congrArg va_rf (hr9)) ?_
                refine m_astore_n (y := yiJ4_fixAfterDeletion) dJ4_fixAfterDeletion_182 (by decide) rfl ?_
                show MW K yiJ4_fixAfterDeletion d h175 183 [some (.ref m), some (.ref r9), some (va_rf (ob rtX132 (some p)))] [] Q
                refine m_goto (y := yiJ4_fixAfterDeletion) 0 dJ4_fixAfterDeletion_183 (by decide) ?_
                refine mw_forget 2 ?_
                exact ih0 _ (by omega) (r9) (lfX175) (rtX175) (paX175) ((usc (usc (usc (usc (usc (usc (usc co (ob rt (some p)) 1) (some p) 0) (ob lfX60 (ob rtX60 (some p))) 1) (ob rtX60 (some p)) 0) (ob rtX132 (some p)) (oc (usc (usc (usc (usc co (ob rt (some p)) 1) (some p) 0) (ob lfX60 (ob rtX60 (some p))) 1) (ob rtX60 (some p)) 0) (some p))) (some p) 1) (ob rtX132 (ob rtX132 (some p))) 1)) (loX175) (hiX175) (roX175) (N0 - 1) _ rfl hr9L hF175 hI175 hT175 (fun r1 e => Or.inr (Option.some.inj (e.symm.trans hr9))) (Or.inl hr9) (KpS.up hk175 (by { have q1 := hI175.1.2.2.1 r9 hr9; have q2 := hI175.1.bd hx; omega }))
            · refine m_aload_nq (y := yiJ4_fixAfterDeletion) dJ4_fixAfterDeletion_82 rfl ?_
              refine m_invS (y := yiJ4_fixAfterDeletion) [(va_rf (ob rtX60 (some p)))] dJ4_fixAfterDeletion_83 q1803 q1804 q128 q1805 (c_J4_rightOf (ob rtX60 (some p)) hF60 om67) pdJ4_rightOf ⟨Nat.le_of_ble_eq_true rfl, by decide, by omega⟩ (kk_q fun r83 h83 q83 => ?_) kx_q
              obtain ⟨rfl, rfl⟩ := q83
              have om83 : OM L (ob rtX60 (ob rtX60 (some p))) := OM.r hI60 om67
              refine m_invS (y := yiJ4_fixAfterDeletion) [(va_rf (ob rtX60 (ob rtX60 (some p))))] dJ4_fixAfterDeletion_86 q1806 q1807 q128 q1808 (c_J4_colorOf (ob rtX60 (ob rtX60 (some p))) hF60 om83) pdJ4_colorOf ⟨Nat.le_of_ble_eq_true rfl, by decide, by omega⟩ (kk_z fun r86 h86 q86 => ?_) kx_z
              obtain ⟨rfl, rfl⟩ := q86
              have oc86 := TmF.oc01 (q := (ob rtX60 (ob rtX60 (some p)))) hF60 om83
              refine mw_top (x' := oc (usc (usc co (ob rt (some p)) 1) (some p) 0) (ob rtX60 (ob rtX60 (some p)))) rfl ?_
              refine j_iconst (y := yiJ4_fixAfterDeletion) dJ4_fixAfterDeletion_89 ?_
              refine j_icmp_ne (y := yiJ4_fixAfterDeletion) 106 dJ4_fixAfterDeletion_90 (by decide) ⟨⟨by omega, by omega⟩, ⟨by omega, by omega⟩⟩ (fun c90 => ?_) (fun c90 => ?_)
              · refine m_aload_nq (y := yiJ4_fixAfterDeletion) dJ4_fixAfterDeletion_106 rfl ?_
                refine m_invS (y := yiJ4_fixAfterDeletion) [(va_rf (ob rtX60 (some p)))] dJ4_fixAfterDeletion_107 q1803 q1804 q128 q1805 (c_J4_rightOf (ob rtX60 (some p)) hF60 om67) pdJ4_rightOf ⟨Nat.le_of_ble_eq_true rfl, by decide, by omega⟩ (kk_q fun r107 h107 q107 => ?_) kx_q
                obtain ⟨rfl, rfl⟩ := q107
                have om107 : OM L (ob rtX60 (ob rtX60 (some p))) := OM.r hI60 om67
                refine m_invS (y := yiJ4_fixAfterDeletion) [(va_rf (ob rtX60 (ob rtX60 (some p))))] dJ4_fixAfterDeletion_110 q1806 q1807 q128 q1808 (c_J4_colorOf (ob rtX60 (ob rtX60 (some p))) hF60 om107) pdJ4_colorOf ⟨Nat.le_of_ble_eq_true rfl, by decide, by omega⟩ (kk_z fun r110 h110 q110 => ?_) kx_z
                obtain ⟨rfl, rfl⟩ := q110
                have oc110 := TmF.oc01 (q := (ob rtX60 (ob rtX60 (some p)))) hF60 om107
                refine mw_top (x' := oc (usc (usc co (ob rt (some p)) 1) (some p) 0) (ob rtX60 (ob rtX60 (some p)))) rfl ?_
                refine j_iconst (y := yiJ4_fixAfterDeletion) dJ4_fixAfterDeletion_113 ?_
                refine j_icmp_ne (y := yiJ4_fixAfterDeletion) 143 dJ4_fixAfterDeletion_114 (by decide) ⟨⟨by omega, by omega⟩, ⟨by omega, by omega⟩⟩ (fun c114 => ?_) (fun c114 => False.elim (by omega))
                obtain ⟨s3, hs3⟩ : ∃ s3, rtX60 p = some s3 := (by { obtain ⟨a9, e9⟩ := oc_n1 c114; obtain ⟨b9, e8, e7⟩ := ob_inv2 e9; exact ⟨b9, e8⟩ })
                have hm3 := hI60.1.lrn hpL hxl60 hs3
                refine m_aload_nq (y := yiJ4_fixAfterDeletion) dJ4_fixAfterDeletion_143 rfl ?_
                refine m_aload_n (y := yiJ4_fixAfterDeletion) dJ4_fixAfterDeletion_144 rfl ?_
                refine m_invS (y := yiJ4_fixAfterDeletion) [(.ref x)] dJ4_fixAfterDeletion_145 q1797 q1798 q128 q1799 (c_J4_parentOf (some x) hF60 (OM.s (by assumption))) pdJ4_parentOf ⟨by simp only [List.map_cons, va_rf_1]; exact Nat.le_of_ble_eq_true rfl, by decide, by omega⟩ (kk_q fun r145 h145 q145 => ?_) kx_q
                obtain ⟨rfl, rfl⟩ := q145
                have om145 : OM L (ob paX60 (some x)) := OM.p hI60 (OM.s (by assumption))
                refine mw_topv (v' := .ref p) (congrArg va_rf (hxp60)) ?_
                refine m_invS (y := yiJ4_fixAfterDeletion) [(.ref p)] dJ4_fixAfterDeletion_148 q1806 q1807 q128 q1808 (c_J4_colorOf (some p) hF60 (OM.s (by assumption))) pdJ4_colorOf ⟨by simp only [List.map_cons, va_rf_1]; exact Nat.le_of_ble_eq_true rfl, by decide, by omega⟩ (kk_z fun r148 h148 q148 => ?_) kx_z
                obtain ⟨rfl, rfl⟩ := q148
                have oc148 := TmF.oc01 (q := (some p)) hF60 (OM.s (by assumption))
                refine mw_top (x' := oc (usc (usc co (ob rt (some p)) 1) (some p) 0) (some p)) rfl ?_
                refine m_invS (y := yiJ4_fixAfterDeletion) [(va_rf (ob rtX60 (some p))), (vi (oc (usc (usc co (ob rt (some p)) 1) (some p) 0) (some p)))] dJ4_fixAfterDeletion_151 q1809 q1810 q128 q1811 (c_J4_setColor (ob rtX60 (some p)) (oc (usc (usc co (ob rt (some p)) 1) (some p) 0) (some p)) hF60 om67 (by omega)) pdJ4_setColor ⟨Nat.le_of_ble_eq_true rfl, by decide, by omega⟩ (kk_v fun h151 q151 => ?_) kx_v
                obtain ⟨hU151, hF151⟩ := q151
                have hT151 := TFr.trans hT60 hU151
                refine mw_wf (fun hwf151 => ?_)
                refine m_aload_n (y := yiJ4_fixAfterDeletion) dJ4_fixAfterDeletion_154 rfl ?_
                refine m_invS (y := yiJ4_fixAfterDeletion) [(.ref x)] dJ4_fixAfterDeletion_155 q1797 q1798 q128 q1799 (c_J4_parentOf (some x) hF151 (OM.s (by assumption))) pdJ4_parentOf ⟨Nat.le_of_ble_eq_true rfl, by decide, by omega⟩ (kk_q fun r155 h155 q155 => ?_) kx_q
                obtain ⟨rfl, rfl⟩ := q155
                have om155 : OM L (ob paX60 (some x)) := OM.p hI60 (OM.s (by assumption))
                refine mw_topv (v' := .ref p) (congrArg va_rf (hxp60)) ?_
                refine j_iconst (y := yiJ4_fixAfterDeletion) dJ4_fixAfterDeletion_158 ?_
                refine m_invS (y := yiJ4_fixAfterDeletion) [(.ref p), (vi 1)] dJ4_fixAfterDeletion_159 q1809 q1810 q128 q1811 (c_J4_setColor (some p) 1 hF151 (OM.s (by assumption)) (by omega)) pdJ4_setColor ⟨Nat.le_of_ble_eq_true rfl, by decide, by omega⟩ (kk_v fun h159 q159 => ?_) kx_v
                obtain ⟨hU159, hF159⟩ := q159
                have hT159 := TFr.trans hT151 hU159
                refine mw_wf (fun hwf159 => ?_)
                refine m_aload_nq (y := yiJ4_fixAfterDeletion) dJ4_fixAfterDeletion_162 rfl ?_
                refine m_invS (y := yiJ4_fixAfterDeletion) [(va_rf (ob rtX60 (some p)))] dJ4_fixAfterDeletion_163 q1803 q1804 q128 q1805 (c_J4_rightOf (ob rtX60 (some p)) hF159 om67) pdJ4_rightOf ⟨Nat.le_of_ble_eq_true rfl, by decide, by omega⟩ (kk_q fun r163 h163 q163 => ?_) kx_q
                obtain ⟨rfl, rfl⟩ := q163
                have om163 : OM L (ob rtX60 (ob rtX60 (some p))) := OM.r hI60 om67
                refine j_iconst (y := yiJ4_fixAfterDeletion) dJ4_fixAfterDeletion_166 ?_
                refine m_invS (y := yiJ4_fixAfterDeletion) [(va_rf (ob rtX60 (ob rtX60 (some p)))), (vi 1)] dJ4_fixAfterDeletion_167 q1809 q1810 q128 q1811 (c_J4_setColor (ob rtX60 (ob rtX60 (some p))) 1 hF159 om163 (by omega)) pdJ4_setColor ⟨Nat.le_of_ble_eq_true rfl, by decide, by omega⟩ (kk_v fun h167 q167 => ?_) kx_v
                obtain ⟨hU167, hF167⟩ := q167
                have hT167 := TFr.trans hT159 hU167
                refine mw_wf (fun hwf167 => ?_)
                refine m_aload_n (y := yiJ4_fixAfterDeletion) dJ4_fixAfterDeletion_170 rfl ?_
                refine m_aload_n (y := yiJ4_fixAfterDeletion) dJ4_fixAfterDeletion_171 rfl ?_
                refine m_invS (y := yiJ4_fixAfterDeletion) [(.ref x)] dJ4_fixAfterDeletion_172 q1797 q1798 q128 q1799 (c_J4_parentOf (some x) hF167 (OM.s (by assumption))) pdJ4_parentOf ⟨Nat.le_of_ble_eq_true rfl, by decide, by omega⟩ (kk_q fun r172 h172 q172 => ?_) kx_q
                obtain ⟨rfl, rfl⟩ := q172
                have om172 : OM L (ob paX60 (some x)) := OM.p hI60 (OM.s (by assumption))
                refine mw_topv (v' := .ref p) (congrArg va_rf (hxp60)) ?_
                refine m_invV (y := yiJ4_fixAfterDeletion) (rB := (RJ4, TJ4, 9)) [(.ref p)] dJ4_fixAfterDeletion_175 hF167.1 rfl q1812 q1814 qs26 q128 q1815 rfl (c_J4_rotateLeft (p := p) (r := s3) hF167 hI60 hpL hs3) pdJ4_rotateLeft ⟨Nat.le_of_ble_eq_true rfl, by decide, by omega⟩ (kk_v fun h175 q175 => ?_) kx_v
                obtain ⟨hU175, lfX175, rtX175, paX175, loX175, hiX175, roX175, hF175, hI175, hQ175, hR175⟩ := q175
                have hT175 := TFr.trans hT167 hU175
                have hk175 := KpS.rot hk60 hQ175 hs3 hpn.symm hm3.1 hm3.2.1
                refine mw_wf (fun hwf175 => ?_)
                obtain ⟨r9, hr9, hr9L⟩ := hI175.1.rootE hx
                refine m_aload_n (y := yiJ4_fixAfterDeletion) dJ4_fixAfterDeletion_178 rfl ?_
                refine m_getfS (y := yiJ4_fixAfterDeletion) kc_17 3 (by decide) dJ4_fixAfterDeletion_179 q240 hF175.1 rfl ?_
                refine mw_topv (v' := .ref r9) (congrArg va_rf (hr9)) ?_
                refine m_astore_n (y := yiJ4_fixAfterDeletion) dJ4_fixAfterDeletion_182 (by decide) rfl ?_
                show MW K yiJ4_fixAfterDeletion d h175 183 [some (.ref m), some (.ref r9), some (va_rf (ob rtX60 (some p)))] [] Q
                refine m_goto (y := yiJ4_fixAfterDeletion) 0 dJ4_fixAfterDeletion_183 (by decide) ?_
                refine mw_forget 2 ?_
                exact ih0 _ (by omega) (r9) (lfX175) (rtX175) (paX175) ((usc (usc (usc (usc (usc co (ob rt (some p)) 1) (some p) 0) (ob rtX60 (some p)) (oc (usc (usc co (ob rt (some p)) 1) (some p) 0) (some p))) (some p) 1) (ob rtX60 (ob rtX60 (some p))) 1)) (loX175) (hiX175) (roX175) (N0 - 1) _ rfl hr9L hF175 hI175 hT175 (fun r1 e => Or.inr (Option.some.inj (e.symm.trans hr9))) (Or.inl hr9) (KpS.up hk175 (by { have q1 := hI175.1.2.2.1 r9 hr9; have q2 := hI175.1.bd hx; omega }))
              · refine m_aload_nq (y := yiJ4_fixAfterDeletion) dJ4_fixAfterDeletion_93 rfl ?_
                refine j_iconst (y := yiJ4_fixAfterDeletion) dJ4_fixAfterDeletion_94 ?_
                refine m_invS (y := yiJ4_fixAfterDeletion) [(va_rf (ob rtX60 (some p))), (vi 0)] dJ4_fixAfterDeletion_95 q1809 q1810 q128 q1811 (c_J4_setColor (ob rtX60 (some p)) 0 hF60 om67 (by omega)) pdJ4_setColor ⟨Nat.le_of_ble_eq_true rfl, by decide, by omega⟩ (kk_v fun h95 q95 => ?_) kx_v
                obtain ⟨hU95, hF95⟩ := q95
                have hT95 := TFr.trans hT60 hU95
                refine mw_wf (fun hwf95 => ?_)
                refine m_aload_n (y := yiJ4_fixAfterDeletion) dJ4_fixAfterDeletion_98 rfl ?_
                refine m_invS (y := yiJ4_fixAfterDeletion) [(.ref x)] dJ4_fixAfterDeletion_99 q1797 q1798 q128 q1799 (c_J4_parentOf (some x) hF95 (OM.s (by assumption))) pdJ4_parentOf ⟨Nat.le_of_ble_eq_true rfl, by decide, by omega⟩ (kk_q fun r99 h99 q99 => ?_) kx_q
                obtain ⟨rfl, rfl⟩ := q99
                have om99 : OM L (ob paX60 (some x)) := OM.p hI60 (OM.s (by assumption))
                refine mw_topv (v' := .ref p) (congrArg va_rf (hxp60)) ?_
                refine m_astore_n (y := yiJ4_fixAfterDeletion) dJ4_fixAfterDeletion_102 (by decide) rfl ?_
                show MW K yiJ4_fixAfterDeletion d h95 103 [some (.ref m), some (.ref p), some (va_rf (ob rtX60 (some p)))] [] Q
                refine m_goto (y := yiJ4_fixAfterDeletion) 183 dJ4_fixAfterDeletion_103 (by decide) ?_
                refine m_goto (y := yiJ4_fixAfterDeletion) 0 dJ4_fixAfterDeletion_183 (by decide) ?_
                refine mw_forget 2 ?_
                exact ih0 _ (by omega) (p) (lfX60) (rtX60) (paX60) ((usc (usc (usc co (ob rt (some p)) 1) (some p) 0) (ob rtX60 (some p)) 0)) (loX60) (hiX60) (roX60) (N0 - 1) _ rfl hpL hF95 hI60 hT95 (fun r0 e => Or.inl (usc_0 (fun h9 => hI60.1.nopr hpL h9 e) (hco60 r0 e))) (Or.inr (Or.inl (usc_p0 (fun h9 => hI60.1.nsr hpL h9)))) (KpS.up hk60 (hI60.1.grow hx hxp60).2)
  exact L0 _ x0 lf0 rt0 pa0 co0 lo0 hi0 root0 ((HI - LO).toNat + 1) _ rfl hx0 hF0 hI0 hT0 hB0 (Or.inr (Or.inr (by omega))) (fun s a b => by { have z := hk0 s a b; exact ⟨z.1, z.2.1, z.2.2, rfl⟩ })
end TREE
