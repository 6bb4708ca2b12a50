/-! java.util.TreeMap: its cells in words, small methods, turns -/
theorem va_rf_1 {q : Option Nat} : (va_rf q).category = 1 := by cases q <;> rfl
theorem mw_topv {K : KT} {y : YT} {d : Nat} {h : MH} {pc : Nat} {ls : List (Option Value)} {st : List Value} {Q : OT → MH → Prop} {v v' : Value} (e : v = v') (k : MW K y d h pc ls (v' :: st) Q) : MW K y d h pc ls (v :: st) Q := by subst e; exact k
def ob (f : Nat → Option Nat) (q : Option Nat) : Option Nat := match q with | none => none | some a => f a
def oc (co : Nat → Int) (q : Option Nat) : Int := match q with | none => 1 | some a => co a
def usc (co : Nat → Int) (q : Option Nat) (c : Int) : Nat → Int := match q with | none => co | some a => upI co a c
def upN (f : Nat → Nat) (a v : Nat) : Nat → Nat := fun b => if b = a then v else f b
def OM (L : List Nat) (q : Option Nat) : Prop := ∀ a, q = some a → a ∈ L
/-- only the map's cells have changed -/
def TFr (L : List Nat) (m : Nat) (h h' : MH) : Prop := h'.1 = h.1 ∧ h'.2.1 = h.2.1 ∧ ∀ b, (b ∉ L ∧ b ≠ m) → h'.2.2 b = h.2.2 b
theorem TFr.refl {L : List Nat} {m : Nat} {h : MH} : TFr L m h h := ⟨rfl, rfl, fun _ _ => rfl⟩
theorem TFr.trans {L : List Nat} {m : Nat} {h h' h2 : MH} (a : TFr L m h h') (b : TFr L m h' h2) : TFr L m h h2 := ⟨b.1.trans a.1, b.2.1.trans a.2.1, fun q hq => (b.2.2 q hq).trans (a.2.2 q hq)⟩
theorem TFr.put {L : List Nat} {m a : Nat} {h h' g : MH} {e : Bool × va_E} (H : TFr L m h h') (ha : a ∈ L) (G : Hp h' g a e 0 0) : TFr L m h g := H.trans ⟨by have := G.1; omega, by have := G.2.1; omega, fun b hb => G.2.2.2 b (fun e9 => hb.1 (by rw [e9]; exact ha))⟩
theorem TFr.putm {L : List Nat} {m : Nat} {h h' g : MH} {e : Bool × va_E} (H : TFr L m h h') (G : Hp h' g m e 0 0) : TFr L m h g := H.trans ⟨by have := G.1; omega, by have := G.2.1; omega, fun b hb => G.2.2.2 b hb.2⟩
section TREE
variable {K : KT} {d : Nat} {h : MH} {m : Nat} {L : List Nat} {key : Nat → Int} {ko : Nat → Nat} {vl lf rt pa : Nat → Option Nat} {co lo hi : Nat → Int} {root : Option Nat} {sz mc LO HI : Int}
theorem OM.n : OM L none := fun a e => by cases e
theorem OM.s {a : Nat} (h : a ∈ L) : OM L (some a) := fun b e => by cases e; exact h
theorem OM.p {q : Option Nat} (H : TmI L key lf rt pa lo hi root LO HI) (h : OM L q) : OM L (ob pa q) := fun b e => by
  cases q with
  | none => cases e
  | some a => exact (H.1.2.2.2.2.2.2.1 a b (h a rfl) e).1
theorem OM.l {q : Option Nat} (H : TmI L key lf rt pa lo hi root LO HI) (h : OM L q) : OM L (ob lf q) := fun b e => by
  cases q with
  | none => cases e
  | some a => exact (H.1.2.2.2.2.1 a b (h a rfl) e).1
theorem OM.r {q : Option Nat} (H : TmI L key lf rt pa lo hi root LO HI) (h : OM L q) : OM L (ob rt q) := fun b e => by
  cases q with
  | none => cases e
  | some a => exact (H.1.2.2.2.2.2.1 a b (h a rfl) e).1
theorem TmF.oc01 {q : Option Nat} (H : TmF h m L ko vl lf rt pa co root sz mc) (hq : OM L q) : oc co q = 0 ∨ oc co q = 1 := by
  cases q with
  | none => exact Or.inr rfl
  | some a => exact H.2.2 a (hq a rfl)
theorem TmF.mL (H : TmF h m L ko vl lf rt pa co root sz mc) : m ∉ L := fun hm => by
  have := H.1.symm.trans (H.2.1 m hm)
  injection this with this
  injection this with _ this
  injection this with this
  injection this with this _
  exact absurd this (by decide)
theorem TmF.p5 {a : Nat} {c : Int} {g : MH} (H : TmF h m L ko vl lf rt pa co root sz mc) (ha : a ∈ L) (G : Hp h g a (true, .inr (18, [.ref (ko a), va_rf (vl a), va_rf (lf a), va_rf (rt a), va_rf (pa a), vi c])) 0 0) (hc : c = 0 ∨ c = 1 := by omega) : TmF g m L ko vl lf rt pa (upI co a c) root sz mc := by
  refine ⟨(G.2.2.2 m (fun e => H.mL (by rw [e]; exact ha))).trans H.1, fun b hb => ?_, fun b hb => ?_⟩
  · by_cases e : b = a
    · subst e; rw [G.2.2.1, upI_at]
    · rw [G.2.2.2 b e, upI_ne e]; exact H.2.1 b hb
  · by_cases e : b = a
    · subst e; rw [upI_at]; exact hc
    · rw [upI_ne e]; exact H.2.2 b hb
theorem TmF.p0 {a : Nat} {v : Nat} {g : MH} (H : TmF h m L ko vl lf rt pa co root sz mc) (ha : a ∈ L) (G : Hp h g a (true, .inr (18, [.ref v, va_rf (vl a), va_rf (lf a), va_rf (rt a), va_rf (pa a), vi (co a)])) 0 0) : TmF g m L (upN ko a v) vl lf rt pa co root sz mc := by
  refine ⟨(G.2.2.2 m (fun e => H.mL (by rw [e]; exact ha))).trans H.1, fun b hb => ?_, H.2.2⟩
  by_cases e : b = a
  · subst e; rw [G.2.2.1, show upN ko b v b = v from if_pos rfl]
  · rw [G.2.2.2 b e, show upN ko a v b = ko b from if_neg e]; exact H.2.1 b hb
theorem TmF.p1 {a : Nat} {v : Option Nat} {g : MH} (H : TmF h m L ko vl lf rt pa co root sz mc) (ha : a ∈ L) (G : Hp h g a (true, .inr (18, [.ref (ko a), va_rf v, va_rf (lf a), va_rf (rt a), va_rf (pa a), vi (co a)])) 0 0) : TmF g m L ko (upo vl a v) lf rt pa co root sz mc := by
  refine ⟨(G.2.2.2 m (fun e => H.mL (by rw [e]; exact ha))).trans H.1, fun b hb => ?_, H.2.2⟩
  by_cases e : b = a
  · subst e; rw [G.2.2.1, upo_at]
  · rw [G.2.2.2 b e, upo_ne e]; exact H.2.1 b hb
theorem TmF.p2 {a : Nat} {v : Option Nat} {g : MH} (H : TmF h m L ko vl lf rt pa co root sz mc) (ha : a ∈ L) (G : Hp h g a (true, .inr (18, [.ref (ko a), va_rf (vl a), va_rf v, va_rf (rt a), va_rf (pa a), vi (co a)])) 0 0) : TmF g m L ko vl (upo lf a v) rt pa co root sz mc := by
  refine ⟨(G.2.2.2 m (fun e => H.mL (by rw [e]; exact ha))).trans H.1, fun b hb => ?_, H.2.2⟩
  by_cases e : b = a
  · subst e; rw [G.2.2.1, upo_at]
  · rw [G.2.2.2 b e, upo_ne e]; exact H.2.1 b hb
theorem TmF.p3 {a : Nat} {v : Option Nat} {g : MH} (H : TmF h m L ko vl lf rt pa co root sz mc) (ha : a ∈ L) (G : Hp h g a (true, .inr (18, [.ref (ko a), va_rf (vl a), va_rf (lf a), va_rf v, va_rf (pa a), vi (co a)])) 0 0) : TmF g m L ko vl lf (upo rt a v) pa co root sz mc := by
  refine ⟨(G.2.2.2 m (fun e => H.mL (by rw [e]; exact ha))).trans H.1, fun b hb => ?_, H.2.2⟩
  by_cases e : b = a
  · subst e; rw [G.2.2.1, upo_at]
  · rw [G.2.2.2 b e, upo_ne e]; exact H.2.1 b hb
theorem TmF.p4 {a : Nat} {v : Option Nat} {g : MH} (H : TmF h m L ko vl lf rt pa co root sz mc) (ha : a ∈ L) (G : Hp h g a (true, .inr (18, [.ref (ko a), va_rf (vl a), va_rf (lf a), va_rf (rt a), va_rf v, vi (co a)])) 0 0) : TmF g m L ko vl lf rt (upo pa a v) co root sz mc := by
  refine ⟨(G.2.2.2 m (fun e => H.mL (by rw [e]; exact ha))).trans H.1, fun b hb => ?_, H.2.2⟩
  by_cases e : b = a
  · subst e; rw [G.2.2.1, upo_at]
  · rw [G.2.2.2 b e, upo_ne e]; exact H.2.1 b hb
theorem TmF.m3 {v : Option Nat} {g : MH} (H : TmF h m L ko vl lf rt pa co root sz mc) (G : Hp h g m (true, .inr (17, [.null, .null, .null, va_rf v, vi sz, vi mc, .null, .null, .null])) 0 0) : TmF g m L ko vl lf rt pa co v sz mc := ⟨G.2.2.1, fun a ha => (G.2.2.2 a (fun e => H.mL (by rw [← e]; exact ha))).trans (H.2.1 a ha), H.2.2⟩
theorem TmF.m4 {v : Int} {g : MH} (H : TmF h m L ko vl lf rt pa co root sz mc) (G : Hp h g m (true, .inr (17, [.null, .null, .null, va_rf root, vi v, vi mc, .null, .null, .null])) 0 0) : TmF g m L ko vl lf rt pa co root v mc := ⟨G.2.2.1, fun a ha => (G.2.2.2 a (fun e => H.mL (by rw [← e]; exact ha))).trans (H.2.1 a ha), H.2.2⟩
theorem TmF.m5 {v : Int} {g : MH} (H : TmF h m L ko vl lf rt pa co root sz mc) (G : Hp h g m (true, .inr (17, [.null, .null, .null, va_rf root, vi sz, vi v, .null, .null, .null])) 0 0) : TmF g m L ko vl lf rt pa co root sz v := ⟨G.2.2.1, fun a ha => (G.2.2.2 a (fun e => H.mL (by rw [← e]; exact ha))).trans (H.2.1 a ha), H.2.2⟩
theorem c_J4_parentOf (q : Option Nat) (hF : TmF h m L ko vl lf rt pa co root sz mc) (hq : OM L q) : Mt K yiJ4_parentOf d [va_rf q] h (Rq fun r h' => h = h' ∧ ob pa q = r) := by
  refine mt_ofQc (by decide) (Nat.le_of_ble_eq_true rfl) ⟨va_rf_c, trivial⟩ (fun Q hQ => ?_)
  show MW K yiJ4_parentOf d h 0 [some (va_rf q)] [] Q
  refine mw_wf (fun hwf => ?_)
  refine m_aload_nq (y := yiJ4_parentOf) dJ4_parentOf_0 rfl ?_
  refine m_ifnonnull (y := yiJ4_parentOf) 8 dJ4_parentOf_1 (by decide) (fun a1 c1 => ?_) (fun c1 => ?_)
  · subst c1
    refine m_aload_n (y := yiJ4_parentOf) dJ4_parentOf_8 rfl ?_
    refine m_getfS (y := yiJ4_parentOf) kc_18 4 (by decide) dJ4_parentOf_9 q1773 (hF.2.1 a1 (by exact hq _ rfl)) rfl ?_
    subst hQ; exact m_aret (y := yiJ4_parentOf) (x := (pa a1)) dJ4_parentOf_12 rfl (Or.inl ⟨_, rfl⟩) ⟨(pa a1), rfl, ⟨rfl, rfl⟩⟩
  · subst c1
    refine m_null (y := yiJ4_parentOf) dJ4_parentOf_4 ?_
    refine m_goto (y := yiJ4_parentOf) 12 dJ4_parentOf_5 (by decide) ?_
    subst hQ; exact m_aret (y := yiJ4_parentOf) (x := none) dJ4_parentOf_12 rfl (Or.inl ⟨_, rfl⟩) ⟨none, rfl, ⟨rfl, rfl⟩⟩
theorem c_J4_leftOf (q : Option Nat) (hF : TmF h m L ko vl lf rt pa co root sz mc) (hq : OM L q) : Mt K yiJ4_leftOf d [va_rf q] h (Rq fun r h' => h = h' ∧ ob lf q = r) := by
  refine mt_ofQc (by decide) (Nat.le_of_ble_eq_true rfl) ⟨va_rf_c, trivial⟩ (fun Q hQ => ?_)
  show MW K yiJ4_leftOf d h 0 [some (va_rf q)] [] Q
  refine mw_wf (fun hwf => ?_)
  refine m_aload_nq (y := yiJ4_leftOf) dJ4_leftOf_0 rfl ?_
  refine m_ifnonnull (y := yiJ4_leftOf) 8 dJ4_leftOf_1 (by decide) (fun a1 c1 => ?_) (fun c1 => ?_)
  · subst c1
    refine m_aload_n (y := yiJ4_leftOf) dJ4_leftOf_8 rfl ?_
    refine m_getfS (y := yiJ4_leftOf) kc_18 2 (by decide) dJ4_leftOf_9 q1770 (hF.2.1 a1 (by exact hq _ rfl)) rfl ?_
    subst hQ; exact m_aret (y := yiJ4_leftOf) (x := (lf a1)) dJ4_leftOf_12 rfl (Or.inl ⟨_, rfl⟩) ⟨(lf a1), rfl, ⟨rfl, rfl⟩⟩
  · subst c1
    refine m_null (y := yiJ4_leftOf) dJ4_leftOf_4 ?_
    refine m_goto (y := yiJ4_leftOf) 12 dJ4_leftOf_5 (by decide) ?_
    subst hQ; exact m_aret (y := yiJ4_leftOf) (x := none) dJ4_leftOf_12 rfl (Or.inl ⟨_, rfl⟩) ⟨none, rfl, ⟨rfl, rfl⟩⟩
theorem c_J4_rightOf (q : Option Nat) (hF : TmF h m L ko vl lf rt pa co root sz mc) (hq : OM L q) : Mt K yiJ4_rightOf d [va_rf q] h (Rq fun r h' => h = h' ∧ ob rt q = r) := by
  refine mt_ofQc (by decide) (Nat.le_of_ble_eq_true rfl) ⟨va_rf_c, trivial⟩ (fun Q hQ => ?_)
  show MW K yiJ4_rightOf d h 0 [some (va_rf q)] [] Q
  refine mw_wf (fun hwf => ?_)
  refine m_aload_nq (y := yiJ4_rightOf) dJ4_rightOf_0 rfl ?_
  refine m_ifnonnull (y := yiJ4_rightOf) 8 dJ4_rightOf_1 (by decide) (fun a1 c1 => ?_) (fun c1 => ?_)
  · subst c1
    refine m_aload_n (y := yiJ4_rightOf) dJ4_rightOf_8 rfl ?_
    refine m_getfS (y := yiJ4_rightOf) kc_18 3 (by decide) dJ4_rightOf_9 q1771 (hF.2.1 a1 (by exact hq _ rfl)) rfl ?_
    subst hQ; exact m_aret (y := yiJ4_rightOf) (x := (rt a1)) dJ4_rightOf_12 rfl (Or.inl ⟨_, rfl⟩) ⟨(rt a1), rfl, ⟨rfl, rfl⟩⟩
  · subst c1
    refine m_null (y := yiJ4_rightOf) dJ4_rightOf_4 ?_
    refine m_goto (y := yiJ4_rightOf) 12 dJ4_rightOf_5 (by decide) ?_
    subst hQ; exact m_aret (y := yiJ4_rightOf) (x := none) dJ4_rightOf_12 rfl (Or.inl ⟨_, rfl⟩) ⟨none, rfl, ⟨rfl, rfl⟩⟩
theorem c_J4_colorOf (q : Option Nat) (hF : TmF h m L ko vl lf rt pa co root sz mc) (hq : OM L q) : Mt K yiJ4_colorOf d [va_rf q] h (Rz fun r h' => h = h' ∧ oc co q = r) := by
  refine mt_ofQc (by decide) (Nat.le_of_ble_eq_true rfl) ⟨va_rf_c, trivial⟩ (fun Q hQ => ?_)
  show MW K yiJ4_colorOf d h 0 [some (va_rf q)] [] Q
  refine mw_wf (fun hwf => ?_)
  refine m_aload_nq (y := yiJ4_colorOf) dJ4_colorOf_0 rfl ?_
  refine m_ifnonnull (y := yiJ4_colorOf) 8 dJ4_colorOf_1 (by decide) (fun a1 c1 => ?_) (fun c1 => ?_)
  · subst c1
    refine m_aload_n (y := yiJ4_colorOf) dJ4_colorOf_8 rfl ?_
    have hc9 := hF.2.2 a1 (hq a1 rfl)
    refine m_getfS (y := yiJ4_colorOf) kc_18 5 (by decide) dJ4_colorOf_9 q1775 (hF.2.1 a1 (by exact hq _ rfl)) rfl ?_
    subst hQ; exact j_zret (y := yiJ4_colorOf) dJ4_colorOf_12 rfl (by omega) (⟨rfl, rfl⟩)
  · subst c1
    refine j_iconst (y := yiJ4_colorOf) dJ4_colorOf_4 ?_
    refine m_goto (y := yiJ4_colorOf) 12 dJ4_colorOf_5 (by decide) ?_
    subst hQ; exact j_zret (y := yiJ4_colorOf) dJ4_colorOf_12 rfl (by omega) (⟨rfl, rfl⟩)
theorem c_J4_setColor (q : Option Nat) (c : Int) (hF : TmF h m L ko vl lf rt pa co root sz mc) (hq : OM L q) (hc : c = 0 ∨ c = 1) : Mt K yiJ4_setColor d [va_rf q, vi c] h (Rv fun h' => TFr L m h h' ∧ TmF h' m L ko vl lf rt pa (usc co q c) root sz mc) := by
  have hT : TFr L m h h := TFr.refl
  refine mt_ofQc (by decide) (Nat.le_of_ble_eq_true rfl) ⟨va_rf_c, (show (1 : Nat) ≠ 2 by decide), trivial⟩ (fun Q hQ => ?_)
  show MW K yiJ4_setColor d h 0 [some (va_rf q), some (vi c)] [] Q
  refine mw_wf (fun hwf => ?_)
  refine m_aload_nq (y := yiJ4_setColor) dJ4_setColor_0 rfl ?_
  refine m_ifnull (y := yiJ4_setColor) 9 dJ4_setColor_1 (by decide) (fun c1 => ?_) (fun a1 c1 => ?_)
  · subst c1
    subst hQ; exact j_vret (y := yiJ4_setColor) dJ4_setColor_9 rfl (⟨hT, hF⟩)
  · subst c1
    refine m_aload_n (y := yiJ4_setColor) dJ4_setColor_4 rfl ?_
    refine j_iload_n (y := yiJ4_setColor) dJ4_setColor_5 rfl ?_
    refine m_putfS (y := yiJ4_setColor) kc_18 5 (by decide) dJ4_setColor_6 q1775 rfl (hF.2.1 a1 (by exact hq _ rfl)) (nz01 (by omega)) (fz01 (by omega)) (hp_put fun g1 g1H => ?_)
    have hFg1 := TmF.p5 hF (by exact hq _ rfl) g1H
    have hTg1 := TFr.put hT (by exact hq _ rfl) g1H
    subst hQ; exact j_vret (y := yiJ4_setColor) dJ4_setColor_9 rfl (⟨hTg1, hFg1⟩)
/-- a turn, done -/
def RoO (h' : MH) (m : Nat) (L : List Nat) (key : Nat → Int) (ko : Nat → Nat) (vl lf rt pa : Nat → Option Nat) (co lo hi : Nat → Int) (root : Option Nat) (sz mc LO HI : Int) (p r : Nat) : Prop := ∃ (lf' rt' pa' : Nat → Option Nat) (lo' hi' : Nat → Int) (root' : Option Nat), TmF h' m L ko vl lf' rt' pa' co root' sz mc ∧ TmI L key lf' rt' pa' lo' hi' root' LO HI ∧ RotQ L lf rt pa lo hi lf' rt' pa' lo' hi' p r ∧ root' = roR root pa p r
def RoOR (h' : MH) (m : Nat) (L : List Nat) (key : Nat → Int) (ko : Nat → Nat) (vl lf rt pa : Nat → Option Nat) (co lo hi : Nat → Int) (root : Option Nat) (sz mc LO HI : Int) (p r : Nat) : Prop := ∃ (lf' rt' pa' : Nat → Option Nat) (lo' hi' : Nat → Int) (root' : Option Nat), TmF h' m L ko vl lf' rt' pa' co root' sz mc ∧ TmI L key lf' rt' pa' lo' hi' root' LO HI ∧ RotQ L rt lf pa lo hi rt' lf' pa' lo' hi' p r ∧ root' = roR root pa p r
theorem TmI.near {p r : Nat} (H : TmI L key lf rt pa lo hi root LO HI) (hp : p ∈ L) (hr : rt p = some r) : (r ∈ L ∧ p ≠ r ∧ pa r = some p) ∧ (∀ g, pa p = some g → g ∈ L ∧ g ≠ p ∧ g ≠ r ∧ lf r ≠ some g ∧ (lf g = some p ∨ (rt g = some p ∧ lf g ≠ some p))) ∧ ∀ c, lf r = some c → c ∈ L ∧ c ≠ p ∧ c ≠ r ∧ pa p ≠ some c := by
  obtain ⟨⟨s1, s2, s3, s4, s5, s6, s7, s8, s9, s10, s11⟩, -⟩ := H
  obtain ⟨hrL, hrp, hrlo, hrhi⟩ := s6 p r hp hr
  have bp := s4 p hp
  have br := s4 r hrL
  have npr : p ≠ r := fun e => by subst e; omega
  have hc : ∀ c, lf r = some c → c ∈ L ∧ c ≠ p ∧ c ≠ r ∧ key p < key c ∧ key c < key r := fun c e => by
    obtain ⟨c1, c2, c3, c4⟩ := s5 r c hrL e
    have bc := s4 c c1
    exact ⟨c1, fun e9 => by subst e9; omega, fun e9 => by subst e9; omega, by omega, by omega⟩
  have hg : ∀ g, pa p = some g → g ∈ L ∧ g ≠ p ∧ g ≠ r ∧ (key g ≤ lo p ∨ hi p ≤ key g) ∧ (lf g = some p ∨ (rt g = some p ∧ lf g ≠ some p)) := fun g e => by
    obtain ⟨g1, g2⟩ := s7 p g hp e
    have bg := s4 g g1
    by_cases g3 : lf g = some p
    · have z := s5 g p g1 g3
      exact ⟨g1, fun e9 => by subst e9; omega, fun e9 => by subst e9; omega, by omega, Or.inl g3⟩
    · have g4 := g2.resolve_left g3
      have z := s6 g p g1 g4
      exact ⟨g1, fun e9 => by subst e9; omega, fun e9 => by subst e9; omega, by omega, Or.inr ⟨g4, g3⟩⟩
  refine ⟨⟨hrL, npr, hrp⟩, fun g e => ?_, fun c e => ?_⟩
  · obtain ⟨g1, g2, g3, g4, g5⟩ := hg g e
    refine ⟨g1, g2, g3, fun e9 => ?_, g5⟩
    have z := hc g e9; omega
  · obtain ⟨c1, c2, c3, c4, c5⟩ := hc c e
    refine ⟨c1, c2, c3, fun e9 => ?_⟩
    have z := hg c e9; omega
theorem TmF.rotL {p r : Nat} {h' : MH} (H : TmF h m L ko vl lf rt pa co root sz mc) (hI : TmI L key lf rt pa lo hi root LO HI) (hp : p ∈ L) (hr : rt p = some r) (e1 : h'.2.2 m = some (true, .inr (17, [.null, .null, .null, va_rf (roR root pa p r), vi sz, vi mc, .null, .null, .null]))) (e2 : h'.2.2 p = some (true, .inr (18, [.ref (ko p), va_rf (vl p), va_rf (lf p), va_rf (lf r), va_rf (some r), vi (co p)]))) (e3 : h'.2.2 r = some (true, .inr (18, [.ref (ko r), va_rf (vl r), va_rf (some p), va_rf (rt r), va_rf (pa p), vi (co r)]))) (e4 : ∀ c, lf r = some c → h'.2.2 c = some (true, .inr (18, [.ref (ko c), va_rf (vl c), va_rf (lf c), va_rf (rt c), va_rf (some p), vi (co c)]))) (e5 : ∀ g, pa p = some g → h'.2.2 g = some (true, .inr (18, [.ref (ko g), va_rf (vl g), va_rf (if lf g = some p then some r else lf g), va_rf (if lf g = some p then rt g else some r), va_rf (pa g), vi (co g)]))) (fr : ∀ b, (b ≠ m ∧ b ≠ p ∧ b ≠ r ∧ lf r ≠ some b ∧ pa p ≠ some b) → h'.2.2 b = h.2.2 b) : TmF h' m L ko vl (upA lf p r pa) (upB rt lf p r pa) (upP pa lf p r) co (roR root pa p r) sz mc := by
  obtain ⟨⟨hrL, npr, hrp⟩, hg, hc⟩ := hI.near hp hr
  have nrp : r ≠ p := fun e => npr e.symm
  refine ⟨e1, fun a ha => ?_, H.2.2⟩
  by_cases x1 : a = p
  · rw [x1, upA_o npr (fun e9 => by have z := hg p e9.1; exact z.2.1 rfl), upB_p, upP_p]; exact e2
  by_cases x2 : a = r
  · rw [x2, upA_r, upB_o nrp (fun e9 => by have z := hg r e9.1; exact z.2.2.1 rfl), upP_r nrp]; exact e3
  by_cases x3 : lf r = some a
  · have z := hc a x3
    rw [upA_o x2 (fun e9 => z.2.2.2 e9.1), upB_o x1 (fun e9 => z.2.2.2 e9.1), upP_c x1 x2 x3]; exact e4 a x3
  by_cases x4 : pa p = some a
  · have z := hg a x4
    rw [upP_o x1 x2 x3, e5 a x4]
    by_cases x5 : lf a = some p
    · rw [if_pos x5, if_pos x5, upA_g x2 x4 x5, upB_o x1 (fun e9 => e9.2 x5)]
    · rw [if_neg x5, if_neg x5, upA_o x2 (fun e9 => x5 e9.2), upB_g x1 x4 x5]
  · rw [upA_o x2 (fun e9 => x4 e9.1), upB_o x1 (fun e9 => x4 e9.1), upP_o x1 x2 x3, fr a ⟨fun e9 => H.mL (by rw [← e9]; exact ha), x1, x2, x3, x4⟩]
    exact H.2.1 a ha
theorem c_J4_rotateLeft {p r : Nat} (hF : TmF h m L ko vl lf rt pa co root sz mc) (hI : TmI L key lf rt pa lo hi root LO HI) (hp : p ∈ L) (hr : rt p = some r) : Mt K yiJ4_rotateLeft d [.ref m, .ref p] h (Rv fun h' => TFr L m h h' ∧ RoO h' m L key ko vl lf rt pa co lo hi root sz mc LO HI p r) := by
  obtain ⟨⟨hrL, npr, hrp⟩, hg, hc⟩ := hI.near hp hr
  have hm := hF.1
  have hcp0 := hF.2.1 p hp
  have hcr0 := hF.2.1 r hrL
  have nmp : m ≠ p := ne_oo hm hcp0 (by decide)
  have nmr : m ≠ r := ne_oo hm hcr0 (by decide)
  rw [hr] at hcp0
  have hTF : ∀ g : MH, g.1 = h.1 → g.2.1 = h.2.1 → (∀ b, (b ≠ m ∧ b ≠ p ∧ b ≠ r ∧ lf r ≠ some b ∧ pa p ≠ some b) → g.2.2 b = h.2.2 b) → TFr L m h g := fun g e1 e2 e3 => ⟨e1, e2, fun b hb => e3 b ⟨hb.2, fun e9 => hb.1 (by rw [e9]; exact hp), fun e9 => hb.1 (by rw [e9]; exact hrL), fun e9 => hb.1 (hc b e9).1, fun e9 => hb.1 (hg b e9).1⟩⟩
  cases hlr : lf r with
  | none =>
    rw [hlr, hrp] at hcr0
    cases hpp : pa p with
    | none =>
      rw [hpp] at hcp0
      refine mt_ofQ (by decide) (Nat.le_of_ble_eq_true rfl) (fun Q hQ => ?_)
      show MW K yiJ4_rotateLeft d h 0 [some (.ref m), some (.ref p), none] [] Q
      refine mw_wf (fun hwf => ?_)
      have l_hm := hwf _ _ hm
      have l_hcp0 := hwf _ _ hcp0
      have l_hcr0 := hwf _ _ hcr0
      have fR : ∀ b, (b ≠ m ∧ b ≠ p ∧ b ≠ r ∧ lf r ≠ some b ∧ pa p ≠ some b) → h.2.2 b = h.2.2 b := fun _ _ => rfl
      refine m_aload_n (y := yiJ4_rotateLeft) dJ4_rotateLeft_0 rfl ?_
      refine m_ifnull (y := yiJ4_rotateLeft) (x := (some p)) 95 dJ4_rotateLeft_1 (by decide) (fun h9 => nomatch h9) (fun _ _ => ?_)
      refine m_aload_n (y := yiJ4_rotateLeft) dJ4_rotateLeft_4 rfl ?_
      refine m_getfS (y := yiJ4_rotateLeft) kc_18 3 (by decide) dJ4_rotateLeft_5 q1771 hcp0 rfl ?_
      refine m_astore_n (y := yiJ4_rotateLeft) dJ4_rotateLeft_8 (by decide) rfl ?_
      show MW K yiJ4_rotateLeft d h 9 [some (.ref m), some (.ref p), some (.ref r)] [] Q
      refine m_aload_n (y := yiJ4_rotateLeft) dJ4_rotateLeft_9 rfl ?_
      refine m_aload_n (y := yiJ4_rotateLeft) dJ4_rotateLeft_10 rfl ?_
      refine m_getfS (y := yiJ4_rotateLeft) kc_18 2 (by decide) dJ4_rotateLeft_11 q1770 hcr0 rfl ?_
      refine m_putfS (y := yiJ4_rotateLeft) kc_18 3 (by decide) dJ4_rotateLeft_14 q1771 rfl hcp0 rfl rfl (hp_put fun g1 g1H => ?_)
      have hm : g1.2.2 m = some (true, .inr (17, [.null, .null, .null, (va_rf root), (vi sz), (vi mc), .null, .null, .null])) := (g1H.2.2.2 _ (by first | omega | exact (fun e9 => hb.2.2.2.1 (by rw [e9]; exact hlr)) | exact (fun e9 => hb.2.2.2.2 (by rw [e9]; exact hpp)))).trans hm
      have hcr0 : g1.2.2 r = some (true, .inr (18, [(.ref (ko r)), (va_rf (vl r)), .null, (va_rf (rt r)), (.ref p), (vi (co r))])) := (g1H.2.2.2 _ (by first | omega | exact (fun e9 => hb.2.2.2.1 (by rw [e9]; exact hlr)) | exact (fun e9 => hb.2.2.2.2 (by rw [e9]; exact hpp)))).trans hcr0
      have fR : ∀ b, (b ≠ m ∧ b ≠ p ∧ b ≠ r ∧ lf r ≠ some b ∧ pa p ≠ some b) → g1.2.2 b = h.2.2 b := fun b hb => (g1H.2.2.2 b (by first | omega | exact (fun e9 => hb.2.2.2.1 (by rw [e9]; exact hlr)) | exact (fun e9 => hb.2.2.2.2 (by rw [e9]; exact hpp)))).trans (fR b hb)
      have hcp0 : g1.2.2 p = some (true, .inr (18, [(.ref (ko p)), (va_rf (vl p)), (va_rf (lf p)), .null, .null, (vi (co p))])) := g1H.2.2.1
      have g11 := g1H.1
      have g12 := g1H.2.1
      refine m_aload_n (y := yiJ4_rotateLeft) dJ4_rotateLeft_17 rfl ?_
      refine m_getfS (y := yiJ4_rotateLeft) kc_18 2 (by decide) dJ4_rotateLeft_18 q1770 hcr0 rfl ?_
      refine m_ifnull (y := yiJ4_rotateLeft) (x := none) 32 dJ4_rotateLeft_21 (by decide) (fun _ => ?_) (fun _ h9 => nomatch h9)
      refine m_aload_n (y := yiJ4_rotateLeft) dJ4_rotateLeft_32 rfl ?_
      refine m_aload_n (y := yiJ4_rotateLeft) dJ4_rotateLeft_33 rfl ?_
      refine m_getfS (y := yiJ4_rotateLeft) kc_18 4 (by decide) dJ4_rotateLeft_34 q1773 hcp0 rfl ?_
      refine m_putfS (y := yiJ4_rotateLeft) kc_18 4 (by decide) dJ4_rotateLeft_37 q1773 rfl hcr0 rfl rfl (hp_put fun g2 g2H => ?_)
      have hm : g2.2.2 m = some (true, .inr (17, [.null, .null, .null, (va_rf root), (vi sz), (vi mc), .null, .null, .null])) := (g2H.2.2.2 _ (by first | omega | exact (fun e9 => hb.2.2.2.1 (by rw [e9]; exact hlr)) | exact (fun e9 => hb.2.2.2.2 (by rw [e9]; exact hpp)))).trans hm
      have hcp0 : g2.2.2 p = some (true, .inr (18, [(.ref (ko p)), (va_rf (vl p)), (va_rf (lf p)), .null, .null, (vi (co p))])) := (g2H.2.2.2 _ (by first | omega | exact (fun e9 => hb.2.2.2.1 (by rw [e9]; exact hlr)) | exact (fun e9 => hb.2.2.2.2 (by rw [e9]; exact hpp)))).trans hcp0
      have fR : ∀ b, (b ≠ m ∧ b ≠ p ∧ b ≠ r ∧ lf r ≠ some b ∧ pa p ≠ some b) → g2.2.2 b = h.2.2 b := fun b hb => (g2H.2.2.2 b (by first | omega | exact (fun e9 => hb.2.2.2.1 (by rw [e9]; exact hlr)) | exact (fun e9 => hb.2.2.2.2 (by rw [e9]; exact hpp)))).trans (fR b hb)
      have hcr0 : g2.2.2 r = some (true, .inr (18, [(.ref (ko r)), (va_rf (vl r)), .null, (va_rf (rt r)), .null, (vi (co r))])) := g2H.2.2.1
      have g21 := g2H.1
      have g22 := g2H.2.1
      refine m_aload_n (y := yiJ4_rotateLeft) dJ4_rotateLeft_40 rfl ?_
      refine m_getfS (y := yiJ4_rotateLeft) kc_18 4 (by decide) dJ4_rotateLeft_41 q1773 hcp0 rfl ?_
      refine m_ifnonnull (y := yiJ4_rotateLeft) (x := none) 55 dJ4_rotateLeft_44 (by decide) (fun _ h9 => nomatch h9) (fun _ => ?_)
      refine m_aload_n (y := yiJ4_rotateLeft) dJ4_rotateLeft_47 rfl ?_
      refine m_aload_n (y := yiJ4_rotateLeft) dJ4_rotateLeft_48 rfl ?_
      refine m_putfS (y := yiJ4_rotateLeft) kc_17 3 (by decide) dJ4_rotateLeft_49 q240 rfl hm rfl rfl (hp_put fun g3 g3H => ?_)
      have hcp0 : g3.2.2 p = some (true, .inr (18, [(.ref (ko p)), (va_rf (vl p)), (va_rf (lf p)), .null, .null, (vi (co p))])) := (g3H.2.2.2 _ (by first | omega | exact (fun e9 => hb.2.2.2.1 (by rw [e9]; exact hlr)) | exact (fun e9 => hb.2.2.2.2 (by rw [e9]; exact hpp)))).trans hcp0
      have hcr0 : g3.2.2 r = some (true, .inr (18, [(.ref (ko r)), (va_rf (vl r)), .null, (va_rf (rt r)), .null, (vi (co r))])) := (g3H.2.2.2 _ (by first | omega | exact (fun e9 => hb.2.2.2.1 (by rw [e9]; exact hlr)) | exact (fun e9 => hb.2.2.2.2 (by rw [e9]; exact hpp)))).trans hcr0
      have fR : ∀ b, (b ≠ m ∧ b ≠ p ∧ b ≠ r ∧ lf r ≠ some b ∧ pa p ≠ some b) → g3.2.2 b = h.2.2 b := fun b hb => (g3H.2.2.2 b (by first | omega | exact (fun e9 => hb.2.2.2.1 (by rw [e9]; exact hlr)) | exact (fun e9 => hb.2.2.2.2 (by rw [e9]; exact hpp)))).trans (fR b hb)
      have hm : g3.2.2 m = some (true, .inr (17, [.null, .null, .null, (.ref r), (vi sz), (vi mc), .null, .null, .null])) := g3H.2.2.1
      have g31 := g3H.1
      have g32 := g3H.2.1
      refine m_goto (y := yiJ4_rotateLeft) 85 dJ4_rotateLeft_52 (by decide) ?_
      refine m_aload_n (y := yiJ4_rotateLeft) dJ4_rotateLeft_85 rfl ?_
      refine m_aload_n (y := yiJ4_rotateLeft) dJ4_rotateLeft_86 rfl ?_
      refine m_putfS (y := yiJ4_rotateLeft) kc_18 2 (by decide) dJ4_rotateLeft_87 q1770 rfl hcr0 rfl rfl (hp_put fun g4 g4H => ?_)
      have hm : g4.2.2 m = some (true, .inr (17, [.null, .null, .null, (.ref r), (vi sz), (vi mc), .null, .null, .null])) := (g4H.2.2.2 _ (by first | omega | exact (fun e9 => hb.2.2.2.1 (by rw [e9]; exact hlr)) | exact (fun e9 => hb.2.2.2.2 (by rw [e9]; exact hpp)))).trans hm
      have hcp0 : g4.2.2 p = some (true, .inr (18, [(.ref (ko p)), (va_rf (vl p)), (va_rf (lf p)), .null, .null, (vi (co p))])) := (g4H.2.2.2 _ (by first | omega | exact (fun e9 => hb.2.2.2.1 (by rw [e9]; exact hlr)) | exact (fun e9 => hb.2.2.2.2 (by rw [e9]; exact hpp)))).trans hcp0
      have fR : ∀ b, (b ≠ m ∧ b ≠ p ∧ b ≠ r ∧ lf r ≠ some b ∧ pa p ≠ some b) → g4.2.2 b = h.2.2 b := fun b hb => (g4H.2.2.2 b (by first | omega | exact (fun e9 => hb.2.2.2.1 (by rw [e9]; exact hlr)) | exact (fun e9 => hb.2.2.2.2 (by rw [e9]; exact hpp)))).trans (fR b hb)
      have hcr0 : g4.2.2 r = some (true, .inr (18, [(.ref (ko r)), (va_rf (vl r)), (.ref p), (va_rf (rt r)), .null, (vi (co r))])) := g4H.2.2.1
      have g41 := g4H.1
      have g42 := g4H.2.1
      refine m_aload_n (y := yiJ4_rotateLeft) dJ4_rotateLeft_90 rfl ?_
      refine m_aload_n (y := yiJ4_rotateLeft) dJ4_rotateLeft_91 rfl ?_
      refine m_putfS (y := yiJ4_rotateLeft) kc_18 4 (by decide) dJ4_rotateLeft_92 q1773 rfl hcp0 rfl rfl (hp_put fun g5 g5H => ?_)
      have hm : g5.2.2 m = some (true, .inr (17, [.null, .null, .null, (.ref r), (vi sz), (vi mc), .null, .null, .null])) := (g5H.2.2.2 _ (by first | omega | exact (fun e9 => hb.2.2.2.1 (by rw [e9]; exact hlr)) | exact (fun e9 => hb.2.2.2.2 (by rw [e9]; exact hpp)))).trans hm
      have hcr0 : g5.2.2 r = some (true, .inr (18, [(.ref (ko r)), (va_rf (vl r)), (.ref p), (va_rf (rt r)), .null, (vi (co r))])) := (g5H.2.2.2 _ (by first | omega | exact (fun e9 => hb.2.2.2.1 (by rw [e9]; exact hlr)) | exact (fun e9 => hb.2.2.2.2 (by rw [e9]; exact hpp)))).trans hcr0
      have fR : ∀ b, (b ≠ m ∧ b ≠ p ∧ b ≠ r ∧ lf r ≠ some b ∧ pa p ≠ some b) → g5.2.2 b = h.2.2 b := fun b hb => (g5H.2.2.2 b (by first | omega | exact (fun e9 => hb.2.2.2.1 (by rw [e9]; exact hlr)) | exact (fun e9 => hb.2.2.2.2 (by rw [e9]; exact hpp)))).trans (fR b hb)
      have hcp0 : g5.2.2 p = some (true, .inr (18, [(.ref (ko p)), (va_rf (vl p)), (va_rf (lf p)), .null, (.ref r), (vi (co p))])) := g5H.2.2.1
      have g51 := g5H.1
      have g52 := g5H.2.1
      subst hQ; exact j_vret (y := yiJ4_rotateLeft) dJ4_rotateLeft_95 rfl (⟨hTF _ (by omega) (by omega) fR, _, _, _, _, _, _, TmF.rotL hF hI hp hr (by unfold roR; rw [if_pos hpp]; exact hm) (by rw [hlr]; exact hcp0) (by rw [hpp]; exact hcr0) (fun c9 e => by { rw [hlr] at e; cases e }) (fun g9 e => by { rw [hpp] at e; cases e }) fR, hI.rot hp hr, (hI.1.rot hp hr).2, rfl⟩)
    | some g =>
      rw [hpp] at hcp0
      obtain ⟨hgL, ngp, ngr, ngc, hgs⟩ := hg g hpp
      have hcg0 := hF.2.1 g hgL
      have nmg : m ≠ g := ne_oo hm hcg0 (by decide)
      by_cases hlg : lf g = some p
      · rw [hlg] at hcg0
        refine mt_ofQ (by decide) (Nat.le_of_ble_eq_true rfl) (fun Q hQ => ?_)
        show MW K yiJ4_rotateLeft d h 0 [some (.ref m), some (.ref p), none] [] Q
        refine mw_wf (fun hwf => ?_)
        have l_hm := hwf _ _ hm
        have l_hcp0 := hwf _ _ hcp0
        have l_hcr0 := hwf _ _ hcr0
        have l_hcg0 := hwf _ _ hcg0
        have fR : ∀ b, (b ≠ m ∧ b ≠ p ∧ b ≠ r ∧ lf r ≠ some b ∧ pa p ≠ some b) → h.2.2 b = h.2.2 b := fun _ _ => rfl
        refine m_aload_n (y := yiJ4_rotateLeft) dJ4_rotateLeft_0 rfl ?_
        refine m_ifnull (y := yiJ4_rotateLeft) (x := (some p)) 95 dJ4_rotateLeft_1 (by decide) (fun h9 => nomatch h9) (fun _ _ => ?_)
        refine m_aload_n (y := yiJ4_rotateLeft) dJ4_rotateLeft_4 rfl ?_
        refine m_getfS (y := yiJ4_rotateLeft) kc_18 3 (by decide) dJ4_rotateLeft_5 q1771 hcp0 rfl ?_
        refine m_astore_n (y := yiJ4_rotateLeft) dJ4_rotateLeft_8 (by decide) rfl ?_
        show MW K yiJ4_rotateLeft d h 9 [some (.ref m), some (.ref p), some (.ref r)] [] Q
        refine m_aload_n (y := yiJ4_rotateLeft) dJ4_rotateLeft_9 rfl ?_
        refine m_aload_n (y := yiJ4_rotateLeft) dJ4_rotateLeft_10 rfl ?_
        refine m_getfS (y := yiJ4_rotateLeft) kc_18 2 (by decide) dJ4_rotateLeft_11 q1770 hcr0 rfl ?_
        refine m_putfS (y := yiJ4_rotateLeft) kc_18 3 (by decide) dJ4_rotateLeft_14 q1771 rfl hcp0 rfl rfl (hp_put fun g1 g1H => ?_)
        have hm : g1.2.2 m = some (true, .inr (17, [.null, .null, .null, (va_rf root), (vi sz), (vi mc), .null, .null, .null])) := (g1H.2.2.2 _ (by first | omega | exact (fun e9 => hb.2.2.2.1 (by rw [e9]; exact hlr)) | exact (fun e9 => hb.2.2.2.2 (by rw [e9]; exact hpp)))).trans hm
        have hcr0 : g1.2.2 r = some (true, .inr (18, [(.ref (ko r)), (va_rf (vl r)), .null, (va_rf (rt r)), (.ref p), (vi (co r))])) := (g1H.2.2.2 _ (by first | omega | exact (fun e9 => hb.2.2.2.1 (by rw [e9]; exact hlr)) | exact (fun e9 => hb.2.2.2.2 (by rw [e9]; exact hpp)))).trans hcr0
        have hcg0 : g1.2.2 g = some (true, .inr (18, [(.ref (ko g)), (va_rf (vl g)), (.ref p), (va_rf (rt g)), (va_rf (pa g)), (vi (co g))])) := (g1H.2.2.2 _ (by first | omega | exact (fun e9 => hb.2.2.2.1 (by rw [e9]; exact hlr)) | exact (fun e9 => hb.2.2.2.2 (by rw [e9]; exact hpp)))).trans hcg0
        have fR : ∀ b, (b ≠ m ∧ b ≠ p ∧ b ≠ r ∧ lf r ≠ some b ∧ pa p ≠ some b) → g1.2.2 b = h.2.2 b := fun b hb => (g1H.2.2.2 b (by first | omega | exact (fun e9 => hb.2.2.2.1 (by rw [e9]; exact hlr)) | exact (fun e9 => hb.2.2.2.2 (by rw [e9]; exact hpp)))).trans (fR b hb)
        have hcp0 : g1.2.2 p = some (true, .inr (18, [(.ref (ko p)), (va_rf (vl p)), (va_rf (lf p)), .null, (.ref g), (vi (co p))])) := g1H.2.2.1
        have g11 := g1H.1
        have g12 := g1H.2.1
        refine m_aload_n (y := yiJ4_rotateLeft) dJ4_rotateLeft_17 rfl ?_
        refine m_getfS (y := yiJ4_rotateLeft) kc_18 2 (by decide) dJ4_rotateLeft_18 q1770 hcr0 rfl ?_
        refine m_ifnull (y := yiJ4_rotateLeft) (x := none) 32 dJ4_rotateLeft_21 (by decide) (fun _ => ?_) (fun _ h9 => nomatch h9)
        refine m_aload_n (y := yiJ4_rotateLeft) dJ4_rotateLeft_32 rfl ?_
        refine m_aload_n (y := yiJ4_rotateLeft) dJ4_rotateLeft_33 rfl ?_
        refine m_getfS (y := yiJ4_rotateLeft) kc_18 4 (by decide) dJ4_rotateLeft_34 q1773 hcp0 rfl ?_
        refine m_putfS (y := yiJ4_rotateLeft) kc_18 4 (by decide) dJ4_rotateLeft_37 q1773 rfl hcr0 rfl rfl (hp_put fun g2 g2H => ?_)
        have hm : g2.2.2 m = some (true, .inr (17, [.null, .null, .null, (va_rf root), (vi sz), (vi mc), .null, .null, .null])) := (g2H.2.2.2 _ (by first | omega | exact (fun e9 => hb.2.2.2.1 (by rw [e9]; exact hlr)) | exact (fun e9 => hb.2.2.2.2 (by rw [e9]; exact hpp)))).trans hm
        have hcp0 : g2.2.2 p = some (true, .inr (18, [(.ref (ko p)), (va_rf (vl p)), (va_rf (lf p)), .null, (.ref g), (vi (co p))])) := (g2H.2.2.2 _ (by first | omega | exact (fun e9 => hb.2.2.2.1 (by rw [e9]; exact hlr)) | exact (fun e9 => hb.2.2.2.2 (by rw [e9]; exact hpp)))).trans hcp0
        have hcg0 : g2.2.2 g = some (true, .inr (18, [(.ref (ko g)), (va_rf (vl g)), (.ref p), (va_rf (rt g)), (va_rf (pa g)), (vi (co g))])) := (g2H.2.2.2 _ (by first | omega | exact (fun e9 => hb.2.2.2.1 (by rw [e9]; exact hlr)) | exact (fun e9 => hb.2.2.2.2 (by rw [e9]; exact hpp)))).trans hcg0
        have fR : ∀ b, (b ≠ m ∧ b ≠ p ∧ b ≠ r ∧ lf r ≠ some b ∧ pa p ≠ some b) → g2.2.2 b = h.2.2 b := fun b hb => (g2H.2.2.2 b (by first | omega | exact (fun e9 => hb.2.2.2.1 (by rw [e9]; exact hlr)) | exact (fun e9 => hb.2.2.2.2 (by rw [e9]; exact hpp)))).trans (fR b hb)
        have hcr0 : g2.2.2 r = some (true, .inr (18, [(.ref (ko r)), (va_rf (vl r)), .null, (va_rf (rt r)), (.ref g), (vi (co r))])) := g2H.2.2.1
        have g21 := g2H.1
        have g22 := g2H.2.1
        refine m_aload_n (y := yiJ4_rotateLeft) dJ4_rotateLeft_40 rfl ?_
        refine m_getfS (y := yiJ4_rotateLeft) kc_18 4 (by decide) dJ4_rotateLeft_41 q1773 hcp0 rfl ?_
        refine m_ifnonnull (y := yiJ4_rotateLeft) (x := (some g)) 55 dJ4_rotateLeft_44 (by decide) (fun _ _ => ?_) (fun h9 => nomatch h9)
        refine m_aload_n (y := yiJ4_rotateLeft) dJ4_rotateLeft_55 rfl ?_
        refine m_getfS (y := yiJ4_rotateLeft) kc_18 4 (by decide) dJ4_rotateLeft_56 q1773 hcp0 rfl ?_
        refine m_getfS (y := yiJ4_rotateLeft) kc_18 2 (by decide) dJ4_rotateLeft_59 q1770 hcg0 rfl ?_
        refine m_aload_n (y := yiJ4_rotateLeft) dJ4_rotateLeft_62 rfl ?_
        refine m_acmp_ne (y := yiJ4_rotateLeft) (x := (some p)) (z := (some p)) 77 dJ4_rotateLeft_63 (by decide) (fun c => absurd rfl c) (fun _ => ?_)
        refine m_aload_n (y := yiJ4_rotateLeft) dJ4_rotateLeft_66 rfl ?_
        refine m_getfS (y := yiJ4_rotateLeft) kc_18 4 (by decide) dJ4_rotateLeft_67 q1773 hcp0 rfl ?_
        refine m_aload_n (y := yiJ4_rotateLeft) dJ4_rotateLeft_70 rfl ?_
        refine m_putfS (y := yiJ4_rotateLeft) kc_18 2 (by decide) dJ4_rotateLeft_71 q1770 rfl hcg0 rfl rfl (hp_put fun g3 g3H => ?_)
        have hm : g3.2.2 m = some (true, .inr (17, [.null, .null, .null, (va_rf root), (vi sz), (vi mc), .null, .null, .null])) := (g3H.2.2.2 _ (by first | omega | exact (fun e9 => hb.2.2.2.1 (by rw [e9]; exact hlr)) | exact (fun e9 => hb.2.2.2.2 (by rw [e9]; exact hpp)))).trans hm
        have hcp0 : g3.2.2 p = some (true, .inr (18, [(.ref (ko p)), (va_rf (vl p)), (va_rf (lf p)), .null, (.ref g), (vi (co p))])) := (g3H.2.2.2 _ (by first | omega | exact (fun e9 => hb.2.2.2.1 (by rw [e9]; exact hlr)) | exact (fun e9 => hb.2.2.2.2 (by rw [e9]; exact hpp)))).trans hcp0
        have hcr0 : g3.2.2 r = some (true, .inr (18, [(.ref (ko r)), (va_rf (vl r)), .null, (va_rf (rt r)), (.ref g), (vi (co r))])) := (g3H.2.2.2 _ (by first | omega | exact (fun e9 => hb.2.2.2.1 (by rw [e9]; exact hlr)) | exact (fun e9 => hb.2.2.2.2 (by rw [e9]; exact hpp)))).trans hcr0
        have fR : ∀ b, (b ≠ m ∧ b ≠ p ∧ b ≠ r ∧ lf r ≠ some b ∧ pa p ≠ some b) → g3.2.2 b = h.2.2 b := fun b hb => (g3H.2.2.2 b (by first | omega | exact (fun e9 => hb.2.2.2.1 (by rw [e9]; exact hlr)) | exact (fun e9 => hb.2.2.2.2 (by rw [e9]; exact hpp)))).trans (fR b hb)
        have hcg0 : g3.2.2 g = some (true, .inr (18, [(.ref (ko g)), (va_rf (vl g)), (.ref r), (va_rf (rt g)), (va_rf (pa g)), (vi (co g))])) := g3H.2.2.1
        have g31 := g3H.1
        have g32 := g3H.2.1
        refine m_goto (y := yiJ4_rotateLeft) 85 dJ4_rotateLeft_74 (by decide) ?_
        refine m_aload_n (y := yiJ4_rotateLeft) dJ4_rotateLeft_85 rfl ?_
        refine m_aload_n (y := yiJ4_rotateLeft) dJ4_rotateLeft_86 rfl ?_
        refine m_putfS (y := yiJ4_rotateLeft) kc_18 2 (by decide) dJ4_rotateLeft_87 q1770 rfl hcr0 rfl rfl (hp_put fun g4 g4H => ?_)
        have hm : g4.2.2 m = some (true, .inr (17, [.null, .null, .null, (va_rf root), (vi sz), (vi mc), .null, .null, .null])) := (g4H.2.2.2 _ (by first | omega | exact (fun e9 => hb.2.2.2.1 (by rw [e9]; exact hlr)) | exact (fun e9 => hb.2.2.2.2 (by rw [e9]; exact hpp)))).trans hm
        have hcp0 : g4.2.2 p = some (true, .inr (18, [(.ref (ko p)), (va_rf (vl p)), (va_rf (lf p)), .null, (.ref g), (vi (co p))])) := (g4H.2.2.2 _ (by first | omega | exact (fun e9 => hb.2.2.2.1 (by rw [e9]; exact hlr)) | exact (fun e9 => hb.2.2.2.2 (by rw [e9]; exact hpp)))).trans hcp0
        have hcg0 : g4.2.2 g = some (true, .inr (18, [(.ref (ko g)), (va_rf (vl g)), (.ref r), (va_rf (rt g)), (va_rf (pa g)), (vi (co g))])) := (g4H.2.2.2 _ (by first | omega | exact (fun e9 => hb.2.2.2.1 (by rw [e9]; exact hlr)) | exact (fun e9 => hb.2.2.2.2 (by rw [e9]; exact hpp)))).trans hcg0
        have fR : ∀ b, (b ≠ m ∧ b ≠ p ∧ b ≠ r ∧ lf r ≠ some b ∧ pa p ≠ some b) → g4.2.2 b = h.2.2 b := fun b hb => (g4H.2.2.2 b (by first | omega | exact (fun e9 => hb.2.2.2.1 (by rw [e9]; exact hlr)) | exact (fun e9 => hb.2.2.2.2 (by rw [e9]; exact hpp)))).trans (fR b hb)
        have hcr0 : g4.2.2 r = some (true, .inr (18, [(.ref (ko r)), (va_rf (vl r)), (.ref p), (va_rf (rt r)), (.ref g), (vi (co r))])) := g4H.2.2.1
        have g41 := g4H.1
        have g42 := g4H.2.1
        refine m_aload_n (y := yiJ4_rotateLeft) dJ4_rotateLeft_90 rfl ?_
        refine m_aload_n (y := yiJ4_rotateLeft) dJ4_rotateLeft_91 rfl ?_
        refine m_putfS (y := yiJ4_rotateLeft) kc_18 4 (by decide) dJ4_rotateLeft_92 q1773 rfl hcp0 rfl rfl (hp_put fun g5 g5H => ?_)
        have hm : g5.2.2 m = some (true, .inr (17, [.null, .null, .null, (va_rf root), (vi sz), (vi mc), .null, .null, .null])) := (g5H.2.2.2 _ (by first | omega | exact (fun e9 => hb.2.2.2.1 (by rw [e9]; exact hlr)) | exact (fun e9 => hb.2.2.2.2 (by rw [e9]; exact hpp)))).trans hm
        have hcr0 : g5.2.2 r = some (true, .inr (18, [(.ref (ko r)), (va_rf (vl r)), (.ref p), (va_rf (rt r)), (.ref g), (vi (co r))])) := (g5H.2.2.2 _ (by first | omega | exact (fun e9 => hb.2.2.2.1 (by rw [e9]; exact hlr)) | exact (fun e9 => hb.2.2.2.2 (by rw [e9]; exact hpp)))).trans hcr0
        have hcg0 : g5.2.2 g = some (true, .inr (18, [(.ref (ko g)), (va_rf (vl g)), (.ref r), (va_rf (rt g)), (va_rf (pa g)), (vi (co g))])) := (g5H.2.2.2 _ (by first | omega | exact (fun e9 => hb.2.2.2.1 (by rw [e9]; exact hlr)) | exact (fun e9 => hb.2.2.2.2 (by rw [e9]; exact hpp)))).trans hcg0
        have fR : ∀ b, (b ≠ m ∧ b ≠ p ∧ b ≠ r ∧ lf r ≠ some b ∧ pa p ≠ some b) → g5.2.2 b = h.2.2 b := fun b hb => (g5H.2.2.2 b (by first | omega | exact (fun e9 => hb.2.2.2.1 (by rw [e9]; exact hlr)) | exact (fun e9 => hb.2.2.2.2 (by rw [e9]; exact hpp)))).trans (fR b hb)
        have hcp0 : g5.2.2 p = some (true, .inr (18, [(.ref (ko p)), (va_rf (vl p)), (va_rf (lf p)), .null, (.ref r), (vi (co p))])) := g5H.2.2.1
        have g51 := g5H.1
        have g52 := g5H.2.1
        subst hQ; exact j_vret (y := yiJ4_rotateLeft) dJ4_rotateLeft_95 rfl (⟨hTF _ (by omega) (by omega) fR, _, _, _, _, _, _, TmF.rotL hF hI hp hr (by unfold roR; rw [if_neg (by rw [hpp]; intro h9; cases h9)]; exact hm) (by rw [hlr]; exact hcp0) (by rw [hpp]; exact hcr0) (fun c9 e => by { rw [hlr] at e; cases e }) (fun g9 e => by { rw [hpp] at e; cases e; rw [if_pos hlg, if_pos hlg]; exact hcg0 }) fR, hI.rot hp hr, (hI.1.rot hp hr).2, rfl⟩)
      · have hng := hlg
        refine mt_ofQ (by decide) (Nat.le_of_ble_eq_true rfl) (fun Q hQ => ?_)
        show MW K yiJ4_rotateLeft d h 0 [some (.ref m), some (.ref p), none] [] Q
        refine mw_wf (fun hwf => ?_)
        have l_hm := hwf _ _ hm
        have l_hcp0 := hwf _ _ hcp0
        have l_hcr0 := hwf _ _ hcr0
        have l_hcg0 := hwf _ _ hcg0
        have fR : ∀ b, (b ≠ m ∧ b ≠ p ∧ b ≠ r ∧ lf r ≠ some b ∧ pa p ≠ some b) → h.2.2 b = h.2.2 b := fun _ _ => rfl
        refine m_aload_n (y := yiJ4_rotateLeft) dJ4_rotateLeft_0 rfl ?_
        refine m_ifnull (y := yiJ4_rotateLeft) (x := (some p)) 95 dJ4_rotateLeft_1 (by decide) (fun h9 => nomatch h9) (fun _ _ => ?_)
        refine m_aload_n (y := yiJ4_rotateLeft) dJ4_rotateLeft_4 rfl ?_
        refine m_getfS (y := yiJ4_rotateLeft) kc_18 3 (by decide) dJ4_rotateLeft_5 q1771 hcp0 rfl ?_
        refine m_astore_n (y := yiJ4_rotateLeft) dJ4_rotateLeft_8 (by decide) rfl ?_
        show MW K yiJ4_rotateLeft d h 9 [some (.ref m), some (.ref p), some (.ref r)] [] Q
        refine m_aload_n (y := yiJ4_rotateLeft) dJ4_rotateLeft_9 rfl ?_
        refine m_aload_n (y := yiJ4_rotateLeft) dJ4_rotateLeft_10 rfl ?_
        refine m_getfS (y := yiJ4_rotateLeft) kc_18 2 (by decide) dJ4_rotateLeft_11 q1770 hcr0 rfl ?_
        refine m_putfS (y := yiJ4_rotateLeft) kc_18 3 (by decide) dJ4_rotateLeft_14 q1771 rfl hcp0 rfl rfl (hp_put fun g1 g1H => ?_)
        have hm : g1.2.2 m = some (true, .inr (17, [.null, .null, .null, (va_rf root), (vi sz), (vi mc), .null, .null, .null])) := (g1H.2.2.2 _ (by first | omega | exact (fun e9 => hb.2.2.2.1 (by rw [e9]; exact hlr)) | exact (fun e9 => hb.2.2.2.2 (by rw [e9]; exact hpp)))).trans hm
        have hcr0 : g1.2.2 r = some (true, .inr (18, [(.ref (ko r)), (va_rf (vl r)), .null, (va_rf (rt r)), (.ref p), (vi (co r))])) := (g1H.2.2.2 _ (by first | omega | exact (fun e9 => hb.2.2.2.1 (by rw [e9]; exact hlr)) | exact (fun e9 => hb.2.2.2.2 (by rw [e9]; exact hpp)))).trans hcr0
        have hcg0 : g1.2.2 g = some (true, .inr (18, [(.ref (ko g)), (va_rf (vl g)), (va_rf (lf g)), (va_rf (rt g)), (va_rf (pa g)), (vi (co g))])) := (g1H.2.2.2 _ (by first | omega | exact (fun e9 => hb.2.2.2.1 (by rw [e9]; exact hlr)) | exact (fun e9 => hb.2.2.2.2 (by rw [e9]; exact hpp)))).trans hcg0
        have fR : ∀ b, (b ≠ m ∧ b ≠ p ∧ b ≠ r ∧ lf r ≠ some b ∧ pa p ≠ some b) → g1.2.2 b = h.2.2 b := fun b hb => (g1H.2.2.2 b (by first | omega | exact (fun e9 => hb.2.2.2.1 (by rw [e9]; exact hlr)) | exact (fun e9 => hb.2.2.2.2 (by rw [e9]; exact hpp)))).trans (fR b hb)
        have hcp0 : g1.2.2 p = some (true, .inr (18, [(.ref (ko p)), (va_rf (vl p)), (va_rf (lf p)), .null, (.ref g), (vi (co p))])) := g1H.2.2.1
        have g11 := g1H.1
        have g12 := g1H.2.1
        refine m_aload_n (y := yiJ4_rotateLeft) dJ4_rotateLeft_17 rfl ?_
        refine m_getfS (y := yiJ4_rotateLeft) kc_18 2 (by decide) dJ4_rotateLeft_18 q1770 hcr0 rfl ?_
        refine m_ifnull (y := yiJ4_rotateLeft) (x := none) 32 dJ4_rotateLeft_21 (by decide) (fun _ => ?_) (fun _ h9 => nomatch h9)
        refine m_aload_n (y := yiJ4_rotateLeft) dJ4_rotateLeft_32 rfl ?_
        refine m_aload_n (y := yiJ4_rotateLeft) dJ4_rotateLeft_33 rfl ?_
        refine m_getfS (y := yiJ4_rotateLeft) kc_18 4 (by decide) dJ4_rotateLeft_34 q1773 hcp0 rfl ?_
        refine m_putfS (y := yiJ4_rotateLeft) kc_18 4 (by decide) dJ4_rotateLeft_37 q1773 rfl hcr0 rfl rfl (hp_put fun g2 g2H => ?_)
        have hm : g2.2.2 m = some (true, .inr (17, [.null, .null, .null, (va_rf root), (vi sz), (vi mc), .null, .null, .null])) := (g2H.2.2.2 _ (by first | omega | exact (fun e9 => hb.2.2.2.1 (by rw [e9]; exact hlr)) | exact (fun e9 => hb.2.2.2.2 (by rw [e9]; exact hpp)))).trans hm
        have hcp0 : g2.2.2 p = some (true, .inr (18, [(.ref (ko p)), (va_rf (vl p)), (va_rf (lf p)), .null, (.ref g), (vi (co p))])) := (g2H.2.2.2 _ (by first | omega | exact (fun e9 => hb.2.2.2.1 (by rw [e9]; exact hlr)) | exact (fun e9 => hb.2.2.2.2 (by rw [e9]; exact hpp)))).trans hcp0
        have hcg0 : g2.2.2 g = some (true, .inr (18, [(.ref (ko g)), (va_rf (vl g)), (va_rf (lf g)), (va_rf (rt g)), (va_rf (pa g)), (vi (co g))])) := (g2H.2.2.2 _ (by first | omega | exact (fun e9 => hb.2.2.2.1 (by rw [e9]; exact hlr)) | exact (fun e9 => hb.2.2.2.2 (by rw [e9]; exact hpp)))).trans hcg0
        have fR : ∀ b, (b ≠ m ∧ b ≠ p ∧ b ≠ r ∧ lf r ≠ some b ∧ pa p ≠ some b) → g2.2.2 b = h.2.2 b := fun b hb => (g2H.2.2.2 b (by first | omega | exact (fun e9 => hb.2.2.2.1 (by rw [e9]; exact hlr)) | exact (fun e9 => hb.2.2.2.2 (by rw [e9]; exact hpp)))).trans (fR b hb)
        have hcr0 : g2.2.2 r = some (true, .inr (18, [(.ref (ko r)), (va_rf (vl r)), .null, (va_rf (rt r)), (.ref g), (vi (co r))])) := g2H.2.2.1
        have g21 := g2H.1
        have g22 := g2H.2.1
        refine m_aload_n (y := yiJ4_rotateLeft) dJ4_rotateLeft_40 rfl ?_
        refine m_getfS (y := yiJ4_rotateLeft) kc_18 4 (by decide) dJ4_rotateLeft_41 q1773 hcp0 rfl ?_
        refine m_ifnonnull (y := yiJ4_rotateLeft) (x := (some g)) 55 dJ4_rotateLeft_44 (by decide) (fun _ _ => ?_) (fun h9 => nomatch h9)
        refine m_aload_n (y := yiJ4_rotateLeft) dJ4_rotateLeft_55 rfl ?_
        refine m_getfS (y := yiJ4_rotateLeft) kc_18 4 (by decide) dJ4_rotateLeft_56 q1773 hcp0 rfl ?_
        refine m_getfS (y := yiJ4_rotateLeft) kc_18 2 (by decide) dJ4_rotateLeft_59 q1770 hcg0 rfl ?_
        refine m_aload_n (y := yiJ4_rotateLeft) dJ4_rotateLeft_62 rfl ?_
        refine m_acmp_ne (y := yiJ4_rotateLeft) (x := (lf g)) (z := (some p)) 77 dJ4_rotateLeft_63 (by decide) (fun c63 => ?_) (fun c63 => ?_)
        · refine m_aload_n (y := yiJ4_rotateLeft) dJ4_rotateLeft_77 rfl ?_
          refine m_getfS (y := yiJ4_rotateLeft) kc_18 4 (by decide) dJ4_rotateLeft_78 q1773 hcp0 rfl ?_
          refine m_aload_n (y := yiJ4_rotateLeft) dJ4_rotateLeft_81 rfl ?_
          refine m_putfS (y := yiJ4_rotateLeft) kc_18 3 (by decide) dJ4_rotateLeft_82 q1771 rfl hcg0 rfl rfl (hp_put fun g3 g3H => ?_)
          have hm : g3.2.2 m = some (true, .inr (17, [.null, .null, .null, (va_rf root), (vi sz), (vi mc), .null, .null, .null])) := (g3H.2.2.2 _ (by first | omega | exact (fun e9 => hb.2.2.2.1 (by rw [e9]; exact hlr)) | exact (fun e9 => hb.2.2.2.2 (by rw [e9]; exact hpp)))).trans hm
          have hcp0 : g3.2.2 p = some (true, .inr (18, [(.ref (ko p)), (va_rf (vl p)), (va_rf (lf p)), .null, (.ref g), (vi (co p))])) := (g3H.2.2.2 _ (by first | omega | exact (fun e9 => hb.2.2.2.1 (by rw [e9]; exact hlr)) | exact (fun e9 => hb.2.2.2.2 (by rw [e9]; exact hpp)))).trans hcp0
          have hcr0 : g3.2.2 r = some (true, .inr (18, [(.ref (ko r)), (va_rf (vl r)), .null, (va_rf (rt r)), (.ref g), (vi (co r))])) := (g3H.2.2.2 _ (by first | omega | exact (fun e9 => hb.2.2.2.1 (by rw [e9]; exact hlr)) | exact (fun e9 => hb.2.2.2.2 (by rw [e9]; exact hpp)))).trans hcr0
          have fR : ∀ b, (b ≠ m ∧ b ≠ p ∧ b ≠ r ∧ lf r ≠ some b ∧ pa p ≠ some b) → g3.2.2 b = h.2.2 b := fun b hb => (g3H.2.2.2 b (by first | omega | exact (fun e9 => hb.2.2.2.1 (by rw [e9]; exact hlr)) | exact (fun e9 => hb.2.2.2.2 (by rw [e9]; exact hpp)))).trans (fR b hb)
          have hcg0 : g3.2.2 g = some (true, .inr (18, [(.ref (ko g)), (va_rf (vl g)), (va_rf (lf g)), (.ref r), (va_rf (pa g)), (vi (co g))])) := g3H.2.2.1
          have g31 := g3H.1
          have g32 := g3H.2.1
          refine m_aload_n (y := yiJ4_rotateLeft) dJ4_rotateLeft_85 rfl ?_
          refine m_aload_n (y := yiJ4_rotateLeft) dJ4_rotateLeft_86 rfl ?_
          refine m_putfS (y := yiJ4_rotateLeft) kc_18 2 (by decide) dJ4_rotateLeft_87 q1770 rfl hcr0 rfl rfl (hp_put fun g4 g4H => ?_)
          have hm : g4.2.2 m = some (true, .inr (17, [.null, .null, .null, (va_rf root), (vi sz), (vi mc), .null, .null, .null])) := (g4H.2.2.2 _ (by first | omega | exact (fun e9 => hb.2.2.2.1 (by rw [e9]; exact hlr)) | exact (fun e9 => hb.2.2.2.2 (by rw [e9]; exact hpp)))).trans hm
          have hcp0 : g4.2.2 p = some (true, .inr (18, [(.ref (ko p)), (va_rf (vl p)), (va_rf (lf p)), .null, (.ref g), (vi (co p))])) := (g4H.2.2.2 _ (by first | omega | exact (fun e9 => hb.2.2.2.1 (by rw [e9]; exact hlr)) | exact (fun e9 => hb.2.2.2.2 (by rw [e9]; exact hpp)))).trans hcp0
          have hcg0 : g4.2.2 g = some (true, .inr (18, [(.ref (ko g)), (va_rf (vl g)), (va_rf (lf g)), (.ref r), (va_rf (pa g)), (vi (co g))])) := (g4H.2.2.2 _ (by first | omega | exact (fun e9 => hb.2.2.2.1 (by rw [e9]; exact hlr)) | exact (fun e9 => hb.2.2.2.2 (by rw [e9]; exact hpp)))).trans hcg0
          have fR : ∀ b, (b ≠ m ∧ b ≠ p ∧ b ≠ r ∧ lf r ≠ some b ∧ pa p ≠ some b) → g4.2.2 b = h.2.2 b := fun b hb => (g4H.2.2.2 b (by first | omega | exact (fun e9 => hb.2.2.2.1 (by rw [e9]; exact hlr)) | exact (fun e9 => hb.2.2.2.2 (by rw [e9]; exact hpp)))).trans (fR b hb)
          have hcr0 : g4.2.2 r = some (true, .inr (18, [(.ref (ko r)), (va_rf (vl r)), (.ref p), (va_rf (rt r)), (.ref g), (vi (co r))])) := g4H.2.2.1
          have g41 := g4H.1
          have g42 := g4H.2.1
          refine m_aload_n (y := yiJ4_rotateLeft) dJ4_rotateLeft_90 rfl ?_
          refine m_aload_n (y := yiJ4_rotateLeft) dJ4_rotateLeft_91 rfl ?_
          refine m_putfS (y := yiJ4_rotateLeft) kc_18 4 (by decide) dJ4_rotateLeft_92 q1773 rfl hcp0 rfl rfl (hp_put fun g5 g5H => ?_)
          have hm : g5.2.2 m = some (true, .inr (17, [.null, .null, .null, (va_rf root), (vi sz), (vi mc), .null, .null, .null])) := (g5H.2.2.2 _ (by first | omega | exact (fun e9 => hb.2.2.2.1 (by rw [e9]; exact hlr)) | exact (fun e9 => hb.2.2.2.2 (by rw [e9]; exact hpp)))).trans hm
          have hcr0 : g5.2.2 r = some (true, .inr (18, [(.ref (ko r)), (va_rf (vl r)), (.ref p), (va_rf (rt r)), (.ref g), (vi (co r))])) := (g5H.2.2.2 _ (by first | omega | exact (fun e9 => hb.2.2.2.1 (by rw [e9]; exact hlr)) | exact (fun e9 => hb.2.2.2.2 (by rw [e9]; exact hpp)))).trans hcr0
          have hcg0 : g5.2.2 g = some (true, .inr (18, [(.ref (ko g)), (va_rf (vl g)), (va_rf (lf g)), (.ref r), (va_rf (pa g)), (vi (co g))])) := (g5H.2.2.2 _ (by first | omega | exact (fun e9 => hb.2.2.2.1 (by rw [e9]; exact hlr)) | exact (fun e9 => hb.2.2.2.2 (by rw [e9]; exact hpp)))).trans hcg0
          have fR : ∀ b, (b ≠ m ∧ b ≠ p ∧ b ≠ r ∧ lf r ≠ some b ∧ pa p ≠ some b) → g5.2.2 b = h.2.2 b := fun b hb => (g5H.2.2.2 b (by first | omega | exact (fun e9 => hb.2.2.2.1 (by rw [e9]; exact hlr)) | exact (fun e9 => hb.2.2.2.2 (by rw [e9]; exact hpp)))).trans (fR b hb)
          have hcp0 : g5.2.2 p = some (true, .inr (18, [(.ref (ko p)), (va_rf (vl p)), (va_rf (lf p)), .null, (.ref r), (vi (co p))])) := g5H.2.2.1
          have g51 := g5H.1
          have g52 := g5H.2.1
          subst hQ; exact j_vret (y := yiJ4_rotateLeft) dJ4_rotateLeft_95 rfl (⟨hTF _ (by omega) (by omega) fR, _, _, _, _, _, _, TmF.rotL hF hI hp hr (by unfold roR; rw [if_neg (by rw [hpp]; intro h9; cases h9)]; exact hm) (by rw [hlr]; exact hcp0) (by rw [hpp]; exact hcr0) (fun c9 e => by { rw [hlr] at e; cases e }) (fun g9 e => by { rw [hpp] at e; cases e; rw [if_neg hng, if_neg hng]; exact hcg0 }) fR, hI.rot hp hr, (hI.1.rot hp hr).2, rfl⟩)
        · exact absurd c63 hng
  | some c =>
    rw [hlr, hrp] at hcr0
    obtain ⟨hcL, ncp, ncr, ncg⟩ := hc c hlr
    have hcc0 := hF.2.1 c hcL
    have nmc : m ≠ c := ne_oo hm hcc0 (by decide)
    cases hpp : pa p with
    | none =>
      rw [hpp] at hcp0
      refine mt_ofQ (by decide) (Nat.le_of_ble_eq_true rfl) (fun Q hQ => ?_)
      show MW K yiJ4_rotateLeft d h 0 [some (.ref m), some (.ref p), none] [] Q
      refine mw_wf (fun hwf => ?_)
      have l_hm := hwf _ _ hm
      have l_hcp0 := hwf _ _ hcp0
      have l_hcr0 := hwf _ _ hcr0
      have l_hcc0 := hwf _ _ hcc0
      have fR : ∀ b, (b ≠ m ∧ b ≠ p ∧ b ≠ r ∧ lf r ≠ some b ∧ pa p ≠ some b) → h.2.2 b = h.2.2 b := fun _ _ => rfl
      refine m_aload_n (y := yiJ4_rotateLeft) dJ4_rotateLeft_0 rfl ?_
      refine m_ifnull (y := yiJ4_rotateLeft) (x := (some p)) 95 dJ4_rotateLeft_1 (by decide) (fun h9 => nomatch h9) (fun _ _ => ?_)
      refine m_aload_n (y := yiJ4_rotateLeft) dJ4_rotateLeft_4 rfl ?_
      refine m_getfS (y := yiJ4_rotateLeft) kc_18 3 (by decide) dJ4_rotateLeft_5 q1771 hcp0 rfl ?_
      refine m_astore_n (y := yiJ4_rotateLeft) dJ4_rotateLeft_8 (by decide) rfl ?_
      show MW K yiJ4_rotateLeft d h 9 [some (.ref m), some (.ref p), some (.ref r)] [] Q
      refine m_aload_n (y := yiJ4_rotateLeft) dJ4_rotateLeft_9 rfl ?_
      refine m_aload_n (y := yiJ4_rotateLeft) dJ4_rotateLeft_10 rfl ?_
      refine m_getfS (y := yiJ4_rotateLeft) kc_18 2 (by decide) dJ4_rotateLeft_11 q1770 hcr0 rfl ?_
      refine m_putfS (y := yiJ4_rotateLeft) kc_18 3 (by decide) dJ4_rotateLeft_14 q1771 rfl hcp0 rfl rfl (hp_put fun g1 g1H => ?_)
      have hm : g1.2.2 m = some (true, .inr (17, [.null, .null, .null, (va_rf root), (vi sz), (vi mc), .null, .null, .null])) := (g1H.2.2.2 _ (by first | omega | exact (fun e9 => hb.2.2.2.1 (by rw [e9]; exact hlr)) | exact (fun e9 => hb.2.2.2.2 (by rw [e9]; exact hpp)))).trans hm
      have hcr0 : g1.2.2 r = some (true, .inr (18, [(.ref (ko r)), (va_rf (vl r)), (.ref c), (va_rf (rt r)), (.ref p), (vi (co r))])) := (g1H.2.2.2 _ (by first | omega | exact (fun e9 => hb.2.2.2.1 (by rw [e9]; exact hlr)) | exact (fun e9 => hb.2.2.2.2 (by rw [e9]; exact hpp)))).trans hcr0
      have hcc0 : g1.2.2 c = some (true, .inr (18, [(.ref (ko c)), (va_rf (vl c)), (va_rf (lf c)), (va_rf (rt c)), (va_rf (pa c)), (vi (co c))])) := (g1H.2.2.2 _ (by first | omega | exact (fun e9 => hb.2.2.2.1 (by rw [e9]; exact hlr)) | exact (fun e9 => hb.2.2.2.2 (by rw [e9]; exact hpp)))).trans hcc0
      have fR : ∀ b, (b ≠ m ∧ b ≠ p ∧ b ≠ r ∧ lf r ≠ some b ∧ pa p ≠ some b) → g1.2.2 b = h.2.2 b := fun b hb => (g1H.2.2.2 b (by first | omega | exact (fun e9 => hb.2.2.2.1 (by rw [e9]; exact hlr)) | exact (fun e9 => hb.2.2.2.2 (by rw [e9]; exact hpp)))).trans (fR b hb)
      have hcp0 : g1.2.2 p = some (true, .inr (18, [(.ref (ko p)), (va_rf (vl p)), (va_rf (lf p)), (.ref c), .null, (vi (co p))])) := g1H.2.2.1
      have g11 := g1H.1
      have g12 := g1H.2.1
      refine m_aload_n (y := yiJ4_rotateLeft) dJ4_rotateLeft_17 rfl ?_
      refine m_getfS (y := yiJ4_rotateLeft) kc_18 2 (by decide) dJ4_rotateLeft_18 q1770 hcr0 rfl ?_
      refine m_ifnull (y := yiJ4_rotateLeft) (x := (some c)) 32 dJ4_rotateLeft_21 (by decide) (fun h9 => nomatch h9) (fun _ _ => ?_)
      refine m_aload_n (y := yiJ4_rotateLeft) dJ4_rotateLeft_24 rfl ?_
      refine m_getfS (y := yiJ4_rotateLeft) kc_18 2 (by decide) dJ4_rotateLeft_25 q1770 hcr0 rfl ?_
      refine m_aload_n (y := yiJ4_rotateLeft) dJ4_rotateLeft_28 rfl ?_
      refine m_putfS (y := yiJ4_rotateLeft) kc_18 4 (by decide) dJ4_rotateLeft_29 q1773 rfl hcc0 rfl rfl (hp_put fun g2 g2H => ?_)
      have hm : g2.2.2 m = some (true, .inr (17, [.null, .null, .null, (va_rf root), (vi sz), (vi mc), .null, .null, .null])) := (g2H.2.2.2 _ (by first | omega | exact (fun e9 => hb.2.2.2.1 (by rw [e9]; exact hlr)) | exact (fun e9 => hb.2.2.2.2 (by rw [e9]; exact hpp)))).trans hm
      have hcp0 : g2.2.2 p = some (true, .inr (18, [(.ref (ko p)), (va_rf (vl p)), (va_rf (lf p)), (.ref c), .null, (vi (co p))])) := (g2H.2.2.2 _ (by first | omega | exact (fun e9 => hb.2.2.2.1 (by rw [e9]; exact hlr)) | exact (fun e9 => hb.2.2.2.2 (by rw [e9]; exact hpp)))).trans hcp0
      have hcr0 : g2.2.2 r = some (true, .inr (18, [(.ref (ko r)), (va_rf (vl r)), (.ref c), (va_rf (rt r)), (.ref p), (vi (co r))])) := (g2H.2.2.2 _ (by first | omega | exact (fun e9 => hb.2.2.2.1 (by rw [e9]; exact hlr)) | exact (fun e9 => hb.2.2.2.2 (by rw [e9]; exact hpp)))).trans hcr0
      have fR : ∀ b, (b ≠ m ∧ b ≠ p ∧ b ≠ r ∧ lf r ≠ some b ∧ pa p ≠ some b) → g2.2.2 b = h.2.2 b := fun b hb => (g2H.2.2.2 b (by first | omega | exact (fun e9 => hb.2.2.2.1 (by rw [e9]; exact hlr)) | exact (fun e9 => hb.2.2.2.2 (by rw [e9]; exact hpp)))).trans (fR b hb)
      have hcc0 : g2.2.2 c = some (true, .inr (18, [(.ref (ko c)), (va_rf (vl c)), (va_rf (lf c)), (va_rf (rt c)), (.ref p), (vi (co c))])) := g2H.2.2.1
      have g21 := g2H.1
      have g22 := g2H.2.1
      refine m_aload_n (y := yiJ4_rotateLeft) dJ4_rotateLeft_32 rfl ?_
      refine m_aload_n (y := yiJ4_rotateLeft) dJ4_rotateLeft_33 rfl ?_
      refine m_getfS (y := yiJ4_rotateLeft) kc_18 4 (by decide) dJ4_rotateLeft_34 q1773 hcp0 rfl ?_
      refine m_putfS (y := yiJ4_rotateLeft) kc_18 4 (by decide) dJ4_rotateLeft_37 q1773 rfl hcr0 rfl rfl (hp_put fun g3 g3H => ?_)
      have hm : g3.2.2 m = some (true, .inr (17, [.null, .null, .null, (va_rf root), (vi sz), (vi mc), .null, .null, .null])) := (g3H.2.2.2 _ (by first | omega | exact (fun e9 => hb.2.2.2.1 (by rw [e9]; exact hlr)) | exact (fun e9 => hb.2.2.2.2 (by rw [e9]; exact hpp)))).trans hm
      have hcp0 : g3.2.2 p = some (true, .inr (18, [(.ref (ko p)), (va_rf (vl p)), (va_rf (lf p)), (.ref c), .null, (vi (co p))])) := (g3H.2.2.2 _ (by first | omega | exact (fun e9 => hb.2.2.2.1 (by rw [e9]; exact hlr)) | exact (fun e9 => hb.2.2.2.2 (by rw [e9]; exact hpp)))).trans hcp0
      have hcc0 : g3.2.2 c = some (true, .inr (18, [(.ref (ko c)), (va_rf (vl c)), (va_rf (lf c)), (va_rf (rt c)), (.ref p), (vi (co c))])) := (g3H.2.2.2 _ (by first | omega | exact (fun e9 => hb.2.2.2.1 (by rw [e9]; exact hlr)) | exact (fun e9 => hb.2.2.2.2 (by rw [e9]; exact hpp)))).trans hcc0
      have fR : ∀ b, (b ≠ m ∧ b ≠ p ∧ b ≠ r ∧ lf r ≠ some b ∧ pa p ≠ some b) → g3.2.2 b = h.2.2 b := fun b hb => (g3H.2.2.2 b (by first | omega | exact (fun e9 => hb.2.2.2.1 (by rw [e9]; exact hlr)) | exact (fun e9 => hb.2.2.2.2 (by rw [e9]; exact hpp)))).trans (fR b hb)
      have hcr0 : g3.2.2 r = some (true, .inr (18, [(.ref (ko r)), (va_rf (vl r)), (.ref c), (va_rf (rt r)), .null, (vi (co r))])) := g3H.2.2.1
      have g31 := g3H.1
      have g32 := g3H.2.1
      refine m_aload_n (y := yiJ4_rotateLeft) dJ4_rotateLeft_40 rfl ?_
      refine m_getfS (y := yiJ4_rotateLeft) kc_18 4 (by decide) dJ4_rotateLeft_41 q1773 hcp0 rfl ?_
      refine m_ifnonnull (y := yiJ4_rotateLeft) (x := none) 55 dJ4_rotateLeft_44 (by decide) (fun _ h9 => nomatch h9) (fun _ => ?_)
      refine m_aload_n (y := yiJ4_rotateLeft) dJ4_rotateLeft_47 rfl ?_
      refine m_aload_n (y := yiJ4_rotateLeft) dJ4_rotateLeft_48 rfl ?_
      refine m_putfS (y := yiJ4_rotateLeft) kc_17 3 (by decide) dJ4_rotateLeft_49 q240 rfl hm rfl rfl (hp_put fun g4 g4H => ?_)
      have hcp0 : g4.2.2 p = some (true, .inr (18, [(.ref (ko p)), (va_rf (vl p)), (va_rf (lf p)), (.ref c), .null, (vi (co p))])) := (g4H.2.2.2 _ (by first | omega | exact (fun e9 => hb.2.2.2.1 (by rw [e9]; exact hlr)) | exact (fun e9 => hb.2.2.2.2 (by rw [e9]; exact hpp)))).trans hcp0
      have hcr0 : g4.2.2 r = some (true, .inr (18, [(.ref (ko r)), (va_rf (vl r)), (.ref c), (va_rf (rt r)), .null, (vi (co r))])) := (g4H.2.2.2 _ (by first | omega | exact (fun e9 => hb.2.2.2.1 (by rw [e9]; exact hlr)) | exact (fun e9 => hb.2.2.2.2 (by rw [e9]; exact hpp)))).trans hcr0
      have hcc0 : g4.2.2 c = some (true, .inr (18, [(.ref (ko c)), (va_rf (vl c)), (va_rf (lf c)), (va_rf (rt c)), (.ref p), (vi (co c))])) := (g4H.2.2.2 _ (by first | omega | exact (fun e9 => hb.2.2.2.1 (by rw [e9]; exact hlr)) | exact (fun e9 => hb.2.2.2.2 (by rw [e9]; exact hpp)))).trans hcc0
      have fR : ∀ b, (b ≠ m ∧ b ≠ p ∧ b ≠ r ∧ lf r ≠ some b ∧ pa p ≠ some b) → g4.2.2 b = h.2.2 b := fun b hb => (g4H.2.2.2 b (by first | omega | exact (fun e9 => hb.2.2.2.1 (by rw [e9]; exact hlr)) | exact (fun e9 => hb.2.2.2.2 (by rw [e9]; exact hpp)))).trans (fR b hb)
      have hm : g4.2.2 m = some (true, .inr (17, [.null, .null, .null, (.ref r), (vi sz), (vi mc), .null, .null, .null])) := g4H.2.2.1
      have g41 := g4H.1
      have g42 := g4H.2.1
      refine m_goto (y := yiJ4_rotateLeft) 85 dJ4_rotateLeft_52 (by decide) ?_
      refine m_aload_n (y := yiJ4_rotateLeft) dJ4_rotateLeft_85 rfl ?_
      refine m_aload_n (y := yiJ4_rotateLeft) dJ4_rotateLeft_86 rfl ?_
      refine m_putfS (y := yiJ4_rotateLeft) kc_18 2 (by decide) dJ4_rotateLeft_87 q1770 rfl hcr0 rfl rfl (hp_put fun g5 g5H => ?_)
      have hm : g5.2.2 m = some (true, .inr (17, [.null, .null, .null, (.ref r), (vi sz), (vi mc), .null, .null, .null])) := (g5H.2.2.2 _ (by first | omega | exact (fun e9 => hb.2.2.2.1 (by rw [e9]; exact hlr)) | exact (fun e9 => hb.2.2.2.2 (by rw [e9]; exact hpp)))).trans hm
      have hcp0 : g5.2.2 p = some (true, .inr (18, [(.ref (ko p)), (va_rf (vl p)), (va_rf (lf p)), (.ref c), .null, (vi (co p))])) := (g5H.2.2.2 _ (by first | omega | exact (fun e9 => hb.2.2.2.1 (by rw [e9]; exact hlr)) | exact (fun e9 => hb.2.2.2.2 (by rw [e9]; exact hpp)))).trans hcp0
      have hcc0 : g5.2.2 c = some (true, .inr (18, [(.ref (ko c)), (va_rf (vl c)), (va_rf (lf c)), (va_rf (rt c)), (.ref p), (vi (co c))])) := (g5H.2.2.2 _ (by first | omega | exact (fun e9 => hb.2.2.2.1 (by rw [e9]; exact hlr)) | exact (fun e9 => hb.2.2.2.2 (by rw [e9]; exact hpp)))).trans hcc0
      have fR : ∀ b, (b ≠ m ∧ b ≠ p ∧ b ≠ r ∧ lf r ≠ some b ∧ pa p ≠ some b) → g5.2.2 b = h.2.2 b := fun b hb => (g5H.2.2.2 b (by first | omega | exact (fun e9 => hb.2.2.2.1 (by rw [e9]; exact hlr)) | exact (fun e9 => hb.2.2.2.2 (by rw [e9]; exact hpp)))).trans (fR b hb)
      have hcr0 : g5.2.2 r = some (true, .inr (18, [(.ref (ko r)), (va_rf (vl r)), (.ref p), (va_rf (rt r)), .null, (vi (co r))])) := g5H.2.2.1
      have g51 := g5H.1
      have g52 := g5H.2.1
      refine m_aload_n (y := yiJ4_rotateLeft) dJ4_rotateLeft_90 rfl ?_
      refine m_aload_n (y := yiJ4_rotateLeft) dJ4_rotateLeft_91 rfl ?_
      refine m_putfS (y := yiJ4_rotateLeft) kc_18 4 (by decide) dJ4_rotateLeft_92 q1773 rfl hcp0 rfl rfl (hp_put fun g6 g6H => ?_)
      have hm : g6.2.2 m = some (true, .inr (17, [.null, .null, .null, (.ref r), (vi sz), (vi mc), .null, .null, .null])) := (g6H.2.2.2 _ (by first | omega | exact (fun e9 => hb.2.2.2.1 (by rw [e9]; exact hlr)) | exact (fun e9 => hb.2.2.2.2 (by rw [e9]; exact hpp)))).trans hm
      have hcr0 : g6.2.2 r = some (true, .inr (18, [(.ref (ko r)), (va_rf (vl r)), (.ref p), (va_rf (rt r)), .null, (vi (co r))])) := (g6H.2.2.2 _ (by first | omega | exact (fun e9 => hb.2.2.2.1 (by rw [e9]; exact hlr)) | exact (fun e9 => hb.2.2.2.2 (by rw [e9]; exact hpp)))).trans hcr0
      have hcc0 : g6.2.2 c = some (true, .inr (18, [(.ref (ko c)), (va_rf (vl c)), (va_rf (lf c)), (va_rf (rt c)), (.ref p), (vi (co c))])) := (g6H.2.2.2 _ (by first | omega | exact (fun e9 => hb.2.2.2.1 (by rw [e9]; exact hlr)) | exact (fun e9 => hb.2.2.2.2 (by rw [e9]; exact hpp)))).trans hcc0
      have fR : ∀ b, (b ≠ m ∧ b ≠ p ∧ b ≠ r ∧ lf r ≠ some b ∧ pa p ≠ some b) → g6.2.2 b = h.2.2 b := fun b hb => (g6H.2.2.2 b (by first | omega | exact (fun e9 => hb.2.2.2.1 (by rw [e9]; exact hlr)) | exact (fun e9 => hb.2.2.2.2 (by rw [e9]; exact hpp)))).trans (fR b hb)
      have hcp0 : g6.2.2 p = some (true, .inr (18, [(.ref (ko p)), (va_rf (vl p)), (va_rf (lf p)), (.ref c), (.ref r), (vi (co p))])) := g6H.2.2.1
      have g61 := g6H.1
      have g62 := g6H.2.1
      subst hQ; exact j_vret (y := yiJ4_rotateLeft) dJ4_rotateLeft_95 rfl (⟨hTF _ (by omega) (by omega) fR, _, _, _, _, _, _, TmF.rotL hF hI hp hr (by unfold roR; rw [if_pos hpp]; exact hm) (by rw [hlr]; exact hcp0) (by rw [hpp]; exact hcr0) (fun c9 e => by { rw [hlr] at e; cases e; exact hcc0 }) (fun g9 e => by { rw [hpp] at e; cases e }) fR, hI.rot hp hr, (hI.1.rot hp hr).2, rfl⟩)
    | some g =>
      rw [hpp] at hcp0
      obtain ⟨hgL, ngp, ngr, ngc, hgs⟩ := hg g hpp
      have hcg0 := hF.2.1 g hgL
      have nmg : m ≠ g := ne_oo hm hcg0 (by decide)
      have ncg2 : c ≠ g := fun e9 => ncg (by rw [e9]; exact hpp)
      by_cases hlg : lf g = some p
      · rw [hlg] at hcg0
        refine mt_ofQ (by decide) (Nat.le_of_ble_eq_true rfl) (fun Q hQ => ?_)
        show MW K yiJ4_rotateLeft d h 0 [some (.ref m), some (.ref p), none] [] Q
        refine mw_wf (fun hwf => ?_)
        have l_hm := hwf _ _ hm
        have l_hcp0 := hwf _ _ hcp0
        have l_hcr0 := hwf _ _ hcr0
        have l_hcc0 := hwf _ _ hcc0
        have l_hcg0 := hwf _ _ hcg0
        have fR : ∀ b, (b ≠ m ∧ b ≠ p ∧ b ≠ r ∧ lf r ≠ some b ∧ pa p ≠ some b) → h.2.2 b = h.2.2 b := fun _ _ => rfl
        refine m_aload_n (y := yiJ4_rotateLeft) dJ4_rotateLeft_0 rfl ?_
        refine m_ifnull (y := yiJ4_rotateLeft) (x := (some p)) 95 dJ4_rotateLeft_1 (by decide) (fun h9 => nomatch h9) (fun _ _ => ?_)
        refine m_aload_n (y := yiJ4_rotateLeft) dJ4_rotateLeft_4 rfl ?_
        refine m_getfS (y := yiJ4_rotateLeft) kc_18 3 (by decide) dJ4_rotateLeft_5 q1771 hcp0 rfl ?_
        refine m_astore_n (y := yiJ4_rotateLeft) dJ4_rotateLeft_8 (by decide) rfl ?_
        show MW K yiJ4_rotateLeft d h 9 [some (.ref m), some (.ref p), some (.ref r)] [] Q
        refine m_aload_n (y := yiJ4_rotateLeft) dJ4_rotateLeft_9 rfl ?_
        refine m_aload_n (y := yiJ4_rotateLeft) dJ4_rotateLeft_10 rfl ?_
        refine m_getfS (y := yiJ4_rotateLeft) kc_18 2 (by decide) dJ4_rotateLeft_11 q1770 hcr0 rfl ?_
        refine m_putfS (y := yiJ4_rotateLeft) kc_18 3 (by decide) dJ4_rotateLeft_14 q1771 rfl hcp0 rfl rfl (hp_put fun g1 g1H => ?_)
        have hm : g1.2.2 m = some (true, .inr (17, [.null, .null, .null, (va_rf root), (vi sz), (vi mc), .null, .null, .null])) := (g1H.2.2.2 _ (by first | omega | exact (fun e9 => hb.2.2.2.1 (by rw [e9]; exact hlr)) | exact (fun e9 => hb.2.2.2.2 (by rw [e9]; exact hpp)))).trans hm
        have hcr0 : g1.2.2 r = some (true, .inr (18, [(.ref (ko r)), (va_rf (vl r)), (.ref c), (va_rf (rt r)), (.ref p), (vi (co r))])) := (g1H.2.2.2 _ (by first | omega | exact (fun e9 => hb.2.2.2.1 (by rw [e9]; exact hlr)) | exact (fun e9 => hb.2.2.2.2 (by rw [e9]; exact hpp)))).trans hcr0
        have hcc0 : g1.2.2 c = some (true, .inr (18, [(.ref (ko c)), (va_rf (vl c)), (va_rf (lf c)), (va_rf (rt c)), (va_rf (pa c)), (vi (co c))])) := (g1H.2.2.2 _ (by first | omega | exact (fun e9 => hb.2.2.2.1 (by rw [e9]; exact hlr)) | exact (fun e9 => hb.2.2.2.2 (by rw [e9]; exact hpp)))).trans hcc0
        have hcg0 : g1.2.2 g = some (true, .inr (18, [(.ref (ko g)), (va_rf (vl g)), (.ref p), (va_rf (rt g)), (va_rf (pa g)), (vi (co g))])) := (g1H.2.2.2 _ (by first | omega | exact (fun e9 => hb.2.2.2.1 (by rw [e9]; exact hlr)) | exact (fun e9 => hb.2.2.2.2 (by rw [e9]; exact hpp)))).trans hcg0
        have fR : ∀ b, (b ≠ m ∧ b ≠ p ∧ b ≠ r ∧ lf r ≠ some b ∧ pa p ≠ some b) → g1.2.2 b = h.2.2 b := fun b hb => (g1H.2.2.2 b (by first | omega | exact (fun e9 => hb.2.2.2.1 (by rw [e9]; exact hlr)) | exact (fun e9 => hb.2.2.2.2 (by rw [e9]; exact hpp)))).trans (fR b hb)
        have hcp0 : g1.2.2 p = some (true, .inr (18, [(.ref (ko p)), (va_rf (vl p)), (va_rf (lf p)), (.ref c), (.ref g), (vi (co p))])) := g1H.2.2.1
        have g11 := g1H.1
        have g12 := g1H.2.1
        refine m_aload_n (y := yiJ4_rotateLeft) dJ4_rotateLeft_17 rfl ?_
        refine m_getfS (y := yiJ4_rotateLeft) kc_18 2 (by decide) dJ4_rotateLeft_18 q1770 hcr0 rfl ?_
        refine m_ifnull (y := yiJ4_rotateLeft) (x := (some c)) 32 dJ4_rotateLeft_21 (by decide) (fun h9 => nomatch h9) (fun _ _ => ?_)
        refine m_aload_n (y := yiJ4_rotateLeft) dJ4_rotateLeft_24 rfl ?_
        refine m_getfS (y := yiJ4_rotateLeft) kc_18 2 (by decide) dJ4_rotateLeft_25 q1770 hcr0 rfl ?_
        refine m_aload_n (y := yiJ4_rotateLeft) dJ4_rotateLeft_28 rfl ?_
        refine m_putfS (y := yiJ4_rotateLeft) kc_18 4 (by decide) dJ4_rotateLeft_29 q1773 rfl hcc0 rfl rfl (hp_put fun g2 g2H => ?_)
        have hm : g2.2.2 m = some (true, .inr (17, [.null, .null, .null, (va_rf root), (vi sz), (vi mc), .null, .null, .null])) := (g2H.2.2.2 _ (by first | omega | exact (fun e9 => hb.2.2.2.1 (by rw [e9]; exact hlr)) | exact (fun e9 => hb.2.2.2.2 (by rw [e9]; exact hpp)))).trans hm
        have hcp0 : g2.2.2 p = some (true, .inr (18, [(.ref (ko p)), (va_rf (vl p)), (va_rf (lf p)), (.ref c), (.ref g), (vi (co p))])) := (g2H.2.2.2 _ (by first | omega | exact (fun e9 => hb.2.2.2.1 (by rw [e9]; exact hlr)) | exact (fun e9 => hb.2.2.2.2 (by rw [e9]; exact hpp)))).trans hcp0
        have hcr0 : g2.2.2 r = some (true, .inr (18, [(.ref (ko r)), (va_rf (vl r)), (.ref c), (va_rf (rt r)), (.ref p), (vi (co r))])) := (g2H.2.2.2 _ (by first | omega | exact (fun e9 => hb.2.2.2.1 (by rw [e9]; exact hlr)) | exact (fun e9 => hb.2.2.2.2 (by rw [e9]; exact hpp)))).trans hcr0
        have hcg0 : g2.2.2 g = some (true, .inr (18, [(.ref (ko g)), (va_rf (vl g)), (.ref p), (va_rf (rt g)), (va_rf (pa g)), (vi (co g))])) := (g2H.2.2.2 _ (by first | omega | exact (fun e9 => hb.2.2.2.1 (by rw [e9]; exact hlr)) | exact (fun e9 => hb.2.2.2.2 (by rw [e9]; exact hpp)))).trans hcg0
        have fR : ∀ b, (b ≠ m ∧ b ≠ p ∧ b ≠ r ∧ lf r ≠ some b ∧ pa p ≠ some b) → g2.2.2 b = h.2.2 b := fun b hb => (g2H.2.2.2 b (by first | omega | exact (fun e9 => hb.2.2.2.1 (by rw [e9]; exact hlr)) | exact (fun e9 => hb.2.2.2.2 (by rw [e9]; exact hpp)))).trans (fR b hb)
        have hcc0 : g2.2.2 c = some (true, .inr (18, [(.ref (ko c)), (va_rf (vl c)), (va_rf (lf c)), (va_rf (rt c)), (.ref p), (vi (co c))])) := g2H.2.2.1
        have g21 := g2H.1
        have g22 := g2H.2.1
        refine m_aload_n (y := yiJ4_rotateLeft) dJ4_rotateLeft_32 rfl ?_
        refine m_aload_n (y := yiJ4_rotateLeft) dJ4_rotateLeft_33 rfl ?_
        refine m_getfS (y := yiJ4_rotateLeft) kc_18 4 (by decide) dJ4_rotateLeft_34 q1773 hcp0 rfl ?_
        refine m_putfS (y := yiJ4_rotateLeft) kc_18 4 (by decide) dJ4_rotateLeft_37 q1773 rfl hcr0 rfl rfl (hp_put fun g3 g3H => ?_)
        have hm : g3.2.2 m = some (true, .inr (17, [.null, .null, .null, (va_rf root), (vi sz), (vi mc), .null, .null, .null])) := (g3H.2.2.2 _ (by first | omega | exact (fun e9 => hb.2.2.2.1 (by rw [e9]; exact hlr)) | exact (fun e9 => hb.2.2.2.2 (by rw [e9]; exact hpp)))).trans hm
        have hcp0 : g3.2.2 p = some (true, .inr (18, [(.ref (ko p)), (va_rf (vl p)), (va_rf (lf p)), (.ref c), (.ref g), (vi (co p))])) := (g3H.2.2.2 _ (by first | omega | exact (fun e9 => hb.2.2.2.1 (by rw [e9]; exact hlr)) | exact (fun e9 => hb.2.2.2.2 (by rw [e9]; exact hpp)))).trans hcp0
        have hcc0 : g3.2.2 c = some (true, .inr (18, [(.ref (ko c)), (va_rf (vl c)), (va_rf (lf c)), (va_rf (rt c)), (.ref p), (vi (co c))])) := (g3H.2.2.2 _ (by first | omega | exact (fun e9 => hb.2.2.2.1 (by rw [e9]; exact hlr)) | exact (fun e9 => hb.2.2.2.2 (by rw [e9]; exact hpp)))).trans hcc0
        have hcg0 : g3.2.2 g = some (true, .inr (18, [(.ref (ko g)), (va_rf (vl g)), (.ref p), (va_rf (rt g)), (va_rf (pa g)), (vi (co g))])) := (g3H.2.2.2 _ (by first | omega | exact (fun e9 => hb.2.2.2.1 (by rw [e9]; exact hlr)) | exact (fun e9 => hb.2.2.2.2 (by rw [e9]; exact hpp)))).trans hcg0
        have fR : ∀ b, (b ≠ m ∧ b ≠ p ∧ b ≠ r ∧ lf r ≠ some b ∧ pa p ≠ some b) → g3.2.2 b = h.2.2 b := fun b hb => (g3H.2.2.2 b (by first | omega | exact (fun e9 => hb.2.2.2.1 (by rw [e9]; exact hlr)) | exact (fun e9 => hb.2.2.2.2 (by rw [e9]; exact hpp)))).trans (fR b hb)
        have hcr0 : g3.2.2 r = some (true, .inr (18, [(.ref (ko r)), (va_rf (vl r)), (.ref c), (va_rf (rt r)), (.ref g), (vi (co r))])) := g3H.2.2.1
        have g31 := g3H.1
        have g32 := g3H.2.1
        refine m_aload_n (y := yiJ4_rotateLeft) dJ4_rotateLeft_40 rfl ?_
        refine m_getfS (y := yiJ4_rotateLeft) kc_18 4 (by decide) dJ4_rotateLeft_41 q1773 hcp0 rfl ?_
        refine m_ifnonnull (y := yiJ4_rotateLeft) (x := (some g)) 55 dJ4_rotateLeft_44 (by decide) (fun _ _ => ?_) (fun h9 => nomatch h9)
        refine m_aload_n (y := yiJ4_rotateLeft) dJ4_rotateLeft_55 rfl ?_
        refine m_getfS (y := yiJ4_rotateLeft) kc_18 4 (by decide) dJ4_rotateLeft_56 q1773 hcp0 rfl ?_
        refine m_getfS (y := yiJ4_rotateLeft) kc_18 2 (by decide) dJ4_rotateLeft_59 q1770 hcg0 rfl ?_
        refine m_aload_n (y := yiJ4_rotateLeft) dJ4_rotateLeft_62 rfl ?_
        refine m_acmp_ne (y := yiJ4_rotateLeft) (x := (some p)) (z := (some p)) 77 dJ4_rotateLeft_63 (by decide) (fun c => absurd rfl c) (fun _ => ?_)
        refine m_aload_n (y := yiJ4_rotateLeft) dJ4_rotateLeft_66 rfl ?_
        refine m_getfS (y := yiJ4_rotateLeft) kc_18 4 (by decide) dJ4_rotateLeft_67 q1773 hcp0 rfl ?_
        refine m_aload_n (y := yiJ4_rotateLeft) dJ4_rotateLeft_70 rfl ?_
        refine m_putfS (y := yiJ4_rotateLeft) kc_18 2 (by decide) dJ4_rotateLeft_71 q1770 rfl hcg0 rfl rfl (hp_put fun g4 g4H => ?_)
        have hm : g4.2.2 m = some (true, .inr (17, [.null, .null, .null, (va_rf root), (vi sz), (vi mc), .null, .null, .null])) := (g4H.2.2.2 _ (by first | omega | exact (fun e9 => hb.2.2.2.1 (by rw [e9]; exact hlr)) | exact (fun e9 => hb.2.2.2.2 (by rw [e9]; exact hpp)))).trans hm
        have hcp0 : g4.2.2 p = some (true, .inr (18, [(.ref (ko p)), (va_rf (vl p)), (va_rf (lf p)), (.ref c), (.ref g), (vi (co p))])) := (g4H.2.2.2 _ (by first | omega | exact (fun e9 => hb.2.2.2.1 (by rw [e9]; exact hlr)) | exact (fun e9 => hb.2.2.2.2 (by rw [e9]; exact hpp)))).trans hcp0
        have hcr0 : g4.2.2 r = some (true, .inr (18, [(.ref (ko r)), (va_rf (vl r)), (.ref c), (va_rf (rt r)), (.ref g), (vi (co r))])) := (g4H.2.2.2 _ (by first | omega | exact (fun e9 => hb.2.2.2.1 (by rw [e9]; exact hlr)) | exact (fun e9 => hb.2.2.2.2 (by rw [e9]; exact hpp)))).trans hcr0
        have hcc0 : g4.2.2 c = some (true, .inr (18, [(.ref (ko c)), (va_rf (vl c)), (va_rf (lf c)), (va_rf (rt c)), (.ref p), (vi (co c))])) := (g4H.2.2.2 _ (by first | omega | exact (fun e9 => hb.2.2.2.1 (by rw [e9]; exact hlr)) | exact (fun e9 => hb.2.2.2.2 (by rw [e9]; exact hpp)))).trans hcc0
        have fR : ∀ b, (b ≠ m ∧ b ≠ p ∧ b ≠ r ∧ lf r ≠ some b ∧ pa p ≠ some b) → g4.2.2 b = h.2.2 b := fun b hb => (g4H.2.2.2 b (by first | omega | exact (fun e9 => hb.2.2.2.1 (by rw [e9]; exact hlr)) | exact (fun e9 => hb.2.2.2.2 (by rw [e9]; exact hpp)))).trans (fR b hb)
        have hcg0 : g4.2.2 g = some (true, .inr (18, [(.ref (ko g)), (va_rf (vl g)), (.ref r), (va_rf (rt g)), (va_rf (pa g)), (vi (co g))])) := g4H.2.2.1
        have g41 := g4H.1
        have g42 := g4H.2.1
        refine m_goto (y := yiJ4_rotateLeft) 85 dJ4_rotateLeft_74 (by decide) ?_
        refine m_aload_n (y := yiJ4_rotateLeft) dJ4_rotateLeft_85 rfl ?_
        refine m_aload_n (y := yiJ4_rotateLeft) dJ4_rotateLeft_86 rfl ?_
        refine m_putfS (y := yiJ4_rotateLeft) kc_18 2 (by decide) dJ4_rotateLeft_87 q1770 rfl hcr0 rfl rfl (hp_put fun g5 g5H => ?_)
        have hm : g5.2.2 m = some (true, .inr (17, [.null, .null, .null, (va_rf root), (vi sz), (vi mc), .null, .null, .null])) := (g5H.2.2.2 _ (by first | omega | exact (fun e9 => hb.2.2.2.1 (by rw [e9]; exact hlr)) | exact (fun e9 => hb.2.2.2.2 (by rw [e9]; exact hpp)))).trans hm
        have hcp0 : g5.2.2 p = some (true, .inr (18, [(.ref (ko p)), (va_rf (vl p)), (va_rf (lf p)), (.ref c), (.ref g), (vi (co p))])) := (g5H.2.2.2 _ (by first | omega | exact (fun e9 => hb.2.2.2.1 (by rw [e9]; exact hlr)) | exact (fun e9 => hb.2.2.2.2 (by rw [e9]; exact hpp)))).trans hcp0
        have hcc0 : g5.2.2 c = some (true, .inr (18, [(.ref (ko c)), (va_rf (vl c)), (va_rf (lf c)), (va_rf (rt c)), (.ref p), (vi (co c))])) := (g5H.2.2.2 _ (by first | omega | exact (fun e9 => hb.2.2.2.1 (by rw [e9]; exact hlr)) | exact (fun e9 => hb.2.2.2.2 (by rw [e9]; exact hpp)))).trans hcc0
        have hcg0 : g5.2.2 g = some (true, .inr (18, [(.ref (ko g)), (va_rf (vl g)), (.ref r), (va_rf (rt g)), (va_rf (pa g)), (vi (co g))])) := (g5H.2.2.2 _ (by first | omega | exact (fun e9 => hb.2.2.2.1 (by rw [e9]; exact hlr)) | exact (fun e9 => hb.2.2.2.2 (by rw [e9]; exact hpp)))).trans hcg0
        have fR : ∀ b, (b ≠ m ∧ b ≠ p ∧ b ≠ r ∧ lf r ≠ some b ∧ pa p ≠ some b) → g5.2.2 b = h.2.2 b := fun b hb => (g5H.2.2.2 b (by first | omega | exact (fun e9 => hb.2.2.2.1 (by rw [e9]; exact hlr)) | exact (fun e9 => hb.2.2.2.2 (by rw [e9]; exact hpp)))).trans (fR b hb)
        have hcr0 : g5.2.2 r = some (true, .inr (18, [(.ref (ko r)), (va_rf (vl r)), (.ref p), (va_rf (rt r)), (.ref g), (vi (co r))])) := g5H.2.2.1
        have g51 := g5H.1
        have g52 := g5H.2.1
        refine m_aload_n (y := yiJ4_rotateLeft) dJ4_rotateLeft_90 rfl ?_
        refine m_aload_n (y := yiJ4_rotateLeft) dJ4_rotateLeft_91 rfl ?_
        refine m_putfS (y := yiJ4_rotateLeft) kc_18 4 (by decide) dJ4_rotateLeft_92 q1773 rfl hcp0 rfl rfl (hp_put fun g6 g6H => ?_)
        have hm : g6.2.2 m = some (true, .inr (17, [.null, .null, .null, (va_rf root), (vi sz), (vi mc), .null, .null, .null])) := (g6H.2.2.2 _ (by first | omega | exact (fun e9 => hb.2.2.2.1 (by rw [e9]; exact hlr)) | exact (fun e9 => hb.2.2.2.2 (by rw [e9]; exact hpp)))).trans hm
        have hcr0 : g6.2.2 r = some (true, .inr (18, [(.ref (ko r)), (va_rf (vl r)), (.ref p), (va_rf (rt r)), (.ref g), (vi (co r))])) := (g6H.2.2.2 _ (by first | omega | exact (fun e9 => hb.2.2.2.1 (by rw [e9]; exact hlr)) | exact (fun e9 => hb.2.2.2.2 (by rw [e9]; exact hpp)))).trans hcr0
        have hcc0 : g6.2.2 c = some (true, .inr (18, [(.ref (ko c)), (va_rf (vl c)), (va_rf (lf c)), (va_rf (rt c)), (.ref p), (vi (co c))])) := (g6H.2.2.2 _ (by first | omega | exact (fun e9 => hb.2.2.2.1 (by rw [e9]; exact hlr)) | exact (fun e9 => hb.2.2.2.2 (by rw [e9]; exact hpp)))).trans hcc0
        have hcg0 : g6.2.2 g = some (true, .inr (18, [(.ref (ko g)), (va_rf (vl g)), (.ref r), (va_rf (rt g)), (va_rf (pa g)), (vi (co g))])) := (g6H.2.2.2 _ (by first | omega | exact (fun e9 => hb.2.2.2.1 (by rw [e9]; exact hlr)) | exact (fun e9 => hb.2.2.2.2 (by rw [e9]; exact hpp)))).trans hcg0
        have fR : ∀ b, (b ≠ m ∧ b ≠ p ∧ b ≠ r ∧ lf r ≠ some b ∧ pa p ≠ some b) → g6.2.2 b = h.2.2 b := fun b hb => (g6H.2.2.2 b (by first | omega | exact (fun e9 => hb.2.2.2.1 (by rw [e9]; exact hlr)) | exact (fun e9 => hb.2.2.2.2 (by rw [e9]; exact hpp)))).trans (fR b hb)
        have hcp0 : g6.2.2 p = some (true, .inr (18, [(.ref (ko p)), (va_rf (vl p)), (va_rf (lf p)), (.ref c), (.ref r), (vi (co p))])) := g6H.2.2.1
        have g61 := g6H.1
        have g62 := g6H.2.1
        subst hQ; exact j_vret (y := yiJ4_rotateLeft) dJ4_rotateLeft_95 rfl (⟨hTF _ (by omega) (by omega) fR, _, _, _, _, _, _, TmF.rotL hF hI hp hr (by unfold roR; rw [if_neg (by rw [hpp]; intro h9; cases h9)]; exact hm) (by rw [hlr]; exact hcp0) (by rw [hpp]; exact hcr0) (fun c9 e => by { rw [hlr] at e; cases e; exact hcc0 }) (fun g9 e => by { rw [hpp] at e; cases e; rw [if_pos hlg, if_pos hlg]; exact hcg0 }) fR, hI.rot hp hr, (hI.1.rot hp hr).2, rfl⟩)
      · have hng := hlg
        refine mt_ofQ (by decide) (Nat.le_of_ble_eq_true rfl) (fun Q hQ => ?_)
        show MW K yiJ4_rotateLeft d h 0 [some (.ref m), some (.ref p), none] [] Q
        refine mw_wf (fun hwf => ?_)
        have l_hm := hwf _ _ hm
        have l_hcp0 := hwf _ _ hcp0
        have l_hcr0 := hwf _ _ hcr0
        have l_hcc0 := hwf _ _ hcc0
        have l_hcg0 := hwf _ _ hcg0
        have fR : ∀ b, (b ≠ m ∧ b ≠ p ∧ b ≠ r ∧ lf r ≠ some b ∧ pa p ≠ some b) → h.2.2 b = h.2.2 b := fun _ _ => rfl
        refine m_aload_n (y := yiJ4_rotateLeft) dJ4_rotateLeft_0 rfl ?_
        refine m_ifnull (y := yiJ4_rotateLeft) (x := (some p)) 95 dJ4_rotateLeft_1 (by decide) (fun h9 => nomatch h9) (fun _ _ => ?_)
        refine m_aload_n (y := yiJ4_rotateLeft) dJ4_rotateLeft_4 rfl ?_
        refine m_getfS (y := yiJ4_rotateLeft) kc_18 3 (by decide) dJ4_rotateLeft_5 q1771 hcp0 rfl ?_
        refine m_astore_n (y := yiJ4_rotateLeft) dJ4_rotateLeft_8 (by decide) rfl ?_
        show MW K yiJ4_rotateLeft d h 9 [some (.ref m), some (.ref p), some (.ref r)] [] Q
        refine m_aload_n (y := yiJ4_rotateLeft) dJ4_rotateLeft_9 rfl ?_
        refine m_aload_n (y := yiJ4_rotateLeft) dJ4_rotateLeft_10 rfl ?_
        refine m_getfS (y := yiJ4_rotateLeft) kc_18 2 (by decide) dJ4_rotateLeft_11 q1770 hcr0 rfl ?_
        refine m_putfS (y := yiJ4_rotateLeft) kc_18 3 (by decide) dJ4_rotateLeft_14 q1771 rfl hcp0 rfl rfl (hp_put fun g1 g1H => ?_)
        have hm : g1.2.2 m = some (true, .inr (17, [.null, .null, .null, (va_rf root), (vi sz), (vi mc), .null, .null, .null])) := (g1H.2.2.2 _ (by first | omega | exact (fun e9 => hb.2.2.2.1 (by rw [e9]; exact hlr)) | exact (fun e9 => hb.2.2.2.2 (by rw [e9]; exact hpp)))).trans hm
        have hcr0 : g1.2.2 r = some (true, .inr (18, [(.ref (ko r)), (va_rf (vl r)), (.ref c), (va_rf (rt r)), (.ref p), (vi (co r))])) := (g1H.2.2.2 _ (by first | omega | exact (fun e9 => hb.2.2.2.1 (by rw [e9]; exact hlr)) | exact (fun e9 => hb.2.2.2.2 (by rw [e9]; exact hpp)))).trans hcr0
        have hcc0 : g1.2.2 c = some (true, .inr (18, [(.ref (ko c)), (va_rf (vl c)), (va_rf (lf c)), (va_rf (rt c)), (va_rf (pa c)), (vi (co c))])) := (g1H.2.2.2 _ (by first | omega | exact (fun e9 => hb.2.2.2.1 (by rw [e9]; exact hlr)) | exact (fun e9 => hb.2.2.2.2 (by rw [e9]; exact hpp)))).trans hcc0
        have hcg0 : g1.2.2 g = some (true, .inr (18, [(.ref (ko g)), (va_rf (vl g)), (va_rf (lf g)), (va_rf (rt g)), (va_rf (pa g)), (vi (co g))])) := (g1H.2.2.2 _ (by first | omega | exact (fun e9 => hb.2.2.2.1 (by rw [e9]; exact hlr)) | exact (fun e9 => hb.2.2.2.2 (by rw [e9]; exact hpp)))).trans hcg0
        have fR : ∀ b, (b ≠ m ∧ b ≠ p ∧ b ≠ r ∧ lf r ≠ some b ∧ pa p ≠ some b) → g1.2.2 b = h.2.2 b := fun b hb => (g1H.2.2.2 b (by first | omega | exact (fun e9 => hb.2.2.2.1 (by rw [e9]; exact hlr)) | exact (fun e9 => hb.2.2.2.2 (by rw [e9]; exact hpp)))).trans (fR b hb)
        have hcp0 : g1.2.2 p = some (true, .inr (18, [(.ref (ko p)), (va_rf (vl p)), (va_rf (lf p)), (.ref c), (.ref g), (vi (co p))])) := g1H.2.2.1
        have g11 := g1H.1
        have g12 := g1H.2.1
        refine m_aload_n (y := yiJ4_rotateLeft) dJ4_rotateLeft_17 rfl ?_
        refine m_getfS (y := yiJ4_rotateLeft) kc_18 2 (by decide) dJ4_rotateLeft_18 q1770 hcr0 rfl ?_
        refine m_ifnull (y := yiJ4_rotateLeft) (x := (some c)) 32 dJ4_rotateLeft_21 (by decide) (fun h9 => nomatch h9) (fun _ _ => ?_)
        refine m_aload_n (y := yiJ4_rotateLeft) dJ4_rotateLeft_24 rfl ?_
        refine m_getfS (y := yiJ4_rotateLeft) kc_18 2 (by decide) dJ4_rotateLeft_25 q1770 hcr0 rfl ?_
        refine m_aload_n (y := yiJ4_rotateLeft) dJ4_rotateLeft_28 rfl ?_
        refine m_putfS (y := yiJ4_rotateLeft) kc_18 4 (by decide) dJ4_rotateLeft_29 q1773 rfl hcc0 rfl rfl (hp_put fun g2 g2H => ?_)
        have hm : g2.2.2 m = some (true, .inr (17, [.null, .null, .null, (va_rf root), (vi sz), (vi mc), .null, .null, .null])) := (g2H.2.2.2 _ (by first | omega | exact (fun e9 => hb.2.2.2.1 (by rw [e9]; exact hlr)) | exact (fun e9 => hb.2.2.2.2 (by rw [e9]; exact hpp)))).trans hm
        have hcp0 : g2.2.2 p = some (true, .inr (18, [(.ref (ko p)), (va_rf (vl p)), (va_rf (lf p)), (.ref c), (.ref g), (vi (co p))])) := (g2H.2.2.2 _ (by first | omega | exact (fun e9 => hb.2.2.2.1 (by rw [e9]; exact hlr)) | exact (fun e9 => hb.2.2.2.2 (by rw [e9]; exact hpp)))).trans hcp0
        have hcr0 : g2.2.2 r = some (true, .inr (18, [(.ref (ko r)), (va_rf (vl r)), (.ref c), (va_rf (rt r)), (.ref p), (vi (co r))])) := (g2H.2.2.2 _ (by first | omega | exact (fun e9 => hb.2.2.2.1 (by rw [e9]; exact hlr)) | exact (fun e9 => hb.2.2.2.2 (by rw [e9]; exact hpp)))).trans hcr0
        have hcg0 : g2.2.2 g = some (true, .inr (18, [(.ref (ko g)), (va_rf (vl g)), (va_rf (lf g)), (va_rf (rt g)), (va_rf (pa g)), (vi (co g))])) := (g2H.2.2.2 _ (by first | omega | exact (fun e9 => hb.2.2.2.1 (by rw [e9]; exact hlr)) | exact (fun e9 => hb.2.2.2.2 (by rw [e9]; exact hpp)))).trans hcg0
        have fR : ∀ b, (b ≠ m ∧ b ≠ p ∧ b ≠ r ∧ lf r ≠ some b ∧ pa p ≠ some b) → g2.2.2 b = h.2.2 b := fun b hb => (g2H.2.2.2 b (by first | omega | exact (fun e9 => hb.2.2.2.1 (by rw [e9]; exact hlr)) | exact (fun e9 => hb.2.2.2.2 (by rw [e9]; exact hpp)))).trans (fR b hb)
        have hcc0 : g2.2.2 c = some (true, .inr (18, [(.ref (ko c)), (va_rf (vl c)), (va_rf (lf c)), (va_rf (rt c)), (.ref p), (vi (co c))])) := g2H.2.2.1
        have g21 := g2H.1
        have g22 := g2H.2.1
        refine m_aload_n (y := yiJ4_rotateLeft) dJ4_rotateLeft_32 rfl ?_
        refine m_aload_n (y := yiJ4_rotateLeft) dJ4_rotateLeft_33 rfl ?_
        refine m_getfS (y := yiJ4_rotateLeft) kc_18 4 (by decide) dJ4_rotateLeft_34 q1773 hcp0 rfl ?_
        refine m_putfS (y := yiJ4_rotateLeft) kc_18 4 (by decide) dJ4_rotateLeft_37 q1773 rfl hcr0 rfl rfl (hp_put fun g3 g3H => ?_)
        have hm : g3.2.2 m = some (true, .inr (17, [.null, .null, .null, (va_rf root), (vi sz), (vi mc), .null, .null, .null])) := (g3H.2.2.2 _ (by first | omega | exact (fun e9 => hb.2.2.2.1 (by rw [e9]; exact hlr)) | exact (fun e9 => hb.2.2.2.2 (by rw [e9]; exact hpp)))).trans hm
        have hcp0 : g3.2.2 p = some (true, .inr (18, [(.ref (ko p)), (va_rf (vl p)), (va_rf (lf p)), (.ref c), (.ref g), (vi (co p))])) := (g3H.2.2.2 _ (by first | omega | exact (fun e9 => hb.2.2.2.1 (by rw [e9]; exact hlr)) | exact (fun e9 => hb.2.2.2.2 (by rw [e9]; exact hpp)))).trans hcp0
        have hcc0 : g3.2.2 c = some (true, .inr (18, [(.ref (ko c)), (va_rf (vl c)), (va_rf (lf c)), (va_rf (rt c)), (.ref p), (vi (co c))])) := (g3H.2.2.2 _ (by first | omega | exact (fun e9 => hb.2.2.2.1 (by rw [e9]; exact hlr)) | exact (fun e9 => hb.2.2.2.2 (by rw [e9]; exact hpp)))).trans hcc0
        have hcg0 : g3.2.2 g = some (true, .inr (18, [(.ref (ko g)), (va_rf (vl g)), (va_rf (lf g)), (va_rf (rt g)), (va_rf (pa g)), (vi (co g))])) := (g3H.2.2.2 _ (by first | omega | exact (fun e9 => hb.2.2.2.1 (by rw [e9]; exact hlr)) | exact (fun e9 => hb.2.2.2.2 (by rw [e9]; exact hpp)))).trans hcg0
        have fR : ∀ b, (b ≠ m ∧ b ≠ p ∧ b ≠ r ∧ lf r ≠ some b ∧ pa p ≠ some b) → g3.2.2 b = h.2.2 b := fun b hb => (g3H.2.2.2 b (by first | omega | exact (fun e9 => hb.2.2.2.1 (by rw [e9]; exact hlr)) | exact (fun e9 => hb.2.2.2.2 (by rw [e9]; exact hpp)))).trans (fR b hb)
        have hcr0 : g3.2.2 r = some (true, .inr (18, [(.ref (ko r)), (va_rf (vl r)), (.ref c), (va_rf (rt r)), (.ref g), (vi (co r))])) := g3H.2.2.1
        have g31 := g3H.1
        have g32 := g3H.2.1
        refine m_aload_n (y := yiJ4_rotateLeft) dJ4_rotateLeft_40 rfl ?_
        refine m_getfS (y := yiJ4_rotateLeft) kc_18 4 (by decide) dJ4_rotateLeft_41 q1773 hcp0 rfl ?_
        refine m_ifnonnull (y := yiJ4_rotateLeft) (x := (some g)) 55 dJ4_rotateLeft_44 (by decide) (fun _ _ => ?_) (fun h9 => nomatch h9)
        refine m_aload_n (y := yiJ4_rotateLeft) dJ4_rotateLeft_55 rfl ?_
        refine m_getfS (y := yiJ4_rotateLeft) kc_18 4 (by decide) dJ4_rotateLeft_56 q1773 hcp0 rfl ?_
        refine m_getfS (y := yiJ4_rotateLeft) kc_18 2 (by decide) dJ4_rotateLeft_59 q1770 hcg0 rfl ?_
        refine m_aload_n (y := yiJ4_rotateLeft) dJ4_rotateLeft_62 rfl ?_
        refine m_acmp_ne (y := yiJ4_rotateLeft) (x := (lf g)) (z := (some p)) 77 dJ4_rotateLeft_63 (by decide) (fun c63 => ?_) (fun c63 => ?_)
        · refine m_aload_n (y := yiJ4_rotateLeft) dJ4_rotateLeft_77 rfl ?_
          refine m_getfS (y := yiJ4_rotateLeft) kc_18 4 (by decide) dJ4_rotateLeft_78 q1773 hcp0 rfl ?_
          refine m_aload_n (y := yiJ4_rotateLeft) dJ4_rotateLeft_81 rfl ?_
          refine m_putfS (y := yiJ4_rotateLeft) kc_18 3 (by decide) dJ4_rotateLeft_82 q1771 rfl hcg0 rfl rfl (hp_put fun g4 g4H => ?_)
          have hm : g4.2.2 m = some (true, .inr (17, [.null, .null, .null, (va_rf root), (vi sz), (vi mc), .null, .null, .null])) := (g4H.2.2.2 _ (by first | omega | exact (fun e9 => hb.2.2.2.1 (by rw [e9]; exact hlr)) | exact (fun e9 => hb.2.2.2.2 (by rw [e9]; exact hpp)))).trans hm
          have hcp0 : g4.2.2 p = some (true, .inr (18, [(.ref (ko p)), (va_rf (vl p)), (va_rf (lf p)), (.ref c), (.ref g), (vi (co p))])) := (g4H.2.2.2 _ (by first | omega | exact (fun e9 => hb.2.2.2.1 (by rw [e9]; exact hlr)) | exact (fun e9 => hb.2.2.2.2 (by rw [e9]; exact hpp)))).trans hcp0
          have hcr0 : g4.2.2 r = some (true, .inr (18, [(.ref (ko r)), (va_rf (vl r)), (.ref c), (va_rf (rt r)), (.ref g), (vi (co r))])) := (g4H.2.2.2 _ (by first | omega | exact (fun e9 => hb.2.2.2.1 (by rw [e9]; exact hlr)) | exact (fun e9 => hb.2.2.2.2 (by rw [e9]; exact hpp)))).trans hcr0
          have hcc0 : g4.2.2 c = some (true, .inr (18, [(.ref (ko c)), (va_rf (vl c)), (va_rf (lf c)), (va_rf (rt c)), (.ref p), (vi (co c))])) := (g4H.2.2.2 _ (by first | omega | exact (fun e9 => hb.2.2.2.1 (by rw [e9]; exact hlr)) | exact (fun e9 => hb.2.2.2.2 (by rw [e9]; exact hpp)))).trans hcc0
          have fR : ∀ b, (b ≠ m ∧ b ≠ p ∧ b ≠ r ∧ lf r ≠ some b ∧ pa p ≠ some b) → g4.2.2 b = h.2.2 b := fun b hb => (g4H.2.2.2 b (by first | omega | exact (fun e9 => hb.2.2.2.1 (by rw [e9]; exact hlr)) | exact (fun e9 => hb.2.2.2.2 (by rw [e9]; exact hpp)))).trans (fR b hb)
          have hcg0 : g4.2.2 g = some (true, .inr (18, [(.ref (ko g)), (va_rf (vl g)), (va_rf (lf g)), (.ref r), (va_rf (pa g)), (vi (co g))])) := g4H.2.2.1
          have g41 := g4H.1
          have g42 := g4H.2.1
          refine m_aload_n (y := yiJ4_rotateLeft) dJ4_rotateLeft_85 rfl ?_
          refine m_aload_n (y := yiJ4_rotateLeft) dJ4_rotateLeft_86 rfl ?_
          refine m_putfS (y := yiJ4_rotateLeft) kc_18 2 (by decide) dJ4_rotateLeft_87 q1770 rfl hcr0 rfl rfl (hp_put fun g5 g5H => ?_)
          have hm : g5.2.2 m = some (true, .inr (17, [.null, .null, .null, (va_rf root), (vi sz), (vi mc), .null, .null, .null])) := (g5H.2.2.2 _ (by first | omega | exact (fun e9 => hb.2.2.2.1 (by rw [e9]; exact hlr)) | exact (fun e9 => hb.2.2.2.2 (by rw [e9]; exact hpp)))).trans hm
          have hcp0 : g5.2.2 p = some (true, .inr (18, [(.ref (ko p)), (va_rf (vl p)), (va_rf (lf p)), (.ref c), (.ref g), (vi (co p))])) := (g5H.2.2.2 _ (by first | omega | exact (fun e9 => hb.2.2.2.1 (by rw [e9]; exact hlr)) | exact (fun e9 => hb.2.2.2.2 (by rw [e9]; exact hpp)))).trans hcp0
          have hcc0 : g5.2.2 c = some (true, .inr (18, [(.ref (ko c)), (va_rf (vl c)), (va_rf (lf c)), (va_rf (rt c)), (.ref p), (vi (co c))])) := (g5H.2.2.2 _ (by first | omega | exact (fun e9 => hb.2.2.2.1 (by rw [e9]; exact hlr)) | exact (fun e9 => hb.2.2.2.2 (by rw [e9]; exact hpp)))).trans hcc0
          have hcg0 : g5.2.2 g = some (true, .inr (18, [(.ref (ko g)), (va_rf (vl g)), (va_rf (lf g)), (.ref r), (va_rf (pa g)), (vi (co g))])) := (g5H.2.2.2 _ (by first | omega | exact (fun e9 => hb.2.2.2.1 (by rw [e9]; exact hlr)) | exact (fun e9 => hb.2.2.2.2 (by rw [e9]; exact hpp)))).trans hcg0
          have fR : ∀ b, (b ≠ m ∧ b ≠ p ∧ b ≠ r ∧ lf r ≠ some b ∧ pa p ≠ some b) → g5.2.2 b = h.2.2 b := fun b hb => (g5H.2.2.2 b (by first | omega | exact (fun e9 => hb.2.2.2.1 (by rw [e9]; exact hlr)) | exact (fun e9 => hb.2.2.2.2 (by rw [e9]; exact hpp)))).trans (fR b hb)
          have hcr0 : g5.2.2 r = some (true, .inr (18, [(.ref (ko r)), (va_rf (vl r)), (.ref p), (va_rf (rt r)), (.ref g), (vi (co r))])) := g5H.2.2.1
          have g51 := g5H.1
          have g52 := g5H.2.1
          refine m_aload_n (y := yiJ4_rotateLeft) dJ4_rotateLeft_90 rfl ?_
          refine m_aload_n (y := yiJ4_rotateLeft) dJ4_rotateLeft_91 rfl ?_
          refine m_putfS (y := yiJ4_rotateLeft) kc_18 4 (by decide) dJ4_rotateLeft_92 q1773 rfl hcp0 rfl rfl (hp_put fun g6 g6H => ?_)
          have hm : g6.2.2 m = some (true, .inr (17, [.null, .null, .null, (va_rf root), (vi sz), (vi mc), .null, .null, .null])) := (g6H.2.2.2 _ (by first | omega | exact (fun e9 => hb.2.2.2.1 (by rw [e9]; exact hlr)) | exact (fun e9 => hb.2.2.2.2 (by rw [e9]; exact hpp)))).trans hm
          have hcr0 : g6.2.2 r = some (true, .inr (18, [(.ref (ko r)), (va_rf (vl r)), (.ref p), (va_rf (rt r)), (.ref g), (vi (co r))])) := (g6H.2.2.2 _ (by first | omega | exact (fun e9 => hb.2.2.2.1 (by rw [e9]; exact hlr)) | exact (fun e9 => hb.2.2.2.2 (by rw [e9]; exact hpp)))).trans hcr0
          have hcc0 : g6.2.2 c = some (true, .inr (18, [(.ref (ko c)), (va_rf (vl c)), (va_rf (lf c)), (va_rf (rt c)), (.ref p), (vi (co c))])) := (g6H.2.2.2 _ (by first | omega | exact (fun e9 => hb.2.2.2.1 (by rw [e9]; exact hlr)) | exact (fun e9 => hb.2.2.2.2 (by rw [e9]; exact hpp)))).trans hcc0
          have hcg0 : g6.2.2 g = some (true, .inr (18, [(.ref (ko g)), (va_rf (vl g)), (va_rf (lf g)), (.ref r), (va_rf (pa g)), (vi (co g))])) := (g6H.2.2.2 _ (by first | omega | exact (fun e9 => hb.2.2.2.1 (by rw [e9]; exact hlr)) | exact (fun e9 => hb.2.2.2.2 (by rw [e9]; exact hpp)))).trans hcg0
          have fR : ∀ b, (b ≠ m ∧ b ≠ p ∧ b ≠ r ∧ lf r ≠ some b ∧ pa p ≠ some b) → g6.2.2 b = h.2.2 b := fun b hb => (g6H.2.2.2 b (by first | omega | exact (fun e9 => hb.2.2.2.1 (by rw [e9]; exact hlr)) | exact (fun e9 => hb.2.2.2.2 (by rw [e9]; exact hpp)))).trans (fR b hb)
          have hcp0 : g6.2.2 p = some (true, .inr (18, [(.ref (ko p)), (va_rf (vl p)), (va_rf (lf p)), (.ref c), (.ref r), (vi (co p))])) := g6H.2.2.1
          have g61 := g6H.1
          have g62 := g6H.2.1
          subst hQ; exact j_vret (y := yiJ4_rotateLeft) dJ4_rotateLeft_95 rfl (⟨hTF _ (by omega) (by omega) fR, _, _, _, _, _, _, TmF.rotL hF hI hp hr (by unfold roR; rw [if_neg (by rw [hpp]; intro h9; cases h9)]; exact hm) (by rw [hlr]; exact hcp0) (by rw [hpp]; exact hcr0) (fun c9 e => by { rw [hlr] at e; cases e; exact hcc0 }) (fun g9 e => by { rw [hpp] at e; cases e; rw [if_neg hng, if_neg hng]; exact hcg0 }) fR, hI.rot hp hr, (hI.1.rot hp hr).2, rfl⟩)
        · exact absurd c63 hng
theorem TmF.rotR {p r : Nat} {h' : MH} (H : TmF h m L ko vl lf rt pa co root sz mc) (hI : TmI L key lf rt pa lo hi root LO HI) (hp : p ∈ L) (hr : lf p = some r) (e1 : h'.2.2 m = some (true, .inr (17, [.null, .null, .null, va_rf (roR root pa p r), vi sz, vi mc, .null, .null, .null]))) (e2 : h'.2.2 p = some (true, .inr (18, [.ref (ko p), va_rf (vl p), va_rf (rt r), va_rf (rt p), va_rf (some r), vi (co p)]))) (e3 : h'.2.2 r = some (true, .inr (18, [.ref (ko r), va_rf (vl r), va_rf (lf r), va_rf (some p), va_rf (pa p), vi (co r)]))) (e4 : ∀ c, rt r = some c → h'.2.2 c = some (true, .inr (18, [.ref (ko c), va_rf (vl c), va_rf (lf c), va_rf (rt c), va_rf (some p), vi (co c)]))) (e5 : ∀ g, pa p = some g → h'.2.2 g = some (true, .inr (18, [.ref (ko g), va_rf (vl g), va_rf (if rt g = some p then lf g else some r), va_rf (if rt g = some p then some r else rt g), va_rf (pa g), vi (co g)]))) (fr : ∀ b, (b ≠ m ∧ b ≠ p ∧ b ≠ r ∧ rt r ≠ some b ∧ pa p ≠ some b) → h'.2.2 b = h.2.2 b) : TmF h' m L ko vl (upB lf rt p r pa) (upA rt p r pa) (upP pa rt p r) co (roR root pa p r) sz mc := by
  obtain ⟨⟨hrL, npr, hrp⟩, hg, hc⟩ := hI.mir.near hp hr
  have nrp : r ≠ p := fun e => npr e.symm
  refine ⟨e1, fun a ha => ?_, H.2.2⟩
  by_cases x1 : a = p
  · rw [x1, upA_o npr (fun e9 => by have z := hg p e9.1; exact z.2.1 rfl), upB_p, upP_p]; exact e2
  by_cases x2 : a = r
  · rw [x2, upA_r, upB_o nrp (fun e9 => by have z := hg r e9.1; exact z.2.2.1 rfl), upP_r nrp]; exact e3
  by_cases x3 : rt r = some a
  · have z := hc a x3
    rw [upA_o x2 (fun e9 => z.2.2.2 e9.1), upB_o x1 (fun e9 => z.2.2.2 e9.1), upP_c x1 x2 x3]; exact e4 a x3
  by_cases x4 : pa p = some a
  · have z := hg a x4
    rw [upP_o x1 x2 x3, e5 a x4]
    by_cases x5 : rt a = some p
    · rw [if_pos x5, if_pos x5, upA_g x2 x4 x5, upB_o x1 (fun e9 => e9.2 x5)]
    · rw [if_neg x5, if_neg x5, upA_o x2 (fun e9 => x5 e9.2), upB_g x1 x4 x5]
  · rw [upA_o x2 (fun e9 => x4 e9.1), upB_o x1 (fun e9 => x4 e9.1), upP_o x1 x2 x3, fr a ⟨fun e9 => H.mL (by rw [← e9]; exact ha), x1, x2, x3, x4⟩]
    exact H.2.1 a ha
theorem c_J4_rotateRight {p r : Nat} (hF : TmF h m L ko vl lf rt pa co root sz mc) (hI : TmI L key lf rt pa lo hi root LO HI) (hp : p ∈ L) (hr : lf p = some r) : Mt K yiJ4_rotateRight d [.ref m, .ref p] h (Rv fun h' => TFr L m h h' ∧ RoOR h' m L key ko vl lf rt pa co lo hi root sz mc LO HI p r) := by
  obtain ⟨⟨hrL, npr, hrp⟩, hg, hc⟩ := hI.mir.near hp hr
  have hm := hF.1
  have hcp0 := hF.2.1 p hp
  have hcr0 := hF.2.1 r hrL
  have nmp : m ≠ p := ne_oo hm hcp0 (by decide)
  have nmr : m ≠ r := ne_oo hm hcr0 (by decide)
  rw [hr] at hcp0
  have hTF : ∀ g : MH, g.1 = h.1 → g.2.1 = h.2.1 → (∀ b, (b ≠ m ∧ b ≠ p ∧ b ≠ r ∧ rt r ≠ some b ∧ pa p ≠ some b) → g.2.2 b = h.2.2 b) → TFr L m h g := fun g e1 e2 e3 => ⟨e1, e2, fun b hb => e3 b ⟨hb.2, fun e9 => hb.1 (by rw [e9]; exact hp), fun e9 => hb.1 (by rw [e9]; exact hrL), fun e9 => hb.1 (hc b e9).1, fun e9 => hb.1 (hg b e9).1⟩⟩
  cases hlr : rt r with
  | none =>
    rw [hlr, hrp] at hcr0
    cases hpp : pa p with
    | none =>
      rw [hpp] at hcp0
      refine mt_ofQ (by decide) (Nat.le_of_ble_eq_true rfl) (fun Q hQ => ?_)
      show MW K yiJ4_rotateRight d h 0 [some (.ref m), some (.ref p), none] [] Q
      refine mw_wf (fun hwf => ?_)
      have l_hm := hwf _ _ hm
      have l_hcp0 := hwf _ _ hcp0
      have l_hcr0 := hwf _ _ hcr0
      have fR : ∀ b, (b ≠ m ∧ b ≠ p ∧ b ≠ r ∧ rt r ≠ some b ∧ pa p ≠ some b) → h.2.2 b = h.2.2 b := fun _ _ => rfl
      refine m_aload_n (y := yiJ4_rotateRight) dJ4_rotateRight_0 rfl ?_
      refine m_ifnull (y := yiJ4_rotateRight) (x := (some p)) 95 dJ4_rotateRight_1 (by decide) (fun h9 => nomatch h9) (fun _ _ => ?_)
      refine m_aload_n (y := yiJ4_rotateRight) dJ4_rotateRight_4 rfl ?_
      refine m_getfS (y := yiJ4_rotateRight) kc_18 2 (by decide) dJ4_rotateRight_5 q1770 hcp0 rfl ?_
      refine m_astore_n (y := yiJ4_rotateRight) dJ4_rotateRight_8 (by decide) rfl ?_
      show MW K yiJ4_rotateRight d h 9 [some (.ref m), some (.ref p), some (.ref r)] [] Q
      refine m_aload_n (y := yiJ4_rotateRight) dJ4_rotateRight_9 rfl ?_
      refine m_aload_n (y := yiJ4_rotateRight) dJ4_rotateRight_10 rfl ?_
      refine m_getfS (y := yiJ4_rotateRight) kc_18 3 (by decide) dJ4_rotateRight_11 q1771 hcr0 rfl ?_
      refine m_putfS (y := yiJ4_rotateRight) kc_18 2 (by decide) dJ4_rotateRight_14 q1770 rfl hcp0 rfl rfl (hp_put fun g1 g1H => ?_)
      have hm : g1.2.2 m = some (true, .inr (17, [.null, .null, .null, (va_rf root), (vi sz), (vi mc), .null, .null, .null])) := (g1H.2.2.2 _ (by first | omega | exact (fun e9 => hb.2.2.2.1 (by rw [e9]; exact hlr)) | exact (fun e9 => hb.2.2.2.2 (by rw [e9]; exact hpp)))).trans hm
      have hcr0 : g1.2.2 r = some (true, .inr (18, [(.ref (ko r)), (va_rf (vl r)), (va_rf (lf r)), .null, (.ref p), (vi (co r))])) := (g1H.2.2.2 _ (by first | omega | exact (fun e9 => hb.2.2.2.1 (by rw [e9]; exact hlr)) | exact (fun e9 => hb.2.2.2.2 (by rw [e9]; exact hpp)))).trans hcr0
      have fR : ∀ b, (b ≠ m ∧ b ≠ p ∧ b ≠ r ∧ rt r ≠ some b ∧ pa p ≠ some b) → g1.2.2 b = h.2.2 b := fun b hb => (g1H.2.2.2 b (by first | omega | exact (fun e9 => hb.2.2.2.1 (by rw [e9]; exact hlr)) | exact (fun e9 => hb.2.2.2.2 (by rw [e9]; exact hpp)))).trans (fR b hb)
      have hcp0 : g1.2.2 p = some (true, .inr (18, [(.ref (ko p)), (va_rf (vl p)), .null, (va_rf (rt p)), .null, (vi (co p))])) := g1H.2.2.1
      have g11 := g1H.1
      have g12 := g1H.2.1
      refine m_aload_n (y := yiJ4_rotateRight) dJ4_rotateRight_17 rfl ?_
      refine m_getfS (y := yiJ4_rotateRight) kc_18 3 (by decide) dJ4_rotateRight_18 q1771 hcr0 rfl ?_
      refine m_ifnull (y := yiJ4_rotateRight) (x := none) 32 dJ4_rotateRight_21 (by decide) (fun _ => ?_) (fun _ h9 => nomatch h9)
      refine m_aload_n (y := yiJ4_rotateRight) dJ4_rotateRight_32 rfl ?_
      refine m_aload_n (y := yiJ4_rotateRight) dJ4_rotateRight_33 rfl ?_
      refine m_getfS (y := yiJ4_rotateRight) kc_18 4 (by decide) dJ4_rotateRight_34 q1773 hcp0 rfl ?_
      refine m_putfS (y := yiJ4_rotateRight) kc_18 4 (by decide) dJ4_rotateRight_37 q1773 rfl hcr0 rfl rfl (hp_put fun g2 g2H => ?_)
      have hm : g2.2.2 m = some (true, .inr (17, [.null, .null, .null, (va_rf root), (vi sz), (vi mc), .null, .null, .null])) := (g2H.2.2.2 _ (by first | omega | exact (fun e9 => hb.2.2.2.1 (by rw [e9]; exact hlr)) | exact (fun e9 => hb.2.2.2.2 (by rw [e9]; exact hpp)))).trans hm
      have hcp0 : g2.2.2 p = some (true, .inr (18, [(.ref (ko p)), (va_rf (vl p)), .null, (va_rf (rt p)), .null, (vi (co p))])) := (g2H.2.2.2 _ (by first | omega | exact (fun e9 => hb.2.2.2.1 (by rw [e9]; exact hlr)) | exact (fun e9 => hb.2.2.2.2 (by rw [e9]; exact hpp)))).trans hcp0
      have fR : ∀ b, (b ≠ m ∧ b ≠ p ∧ b ≠ r ∧ rt r ≠ some b ∧ pa p ≠ some b) → g2.2.2 b = h.2.2 b := fun b hb => (g2H.2.2.2 b (by first | omega | exact (fun e9 => hb.2.2.2.1 (by rw [e9]; exact hlr)) | exact (fun e9 => hb.2.2.2.2 (by rw [e9]; exact hpp)))).trans (fR b hb)
      have hcr0 : g2.2.2 r = some (true, .inr (18, [(.ref (ko r)), (va_rf (vl r)), (va_rf (lf r)), .null, .null, (vi (co r))])) := g2H.2.2.1
      have g21 := g2H.1
      have g22 := g2H.2.1
      refine m_aload_n (y := yiJ4_rotateRight) dJ4_rotateRight_40 rfl ?_
      refine m_getfS (y := yiJ4_rotateRight) kc_18 4 (by decide) dJ4_rotateRight_41 q1773 hcp0 rfl ?_
      refine m_ifnonnull (y := yiJ4_rotateRight) (x := none) 55 dJ4_rotateRight_44 (by decide) (fun _ h9 => nomatch h9) (fun _ => ?_)
      refine m_aload_n (y := yiJ4_rotateRight) dJ4_rotateRight_47 rfl ?_
      refine m_aload_n (y := yiJ4_rotateRight) dJ4_rotateRight_48 rfl ?_
      refine m_putfS (y := yiJ4_rotateRight) kc_17 3 (by decide) dJ4_rotateRight_49 q240 rfl hm rfl rfl (hp_put fun g3 g3H => ?_)
      have hcp0 : g3.2.2 p = some (true, .inr (18, [(.ref (ko p)), (va_rf (vl p)), .null, (va_rf (rt p)), .null, (vi (co p))])) := (g3H.2.2.2 _ (by first | omega | exact (fun e9 => hb.2.2.2.1 (by rw [e9]; exact hlr)) | exact (fun e9 => hb.2.2.2.2 (by rw [e9]; exact hpp)))).trans hcp0
      have hcr0 : g3.2.2 r = some (true, .inr (18, [(.ref (ko r)), (va_rf (vl r)), (va_rf (lf r)), .null, .null, (vi (co r))])) := (g3H.2.2.2 _ (by first | omega | exact (fun e9 => hb.2.2.2.1 (by rw [e9]; exact hlr)) | exact (fun e9 => hb.2.2.2.2 (by rw [e9]; exact hpp)))).trans hcr0
      have fR : ∀ b, (b ≠ m ∧ b ≠ p ∧ b ≠ r ∧ rt r ≠ some b ∧ pa p ≠ some b) → g3.2.2 b = h.2.2 b := fun b hb => (g3H.2.2.2 b (by first | omega | exact (fun e9 => hb.2.2.2.1 (by rw [e9]; exact hlr)) | exact (fun e9 => hb.2.2.2.2 (by rw [e9]; exact hpp)))).trans (fR b hb)
      have hm : g3.2.2 m = some (true, .inr (17, [.null, .null, .null, (.ref r), (vi sz), (vi mc), .null, .null, .null])) := g3H.2.2.1
      have g31 := g3H.1
      have g32 := g3H.2.1
      refine m_goto (y := yiJ4_rotateRight) 85 dJ4_rotateRight_52 (by decide) ?_
      refine m_aload_n (y := yiJ4_rotateRight) dJ4_rotateRight_85 rfl ?_
      refine m_aload_n (y := yiJ4_rotateRight) dJ4_rotateRight_86 rfl ?_
      refine m_putfS (y := yiJ4_rotateRight) kc_18 3 (by decide) dJ4_rotateRight_87 q1771 rfl hcr0 rfl rfl (hp_put fun g4 g4H => ?_)
      have hm : g4.2.2 m = some (true, .inr (17, [.null, .null, .null, (.ref r), (vi sz), (vi mc), .null, .null, .null])) := (g4H.2.2.2 _ (by first | omega | exact (fun e9 => hb.2.2.2.1 (by rw [e9]; exact hlr)) | exact (fun e9 => hb.2.2.2.2 (by rw [e9]; exact hpp)))).trans hm
      have hcp0 : g4.2.2 p = some (true, .inr (18, [(.ref (ko p)), (va_rf (vl p)), .null, (va_rf (rt p)), .null, (vi (co p))])) := (g4H.2.2.2 _ (by first | omega | exact (fun e9 => hb.2.2.2.1 (by rw [e9]; exact hlr)) | exact (fun e9 => hb.2.2.2.2 (by rw [e9]; exact hpp)))).trans hcp0
      have fR : ∀ b, (b ≠ m ∧ b ≠ p ∧ b ≠ r ∧ rt r ≠ some b ∧ pa p ≠ some b) → g4.2.2 b = h.2.2 b := fun b hb => (g4H.2.2.2 b (by first | omega | exact (fun e9 => hb.2.2.2.1 (by rw [e9]; exact hlr)) | exact (fun e9 => hb.2.2.2.2 (by rw [e9]; exact hpp)))).trans (fR b hb)
      have hcr0 : g4.2.2 r = some (true, .inr (18, [(.ref (ko r)), (va_rf (vl r)), (va_rf (lf r)), (.ref p), .null, (vi (co r))])) := g4H.2.2.1
      have g41 := g4H.1
      have g42 := g4H.2.1
      refine m_aload_n (y := yiJ4_rotateRight) dJ4_rotateRight_90 rfl ?_
      refine m_aload_n (y := yiJ4_rotateRight) dJ4_rotateRight_91 rfl ?_
      refine m_putfS (y := yiJ4_rotateRight) kc_18 4 (by decide) dJ4_rotateRight_92 q1773 rfl hcp0 rfl rfl (hp_put fun g5 g5H => ?_)
      have hm : g5.2.2 m = some (true, .inr (17, [.null, .null, .null, (.ref r), (vi sz), (vi mc), .null, .null, .null])) := (g5H.2.2.2 _ (by first | omega | exact (fun e9 => hb.2.2.2.1 (by rw [e9]; exact hlr)) | exact (fun e9 => hb.2.2.2.2 (by rw [e9]; exact hpp)))).trans hm
      have hcr0 : g5.2.2 r = some (true, .inr (18, [(.ref (ko r)), (va_rf (vl r)), (va_rf (lf r)), (.ref p), .null, (vi (co r))])) := (g5H.2.2.2 _ (by first | omega | exact (fun e9 => hb.2.2.2.1 (by rw [e9]; exact hlr)) | exact (fun e9 => hb.2.2.2.2 (by rw [e9]; exact hpp)))).trans hcr0
      have fR : ∀ b, (b ≠ m ∧ b ≠ p ∧ b ≠ r ∧ rt r ≠ some b ∧ pa p ≠ some b) → g5.2.2 b = h.2.2 b := fun b hb => (g5H.2.2.2 b (by first | omega | exact (fun e9 => hb.2.2.2.1 (by rw [e9]; exact hlr)) | exact (fun e9 => hb.2.2.2.2 (by rw [e9]; exact hpp)))).trans (fR b hb)
      have hcp0 : g5.2.2 p = some (true, .inr (18, [(.ref (ko p)), (va_rf (vl p)), .null, (va_rf (rt p)), (.ref r), (vi (co p))])) := g5H.2.2.1
      have g51 := g5H.1
      have g52 := g5H.2.1
      subst hQ; exact j_vret (y := yiJ4_rotateRight) dJ4_rotateRight_95 rfl (⟨hTF _ (by omega) (by omega) fR, _, _, _, _, _, _, TmF.rotR hF hI hp hr (by unfold roR; rw [if_pos hpp]; exact hm) (by rw [hlr]; exact hcp0) (by rw [hpp]; exact hcr0) (fun c9 e => by { rw [hlr] at e; cases e }) (fun g9 e => by { rw [hpp] at e; cases e }) fR, hI.rotR hp hr, (hI.1.rotR hp hr).2, rfl⟩)
    | some g =>
      rw [hpp] at hcp0
      obtain ⟨hgL, ngp, ngr, ngc, hgs⟩ := hg g hpp
      have hcg0 := hF.2.1 g hgL
      have nmg : m ≠ g := ne_oo hm hcg0 (by decide)
      by_cases hlg : rt g = some p
      · rw [hlg] at hcg0
        refine mt_ofQ (by decide) (Nat.le_of_ble_eq_true rfl) (fun Q hQ => ?_)
        show MW K yiJ4_rotateRight d h 0 [some (.ref m), some (.ref p), none] [] Q
        refine mw_wf (fun hwf => ?_)
        have l_hm := hwf _ _ hm
        have l_hcp0 := hwf _ _ hcp0
        have l_hcr0 := hwf _ _ hcr0
        have l_hcg0 := hwf _ _ hcg0
        have fR : ∀ b, (b ≠ m ∧ b ≠ p ∧ b ≠ r ∧ rt r ≠ some b ∧ pa p ≠ some b) → h.2.2 b = h.2.2 b := fun _ _ => rfl
        refine m_aload_n (y := yiJ4_rotateRight) dJ4_rotateRight_0 rfl ?_
        refine m_ifnull (y := yiJ4_rotateRight) (x := (some p)) 95 dJ4_rotateRight_1 (by decide) (fun h9 => nomatch h9) (fun _ _ => ?_)
        refine m_aload_n (y := yiJ4_rotateRight) dJ4_rotateRight_4 rfl ?_
        refine m_getfS (y := yiJ4_rotateRight) kc_18 2 (by decide) dJ4_rotateRight_5 q1770 hcp0 rfl ?_
        refine m_astore_n (y := yiJ4_rotateRight) dJ4_rotateRight_8 (by decide) rfl ?_
        show MW K yiJ4_rotateRight d h 9 [some (.ref m), some (.ref p), some (.ref r)] [] Q
        refine m_aload_n (y := yiJ4_rotateRight) dJ4_rotateRight_9 rfl ?_
        refine m_aload_n (y := yiJ4_rotateRight) dJ4_rotateRight_10 rfl ?_
        refine m_getfS (y := yiJ4_rotateRight) kc_18 3 (by decide) dJ4_rotateRight_11 q1771 hcr0 rfl ?_
        refine m_putfS (y := yiJ4_rotateRight) kc_18 2 (by decide) dJ4_rotateRight_14 q1770 rfl hcp0 rfl rfl (hp_put fun g1 g1H => ?_)
        have hm : g1.2.2 m = some (true, .inr (17, [.null, .null, .null, (va_rf root), (vi sz), (vi mc), .null, .null, .null])) := (g1H.2.2.2 _ (by first | omega | exact (fun e9 => hb.2.2.2.1 (by rw [e9]; exact hlr)) | exact (fun e9 => hb.2.2.2.2 (by rw [e9]; exact hpp)))).trans hm
        have hcr0 : g1.2.2 r = some (true, .inr (18, [(.ref (ko r)), (va_rf (vl r)), (va_rf (lf r)), .null, (.ref p), (vi (co r))])) := (g1H.2.2.2 _ (by first | omega | exact (fun e9 => hb.2.2.2.1 (by rw [e9]; exact hlr)) | exact (fun e9 => hb.2.2.2.2 (by rw [e9]; exact hpp)))).trans hcr0
        have hcg0 : g1.2.2 g = some (true, .inr (18, [(.ref (ko g)), (va_rf (vl g)), (va_rf (lf g)), (.ref p), (va_rf (pa g)), (vi (co g))])) := (g1H.2.2.2 _ (by first | omega | exact (fun e9 => hb.2.2.2.1 (by rw [e9]; exact hlr)) | exact (fun e9 => hb.2.2.2.2 (by rw [e9]; exact hpp)))).trans hcg0
        have fR : ∀ b, (b ≠ m ∧ b ≠ p ∧ b ≠ r ∧ rt r ≠ some b ∧ pa p ≠ some b) → g1.2.2 b = h.2.2 b := fun b hb => (g1H.2.2.2 b (by first | omega | exact (fun e9 => hb.2.2.2.1 (by rw [e9]; exact hlr)) | exact (fun e9 => hb.2.2.2.2 (by rw [e9]; exact hpp)))).trans (fR b hb)
        have hcp0 : g1.2.2 p = some (true, .inr (18, [(.ref (ko p)), (va_rf (vl p)), .null, (va_rf (rt p)), (.ref g), (vi (co p))])) := g1H.2.2.1
        have g11 := g1H.1
        have g12 := g1H.2.1
        refine m_aload_n (y := yiJ4_rotateRight) dJ4_rotateRight_17 rfl ?_
        refine m_getfS (y := yiJ4_rotateRight) kc_18 3 (by decide) dJ4_rotateRight_18 q1771 hcr0 rfl ?_
        refine m_ifnull (y := yiJ4_rotateRight) (x := none) 32 dJ4_rotateRight_21 (by decide) (fun _ => ?_) (fun _ h9 => nomatch h9)
        refine m_aload_n (y := yiJ4_rotateRight) dJ4_rotateRight_32 rfl ?_
        refine m_aload_n (y := yiJ4_rotateRight) dJ4_rotateRight_33 rfl ?_
        refine m_getfS (y := yiJ4_rotateRight) kc_18 4 (by decide) dJ4_rotateRight_34 q1773 hcp0 rfl ?_
        refine m_putfS (y := yiJ4_rotateRight) kc_18 4 (by decide) dJ4_rotateRight_37 q1773 rfl hcr0 rfl rfl (hp_put fun g2 g2H => ?_)
        have hm : g2.2.2 m = some (true, .inr (17, [.null, .null, .null, (va_rf root), (vi sz), (vi mc), .null, .null, .null])) := (g2H.2.2.2 _ (by first | omega | exact (fun e9 => hb.2.2.2.1 (by rw [e9]; exact hlr)) | exact (fun e9 => hb.2.2.2.2 (by rw [e9]; exact hpp)))).trans hm
        have hcp0 : g2.2.2 p = some (true, .inr (18, [(.ref (ko p)), (va_rf (vl p)), .null, (va_rf (rt p)), (.ref g), (vi (co p))])) := (g2H.2.2.2 _ (by first | omega | exact (fun e9 => hb.2.2.2.1 (by rw [e9]; exact hlr)) | exact (fun e9 => hb.2.2.2.2 (by rw [e9]; exact hpp)))).trans hcp0
        have hcg0 : g2.2.2 g = some (true, .inr (18, [(.ref (ko g)), (va_rf (vl g)), (va_rf (lf g)), (.ref p), (va_rf (pa g)), (vi (co g))])) := (g2H.2.2.2 _ (by first | omega | exact (fun e9 => hb.2.2.2.1 (by rw [e9]; exact hlr)) | exact (fun e9 => hb.2.2.2.2 (by rw [e9]; exact hpp)))).trans hcg0
        have fR : ∀ b, (b ≠ m ∧ b ≠ p ∧ b ≠ r ∧ rt r ≠ some b ∧ pa p ≠ some b) → g2.2.2 b = h.2.2 b := fun b hb => (g2H.2.2.2 b (by first | omega | exact (fun e9 => hb.2.2.2.1 (by rw [e9]; exact hlr)) | exact (fun e9 => hb.2.2.2.2 (by rw [e9]; exact hpp)))).trans (fR b hb)
        have hcr0 : g2.2.2 r = some (true, .inr (18, [(.ref (ko r)), (va_rf (vl r)), (va_rf (lf r)), .null, (.ref g), (vi (co r))])) := g2H.2.2.1
        have g21 := g2H.1
        have g22 := g2H.2.1
        refine m_aload_n (y := yiJ4_rotateRight) dJ4_rotateRight_40 rfl ?_
        refine m_getfS (y := yiJ4_rotateRight) kc_18 4 (by decide) dJ4_rotateRight_41 q1773 hcp0 rfl ?_
        refine m_ifnonnull (y := yiJ4_rotateRight) (x := (some g)) 55 dJ4_rotateRight_44 (by decide) (fun _ _ => ?_) (fun h9 => nomatch h9)
        refine m_aload_n (y := yiJ4_rotateRight) dJ4_rotateRight_55 rfl ?_
        refine m_getfS (y := yiJ4_rotateRight) kc_18 4 (by decide) dJ4_rotateRight_56 q1773 hcp0 rfl ?_
        refine m_getfS (y := yiJ4_rotateRight) kc_18 3 (by decide) dJ4_rotateRight_59 q1771 hcg0 rfl ?_
        refine m_aload_n (y := yiJ4_rotateRight) dJ4_rotateRight_62 rfl ?_
        refine m_acmp_ne (y := yiJ4_rotateRight) (x := (some p)) (z := (some p)) 77 dJ4_rotateRight_63 (by decide) (fun c => absurd rfl c) (fun _ => ?_)
        refine m_aload_n (y := yiJ4_rotateRight) dJ4_rotateRight_66 rfl ?_
        refine m_getfS (y := yiJ4_rotateRight) kc_18 4 (by decide) dJ4_rotateRight_67 q1773 hcp0 rfl ?_
        refine m_aload_n (y := yiJ4_rotateRight) dJ4_rotateRight_70 rfl ?_
        refine m_putfS (y := yiJ4_rotateRight) kc_18 3 (by decide) dJ4_rotateRight_71 q1771 rfl hcg0 rfl rfl (hp_put fun g3 g3H => ?_)
        have hm : g3.2.2 m = some (true, .inr (17, [.null, .null, .null, (va_rf root), (vi sz), (vi mc), .null, .null, .null])) := (g3H.2.2.2 _ (by first | omega | exact (fun e9 => hb.2.2.2.1 (by rw [e9]; exact hlr)) | exact (fun e9 => hb.2.2.2.2 (by rw [e9]; exact hpp)))).trans hm
        have hcp0 : g3.2.2 p = some (true, .inr (18, [(.ref (ko p)), (va_rf (vl p)), .null, (va_rf (rt p)), (.ref g), (vi (co p))])) := (g3H.2.2.2 _ (by first | omega | exact (fun e9 => hb.2.2.2.1 (by rw [e9]; exact hlr)) | exact (fun e9 => hb.2.2.2.2 (by rw [e9]; exact hpp)))).trans hcp0
        have hcr0 : g3.2.2 r = some (true, .inr (18, [(.ref (ko r)), (va_rf (vl r)), (va_rf (lf r)), .null, (.ref g), (vi (co r))])) := (g3H.2.2.2 _ (by first | omega | exact (fun e9 => hb.2.2.2.1 (by rw [e9]; exact hlr)) | exact (fun e9 => hb.2.2.2.2 (by rw [e9]; exact hpp)))).trans hcr0
        have fR : ∀ b, (b ≠ m ∧ b ≠ p ∧ b ≠ r ∧ rt r ≠ some b ∧ pa p ≠ some b) → g3.2.2 b = h.2.2 b := fun b hb => (g3H.2.2.2 b (by first | omega | exact (fun e9 => hb.2.2.2.1 (by rw [e9]; exact hlr)) | exact (fun e9 => hb.2.2.2.2 (by rw [e9]; exact hpp)))).trans (fR b hb)
        have hcg0 : g3.2.2 g = some (true, .inr (18, [(.ref (ko g)), (va_rf (vl g)), (va_rf (lf g)), (.ref r), (va_rf (pa g)), (vi (co g))])) := g3H.2.2.1
        have g31 := g3H.1
        have g32 := g3H.2.1
        refine m_goto (y := yiJ4_rotateRight) 85 dJ4_rotateRight_74 (by decide) ?_
        refine m_aload_n (y := yiJ4_rotateRight) dJ4_rotateRight_85 rfl ?_
        refine m_aload_n (y := yiJ4_rotateRight) dJ4_rotateRight_86 rfl ?_
        refine m_putfS (y := yiJ4_rotateRight) kc_18 3 (by decide) dJ4_rotateRight_87 q1771 rfl hcr0 rfl rfl (hp_put fun g4 g4H => ?_)
        have hm : g4.2.2 m = some (true, .inr (17, [.null, .null, .null, (va_rf root), (vi sz), (vi mc), .null, .null, .null])) := (g4H.2.2.2 _ (by first | omega | exact (fun e9 => hb.2.2.2.1 (by rw [e9]; exact hlr)) | exact (fun e9 => hb.2.2.2.2 (by rw [e9]; exact hpp)))).trans hm
        have hcp0 : g4.2.2 p = some (true, .inr (18, [(.ref (ko p)), (va_rf (vl p)), .null, (va_rf (rt p)), (.ref g), (vi (co p))])) := (g4H.2.2.2 _ (by first | omega | exact (fun e9 => hb.2.2.2.1 (by rw [e9]; exact hlr)) | exact (fun e9 => hb.2.2.2.2 (by rw [e9]; exact hpp)))).trans hcp0
        have hcg0 : g4.2.2 g = some (true, .inr (18, [(.ref (ko g)), (va_rf (vl g)), (va_rf (lf g)), (.ref r), (va_rf (pa g)), (vi (co g))])) := (g4H.2.2.2 _ (by first | omega | exact (fun e9 => hb.2.2.2.1 (by rw [e9]; exact hlr)) | exact (fun e9 => hb.2.2.2.2 (by rw [e9]; exact hpp)))).trans hcg0
        have fR : ∀ b, (b ≠ m ∧ b ≠ p ∧ b ≠ r ∧ rt r ≠ some b ∧ pa p ≠ some b) → g4.2.2 b = h.2.2 b := fun b hb => (g4H.2.2.2 b (by first | omega | exact (fun e9 => hb.2.2.2.1 (by rw [e9]; exact hlr)) | exact (fun e9 => hb.2.2.2.2 (by rw [e9]; exact hpp)))).trans (fR b hb)
        have hcr0 : g4.2.2 r = some (true, .inr (18, [(.ref (ko r)), (va_rf (vl r)), (va_rf (lf r)), (.ref p), (.ref g), (vi (co r))])) := g4H.2.2.1
        have g41 := g4H.1
        have g42 := g4H.2.1
        refine m_aload_n (y := yiJ4_rotateRight) dJ4_rotateRight_90 rfl ?_
        refine m_aload_n (y := yiJ4_rotateRight) dJ4_rotateRight_91 rfl ?_
        refine m_putfS (y := yiJ4_rotateRight) kc_18 4 (by decide) dJ4_rotateRight_92 q1773 rfl hcp0 rfl rfl (hp_put fun g5 g5H => ?_)
        have hm : g5.2.2 m = some (true, .inr (17, [.null, .null, .null, (va_rf root), (vi sz), (vi mc), .null, .null, .null])) := (g5H.2.2.2 _ (by first | omega | exact (fun e9 => hb.2.2.2.1 (by rw [e9]; exact hlr)) | exact (fun e9 => hb.2.2.2.2 (by rw [e9]; exact hpp)))).trans hm
        have hcr0 : g5.2.2 r = some (true, .inr (18, [(.ref (ko r)), (va_rf (vl r)), (va_rf (lf r)), (.ref p), (.ref g), (vi (co r))])) := (g5H.2.2.2 _ (by first | omega | exact (fun e9 => hb.2.2.2.1 (by rw [e9]; exact hlr)) | exact (fun e9 => hb.2.2.2.2 (by rw [e9]; exact hpp)))).trans hcr0
        have hcg0 : g5.2.2 g = some (true, .inr (18, [(.ref (ko g)), (va_rf (vl g)), (va_rf (lf g)), (.ref r), (va_rf (pa g)), (vi (co g))])) := (g5H.2.2.2 _ (by first | omega | exact (fun e9 => hb.2.2.2.1 (by rw [e9]; exact hlr)) | exact (fun e9 => hb.2.2.2.2 (by rw [e9]; exact hpp)))).trans hcg0
        have fR : ∀ b, (b ≠ m ∧ b ≠ p ∧ b ≠ r ∧ rt r ≠ some b ∧ pa p ≠ some b) → g5.2.2 b = h.2.2 b := fun b hb => (g5H.2.2.2 b (by first | omega | exact (fun e9 => hb.2.2.2.1 (by rw [e9]; exact hlr)) | exact (fun e9 => hb.2.2.2.2 (by rw [e9]; exact hpp)))).trans (fR b hb)
        have hcp0 : g5.2.2 p = some (true, .inr (18, [(.ref (ko p)), (va_rf (vl p)), .null, (va_rf (rt p)), (.ref r), (vi (co p))])) := g5H.2.2.1
        have g51 := g5H.1
        have g52 := g5H.2.1
        subst hQ; exact j_vret (y := yiJ4_rotateRight) dJ4_rotateRight_95 rfl (⟨hTF _ (by omega) (by omega) fR, _, _, _, _, _, _, TmF.rotR hF hI hp hr (by unfold roR; rw [if_neg (by rw [hpp]; intro h9; cases h9)]; exact hm) (by rw [hlr]; exact hcp0) (by rw [hpp]; exact hcr0) (fun c9 e => by { rw [hlr] at e; cases e }) (fun g9 e => by { rw [hpp] at e; cases e; rw [if_pos hlg, if_pos hlg]; exact hcg0 }) fR, hI.rotR hp hr, (hI.1.rotR hp hr).2, rfl⟩)
      · have hng := hlg
        refine mt_ofQ (by decide) (Nat.le_of_ble_eq_true rfl) (fun Q hQ => ?_)
        show MW K yiJ4_rotateRight d h 0 [some (.ref m), some (.ref p), none] [] Q
        refine mw_wf (fun hwf => ?_)
        have l_hm := hwf _ _ hm
        have l_hcp0 := hwf _ _ hcp0
        have l_hcr0 := hwf _ _ hcr0
        have l_hcg0 := hwf _ _ hcg0
        have fR : ∀ b, (b ≠ m ∧ b ≠ p ∧ b ≠ r ∧ rt r ≠ some b ∧ pa p ≠ some b) → h.2.2 b = h.2.2 b := fun _ _ => rfl
        refine m_aload_n (y := yiJ4_rotateRight) dJ4_rotateRight_0 rfl ?_
        refine m_ifnull (y := yiJ4_rotateRight) (x := (some p)) 95 dJ4_rotateRight_1 (by decide) (fun h9 => nomatch h9) (fun _ _ => ?_)
        refine m_aload_n (y := yiJ4_rotateRight) dJ4_rotateRight_4 rfl ?_
        refine m_getfS (y := yiJ4_rotateRight) kc_18 2 (by decide) dJ4_rotateRight_5 q1770 hcp0 rfl ?_
        refine m_astore_n (y := yiJ4_rotateRight) dJ4_rotateRight_8 (by decide) rfl ?_
        show MW K yiJ4_rotateRight d h 9 [some (.ref m), some (.ref p), some (.ref r)] [] Q
        refine m_aload_n (y := yiJ4_rotateRight) dJ4_rotateRight_9 rfl ?_
        refine m_aload_n (y := yiJ4_rotateRight) dJ4_rotateRight_10 rfl ?_
        refine m_getfS (y := yiJ4_rotateRight) kc_18 3 (by decide) dJ4_rotateRight_11 q1771 hcr0 rfl ?_
        refine m_putfS (y := yiJ4_rotateRight) kc_18 2 (by decide) dJ4_rotateRight_14 q1770 rfl hcp0 rfl rfl (hp_put fun g1 g1H => ?_)
        have hm : g1.2.2 m = some (true, .inr (17, [.null, .null, .null, (va_rf root), (vi sz), (vi mc), .null, .null, .null])) := (g1H.2.2.2 _ (by first | omega | exact (fun e9 => hb.2.2.2.1 (by rw [e9]; exact hlr)) | exact (fun e9 => hb.2.2.2.2 (by rw [e9]; exact hpp)))).trans hm
        have hcr0 : g1.2.2 r = some (true, .inr (18, [(.ref (ko r)), (va_rf (vl r)), (va_rf (lf r)), .null, (.ref p), (vi (co r))])) := (g1H.2.2.2 _ (by first | omega | exact (fun e9 => hb.2.2.2.1 (by rw [e9]; exact hlr)) | exact (fun e9 => hb.2.2.2.2 (by rw [e9]; exact hpp)))).trans hcr0
        have hcg0 : g1.2.2 g = some (true, .inr (18, [(.ref (ko g)), (va_rf (vl g)), (va_rf (lf g)), (va_rf (rt g)), (va_rf (pa g)), (vi (co g))])) := (g1H.2.2.2 _ (by first | omega | exact (fun e9 => hb.2.2.2.1 (by rw [e9]; exact hlr)) | exact (fun e9 => hb.2.2.2.2 (by rw [e9]; exact hpp)))).trans hcg0
        have fR : ∀ b, (b ≠ m ∧ b ≠ p ∧ b ≠ r ∧ rt r ≠ some b ∧ pa p ≠ some b) → g1.2.2 b = h.2.2 b := fun b hb => (g1H.2.2.2 b (by first | omega | exact (fun e9 => hb.2.2.2.1 (by rw [e9]; exact hlr)) | exact (fun e9 => hb.2.2.2.2 (by rw [e9]; exact hpp)))).trans (fR b hb)
        have hcp0 : g1.2.2 p = some (true, .inr (18, [(.ref (ko p)), (va_rf (vl p)), .null, (va_rf (rt p)), (.ref g), (vi (co p))])) := g1H.2.2.1
        have g11 := g1H.1
        have g12 := g1H.2.1
        refine m_aload_n (y := yiJ4_rotateRight) dJ4_rotateRight_17 rfl ?_
        refine m_getfS (y := yiJ4_rotateRight) kc_18 3 (by decide) dJ4_rotateRight_18 q1771 hcr0 rfl ?_
        refine m_ifnull (y := yiJ4_rotateRight) (x := none) 32 dJ4_rotateRight_21 (by decide) (fun _ => ?_) (fun _ h9 => nomatch h9)
        refine m_aload_n (y := yiJ4_rotateRight) dJ4_rotateRight_32 rfl ?_
        refine m_aload_n (y := yiJ4_rotateRight) dJ4_rotateRight_33 rfl ?_
        refine m_getfS (y := yiJ4_rotateRight) kc_18 4 (by decide) dJ4_rotateRight_34 q1773 hcp0 rfl ?_
        refine m_putfS (y := yiJ4_rotateRight) kc_18 4 (by decide) dJ4_rotateRight_37 q1773 rfl hcr0 rfl rfl (hp_put fun g2 g2H => ?_)
        have hm : g2.2.2 m = some (true, .inr (17, [.null, .null, .null, (va_rf root), (vi sz), (vi mc), .null, .null, .null])) := (g2H.2.2.2 _ (by first | omega | exact (fun e9 => hb.2.2.2.1 (by rw [e9]; exact hlr)) | exact (fun e9 => hb.2.2.2.2 (by rw [e9]; exact hpp)))).trans hm
        have hcp0 : g2.2.2 p = some (true, .inr (18, [(.ref (ko p)), (va_rf (vl p)), .null, (va_rf (rt p)), (.ref g), (vi (co p))])) := (g2H.2.2.2 _ (by first | omega | exact (fun e9 => hb.2.2.2.1 (by rw [e9]; exact hlr)) | exact (fun e9 => hb.2.2.2.2 (by rw [e9]; exact hpp)))).trans hcp0
        have hcg0 : g2.2.2 g = some (true, .inr (18, [(.ref (ko g)), (va_rf (vl g)), (va_rf (lf g)), (va_rf (rt g)), (va_rf (pa g)), (vi (co g))])) := (g2H.2.2.2 _ (by first | omega | exact (fun e9 => hb.2.2.2.1 (by rw [e9]; exact hlr)) | exact (fun e9 => hb.2.2.2.2 (by rw [e9]; exact hpp)))).trans hcg0
        have fR : ∀ b, (b ≠ m ∧ b ≠ p ∧ b ≠ r ∧ rt r ≠ some b ∧ pa p ≠ some b) → g2.2.2 b = h.2.2 b := fun b hb => (g2H.2.2.2 b (by first | omega | exact (fun e9 => hb.2.2.2.1 (by rw [e9]; exact hlr)) | exact (fun e9 => hb.2.2.2.2 (by rw [e9]; exact hpp)))).trans (fR b hb)
        have hcr0 : g2.2.2 r = some (true, .inr (18, [(.ref (ko r)), (va_rf (vl r)), (va_rf (lf r)), .null, (.ref g), (vi (co r))])) := g2H.2.2.1
        have g21 := g2H.1
        have g22 := g2H.2.1
        refine m_aload_n (y := yiJ4_rotateRight) dJ4_rotateRight_40 rfl ?_
        refine m_getfS (y := yiJ4_rotateRight) kc_18 4 (by decide) dJ4_rotateRight_41 q1773 hcp0 rfl ?_
        refine m_ifnonnull (y := yiJ4_rotateRight) (x := (some g)) 55 dJ4_rotateRight_44 (by decide) (fun _ _ => ?_) (fun h9 => nomatch h9)
        refine m_aload_n (y := yiJ4_rotateRight) dJ4_rotateRight_55 rfl ?_
        refine m_getfS (y := yiJ4_rotateRight) kc_18 4 (by decide) dJ4_rotateRight_56 q1773 hcp0 rfl ?_
        refine m_getfS (y := yiJ4_rotateRight) kc_18 3 (by decide) dJ4_rotateRight_59 q1771 hcg0 rfl ?_
        refine m_aload_n (y := yiJ4_rotateRight) dJ4_rotateRight_62 rfl ?_
        refine m_acmp_ne (y := yiJ4_rotateRight) (x := (rt g)) (z := (some p)) 77 dJ4_rotateRight_63 (by decide) (fun c63 => ?_) (fun c63 => ?_)
        · refine m_aload_n (y := yiJ4_rotateRight) dJ4_rotateRight_77 rfl ?_
          refine m_getfS (y := yiJ4_rotateRight) kc_18 4 (by decide) dJ4_rotateRight_78 q1773 hcp0 rfl ?_
          refine m_aload_n (y := yiJ4_rotateRight) dJ4_rotateRight_81 rfl ?_
          refine m_putfS (y := yiJ4_rotateRight) kc_18 2 (by decide) dJ4_rotateRight_82 q1770 rfl hcg0 rfl rfl (hp_put fun g3 g3H => ?_)
          have hm : g3.2.2 m = some (true, .inr (17, [.null, .null, .null, (va_rf root), (vi sz), (vi mc), .null, .null, .null])) := (g3H.2.2.2 _ (by first | omega | exact (fun e9 => hb.2.2.2.1 (by rw [e9]; exact hlr)) | exact (fun e9 => hb.2.2.2.2 (by rw [e9]; exact hpp)))).trans hm
          have hcp0 : g3.2.2 p = some (true, .inr (18, [(.ref (ko p)), (va_rf (vl p)), .null, (va_rf (rt p)), (.ref g), (vi (co p))])) := (g3H.2.2.2 _ (by first | omega | exact (fun e9 => hb.2.2.2.1 (by rw [e9]; exact hlr)) | exact (fun e9 => hb.2.2.2.2 (by rw [e9]; exact hpp)))).trans hcp0
          have hcr0 : g3.2.2 r = some (true, .inr (18, [(.ref (ko r)), (va_rf (vl r)), (va_rf (lf r)), .null, (.ref g), (vi (co r))])) := (g3H.2.2.2 _ (by first | omega | exact (fun e9 => hb.2.2.2.1 (by rw [e9]; exact hlr)) | exact (fun e9 => hb.2.2.2.2 (by rw [e9]; exact hpp)))).trans hcr0
          have fR : ∀ b, (b ≠ m ∧ b ≠ p ∧ b ≠ r ∧ rt r ≠ some b ∧ pa p ≠ some b) → g3.2.2 b = h.2.2 b := fun b hb => (g3H.2.2.2 b (by first | omega | exact (fun e9 => hb.2.2.2.1 (by rw [e9]; exact hlr)) | exact (fun e9 => hb.2.2.2.2 (by rw [e9]; exact hpp)))).trans (fR b hb)
          have hcg0 : g3.2.2 g = some (true, .inr (18, [(.ref (ko g)), (va_rf (vl g)), (.ref r), (va_rf (rt g)), (va_rf (pa g)), (vi (co g))])) := g3H.2.2.1
          have g31 := g3H.1
          have g32 := g3H.2.1
          refine m_aload_n (y := yiJ4_rotateRight) dJ4_rotateRight_85 rfl ?_
          refine m_aload_n (y := yiJ4_rotateRight) dJ4_rotateRight_86 rfl ?_
          refine m_putfS (y := yiJ4_rotateRight) kc_18 3 (by decide) dJ4_rotateRight_87 q1771 rfl hcr0 rfl rfl (hp_put fun g4 g4H => ?_)
          have hm : g4.2.2 m = some (true, .inr (17, [.null, .null, .null, (va_rf root), (vi sz), (vi mc), .null, .null, .null])) := (g4H.2.2.2 _ (by first | omega | exact (fun e9 => hb.2.2.2.1 (by rw [e9]; exact hlr)) | exact (fun e9 => hb.2.2.2.2 (by rw [e9]; exact hpp)))).trans hm
          have hcp0 : g4.2.2 p = some (true, .inr (18, [(.ref (ko p)), (va_rf (vl p)), .null, (va_rf (rt p)), (.ref g), (vi (co p))])) := (g4H.2.2.2 _ (by first | omega | exact (fun e9 => hb.2.2.2.1 (by rw [e9]; exact hlr)) | exact (fun e9 => hb.2.2.2.2 (by rw [e9]; exact hpp)))).trans hcp0
          have hcg0 : g4.2.2 g = some (true, .inr (18, [(.ref (ko g)), (va_rf (vl g)), (.ref r), (va_rf (rt g)), (va_rf (pa g)), (vi (co g))])) := (g4H.2.2.2 _ (by first | omega | exact (fun e9 => hb.2.2.2.1 (by rw [e9]; exact hlr)) | exact (fun e9 => hb.2.2.2.2 (by rw [e9]; exact hpp)))).trans hcg0
          have fR : ∀ b, (b ≠ m ∧ b ≠ p ∧ b ≠ r ∧ rt r ≠ some b ∧ pa p ≠ some b) → g4.2.2 b = h.2.2 b := fun b hb => (g4H.2.2.2 b (by first | omega | exact (fun e9 => hb.2.2.2.1 (by rw [e9]; exact hlr)) | exact (fun e9 => hb.2.2.2.2 (by rw [e9]; exact hpp)))).trans (fR b hb)
          have hcr0 : g4.2.2 r = some (true, .inr (18, [(.ref (ko r)), (va_rf (vl r)), (va_rf (lf r)), (.ref p), (.ref g), (vi (co r))])) := g4H.2.2.1
          have g41 := g4H.1
          have g42 := g4H.2.1
          refine m_aload_n (y := yiJ4_rotateRight) dJ4_rotateRight_90 rfl ?_
          refine m_aload_n (y := yiJ4_rotateRight) dJ4_rotateRight_91 rfl ?_
          refine m_putfS (y := yiJ4_rotateRight) kc_18 4 (by decide) dJ4_rotateRight_92 q1773 rfl hcp0 rfl rfl (hp_put fun g5 g5H => ?_)
          have hm : g5.2.2 m = some (true, .inr (17, [.null, .null, .null, (va_rf root), (vi sz), (vi mc), .null, .null, .null])) := (g5H.2.2.2 _ (by first | omega | exact (fun e9 => hb.2.2.2.1 (by rw [e9]; exact hlr)) | exact (fun e9 => hb.2.2.2.2 (by rw [e9]; exact hpp)))).trans hm
          have hcr0 : g5.2.2 r = some (true, .inr (18, [(.ref (ko r)), (va_rf (vl r)), (va_rf (lf r)), (.ref p), (.ref g), (vi (co r))])) := (g5H.2.2.2 _ (by first | omega | exact (fun e9 => hb.2.2.2.1 (by rw [e9]; exact hlr)) | exact (fun e9 => hb.2.2.2.2 (by rw [e9]; exact hpp)))).trans hcr0
          have hcg0 : g5.2.2 g = some (true, .inr (18, [(.ref (ko g)), (va_rf (vl g)), (.ref r), (va_rf (rt g)), (va_rf (pa g)), (vi (co g))])) := (g5H.2.2.2 _ (by first | omega | exact (fun e9 => hb.2.2.2.1 (by rw [e9]; exact hlr)) | exact (fun e9 => hb.2.2.2.2 (by rw [e9]; exact hpp)))).trans hcg0
          have fR : ∀ b, (b ≠ m ∧ b ≠ p ∧ b ≠ r ∧ rt r ≠ some b ∧ pa p ≠ some b) → g5.2.2 b = h.2.2 b := fun b hb => (g5H.2.2.2 b (by first | omega | exact (fun e9 => hb.2.2.2.1 (by rw [e9]; exact hlr)) | exact (fun e9 => hb.2.2.2.2 (by rw [e9]; exact hpp)))).trans (fR b hb)
          have hcp0 : g5.2.2 p = some (true, .inr (18, [(.ref (ko p)), (va_rf (vl p)), .null, (va_rf (rt p)), (.ref r), (vi (co p))])) := g5H.2.2.1
          have g51 := g5H.1
          have g52 := g5H.2.1
          subst hQ; exact j_vret (y := yiJ4_rotateRight) dJ4_rotateRight_95 rfl (⟨hTF _ (by omega) (by omega) fR, _, _, _, _, _, _, TmF.rotR hF hI hp hr (by unfold roR; rw [if_neg (by rw [hpp]; intro h9; cases h9)]; exact hm) (by rw [hlr]; exact hcp0) (by rw [hpp]; exact hcr0) (fun c9 e => by { rw [hlr] at e; cases e }) (fun g9 e => by { rw [hpp] at e; cases e; rw [if_neg hng, if_neg hng]; exact hcg0 }) fR, hI.rotR hp hr, (hI.1.rotR hp hr).2, rfl⟩)
        · exact absurd c63 hng
  | some c =>
    rw [hlr, hrp] at hcr0
    obtain ⟨hcL, ncp, ncr, ncg⟩ := hc c hlr
    have hcc0 := hF.2.1 c hcL
    have nmc : m ≠ c := ne_oo hm hcc0 (by decide)
    cases hpp : pa p with
    | none =>
      rw [hpp] at hcp0
      refine mt_ofQ (by decide) (Nat.le_of_ble_eq_true rfl) (fun Q hQ => ?_)
      show MW K yiJ4_rotateRight d h 0 [some (.ref m), some (.ref p), none] [] Q
      refine mw_wf (fun hwf => ?_)
      have l_hm := hwf _ _ hm
      have l_hcp0 := hwf _ _ hcp0
      have l_hcr0 := hwf _ _ hcr0
      have l_hcc0 := hwf _ _ hcc0
      have fR : ∀ b, (b ≠ m ∧ b ≠ p ∧ b ≠ r ∧ rt r ≠ some b ∧ pa p ≠ some b) → h.2.2 b = h.2.2 b := fun _ _ => rfl
      refine m_aload_n (y := yiJ4_rotateRight) dJ4_rotateRight_0 rfl ?_
      refine m_ifnull (y := yiJ4_rotateRight) (x := (some p)) 95 dJ4_rotateRight_1 (by decide) (fun h9 => nomatch h9) (fun _ _ => ?_)
      refine m_aload_n (y := yiJ4_rotateRight) dJ4_rotateRight_4 rfl ?_
      refine m_getfS (y := yiJ4_rotateRight) kc_18 2 (by decide) dJ4_rotateRight_5 q1770 hcp0 rfl ?_
      refine m_astore_n (y := yiJ4_rotateRight) dJ4_rotateRight_8 (by decide) rfl ?_
      show MW K yiJ4_rotateRight d h 9 [some (.ref m), some (.ref p), some (.ref r)] [] Q
      refine m_aload_n (y := yiJ4_rotateRight) dJ4_rotateRight_9 rfl ?_
      refine m_aload_n (y := yiJ4_rotateRight) dJ4_rotateRight_10 rfl ?_
      refine m_getfS (y := yiJ4_rotateRight) kc_18 3 (by decide) dJ4_rotateRight_11 q1771 hcr0 rfl ?_
      refine m_putfS (y := yiJ4_rotateRight) kc_18 2 (by decide) dJ4_rotateRight_14 q1770 rfl hcp0 rfl rfl (hp_put fun g1 g1H => ?_)
      have hm : g1.2.2 m = some (true, .inr (17, [.null, .null, .null, (va_rf root), (vi sz), (vi mc), .null, .null, .null])) := (g1H.2.2.2 _ (by first | omega | exact (fun e9 => hb.2.2.2.1 (by rw [e9]; exact hlr)) | exact (fun e9 => hb.2.2.2.2 (by rw [e9]; exact hpp)))).trans hm
      have hcr0 : g1.2.2 r = some (true, .inr (18, [(.ref (ko r)), (va_rf (vl r)), (va_rf (lf r)), (.ref c), (.ref p), (vi (co r))])) := (g1H.2.2.2 _ (by first | omega | exact (fun e9 => hb.2.2.2.1 (by rw [e9]; exact hlr)) | exact (fun e9 => hb.2.2.2.2 (by rw [e9]; exact hpp)))).trans hcr0
      have hcc0 : g1.2.2 c = some (true, .inr (18, [(.ref (ko c)), (va_rf (vl c)), (va_rf (lf c)), (va_rf (rt c)), (va_rf (pa c)), (vi (co c))])) := (g1H.2.2.2 _ (by first | omega | exact (fun e9 => hb.2.2.2.1 (by rw [e9]; exact hlr)) | exact (fun e9 => hb.2.2.2.2 (by rw [e9]; exact hpp)))).trans hcc0
      have fR : ∀ b, (b ≠ m ∧ b ≠ p ∧ b ≠ r ∧ rt r ≠ some b ∧ pa p ≠ some b) → g1.2.2 b = h.2.2 b := fun b hb => (g1H.2.2.2 b (by first | omega | exact (fun e9 => hb.2.2.2.1 (by rw [e9]; exact hlr)) | exact (fun e9 => hb.2.2.2.2 (by rw [e9]; exact hpp)))).trans (fR b hb)
      have hcp0 : g1.2.2 p = some (true, .inr (18, [(.ref (ko p)), (va_rf (vl p)), (.ref c), (va_rf (rt p)), .null, (vi (co p))])) := g1H.2.2.1
      have g11 := g1H.1
      have g12 := g1H.2.1
      refine m_aload_n (y := yiJ4_rotateRight) dJ4_rotateRight_17 rfl ?_
      refine m_getfS (y := yiJ4_rotateRight) kc_18 3 (by decide) dJ4_rotateRight_18 q1771 hcr0 rfl ?_
      refine m_ifnull (y := yiJ4_rotateRight) (x := (some c)) 32 dJ4_rotateRight_21 (by decide) (fun h9 => nomatch h9) (fun _ _ => ?_)
      refine m_aload_n (y := yiJ4_rotateRight) dJ4_rotateRight_24 rfl ?_
      refine m_getfS (y := yiJ4_rotateRight) kc_18 3 (by decide) dJ4_rotateRight_25 q1771 hcr0 rfl ?_
      refine m_aload_n (y := yiJ4_rotateRight) dJ4_rotateRight_28 rfl ?_
      refine m_putfS (y := yiJ4_rotateRight) kc_18 4 (by decide) dJ4_rotateRight_29 q1773 rfl hcc0 rfl rfl (hp_put fun g2 g2H => ?_)
      have hm : g2.2.2 m = some (true, .inr (17, [.null, .null, .null, (va_rf root), (vi sz), (vi mc), .null, .null, .null])) := (g2H.2.2.2 _ (by first | omega | exact (fun e9 => hb.2.2.2.1 (by rw [e9]; exact hlr)) | exact (fun e9 => hb.2.2.2.2 (by rw [e9]; exact hpp)))).trans hm
      have hcp0 : g2.2.2 p = some (true, .inr (18, [(.ref (ko p)), (va_rf (vl p)), (.ref c), (va_rf (rt p)), .null, (vi (co p))])) := (g2H.2.2.2 _ (by first | omega | exact (fun e9 => hb.2.2.2.1 (by rw [e9]; exact hlr)) | exact (fun e9 => hb.2.2.2.2 (by rw [e9]; exact hpp)))).trans hcp0
      have hcr0 : g2.2.2 r = some (true, .inr (18, [(.ref (ko r)), (va_rf (vl r)), (va_rf (lf r)), (.ref c), (.ref p), (vi (co r))])) := (g2H.2.2.2 _ (by first | omega | exact (fun e9 => hb.2.2.2.1 (by rw [e9]; exact hlr)) | exact (fun e9 => hb.2.2.2.2 (by rw [e9]; exact hpp)))).trans hcr0
      have fR : ∀ b, (b ≠ m ∧ b ≠ p ∧ b ≠ r ∧ rt r ≠ some b ∧ pa p ≠ some b) → g2.2.2 b = h.2.2 b := fun b hb => (g2H.2.2.2 b (by first | omega | exact (fun e9 => hb.2.2.2.1 (by rw [e9]; exact hlr)) | exact (fun e9 => hb.2.2.2.2 (by rw [e9]; exact hpp)))).trans (fR b hb)
      have hcc0 : g2.2.2 c = some (true, .inr (18, [(.ref (ko c)), (va_rf (vl c)), (va_rf (lf c)), (va_rf (rt c)), (.ref p), (vi (co c))])) := g2H.2.2.1
      have g21 := g2H.1
      have g22 := g2H.2.1
      refine m_aload_n (y := yiJ4_rotateRight) dJ4_rotateRight_32 rfl ?_
      refine m_aload_n (y := yiJ4_rotateRight) dJ4_rotateRight_33 rfl ?_
      refine m_getfS (y := yiJ4_rotateRight) kc_18 4 (by decide) dJ4_rotateRight_34 q1773 hcp0 rfl ?_
      refine m_putfS (y := yiJ4_rotateRight) kc_18 4 (by decide) dJ4_rotateRight_37 q1773 rfl hcr0 rfl rfl (hp_put fun g3 g3H => ?_)
      have hm : g3.2.2 m = some (true, .inr (17, [.null, .null, .null, (va_rf root), (vi sz), (vi mc), .null, .null, .null])) := (g3H.2.2.2 _ (by first | omega | exact (fun e9 => hb.2.2.2.1 (by rw [e9]; exact hlr)) | exact (fun e9 => hb.2.2.2.2 (by rw [e9]; exact hpp)))).trans hm
      have hcp0 : g3.2.2 p = some (true, .inr (18, [(.ref (ko p)), (va_rf (vl p)), (.ref c), (va_rf (rt p)), .null, (vi (co p))])) := (g3H.2.2.2 _ (by first | omega | exact (fun e9 => hb.2.2.2.1 (by rw [e9]; exact hlr)) | exact (fun e9 => hb.2.2.2.2 (by rw [e9]; exact hpp)))).trans hcp0
      have hcc0 : g3.2.2 c = some (true, .inr (18, [(.ref (ko c)), (va_rf (vl c)), (va_rf (lf c)), (va_rf (rt c)), (.ref p), (vi (co c))])) := (g3H.2.2.2 _ (by first | omega | exact (fun e9 => hb.2.2.2.1 (by rw [e9]; exact hlr)) | exact (fun e9 => hb.2.2.2.2 (by rw [e9]; exact hpp)))).trans hcc0
      have fR : ∀ b, (b ≠ m ∧ b ≠ p ∧ b ≠ r ∧ rt r ≠ some b ∧ pa p ≠ some b) → g3.2.2 b = h.2.2 b := fun b hb => (g3H.2.2.2 b (by first | omega | exact (fun e9 => hb.2.2.2.1 (by rw [e9]; exact hlr)) | exact (fun e9 => hb.2.2.2.2 (by rw [e9]; exact hpp)))).trans (fR b hb)
      have hcr0 : g3.2.2 r = some (true, .inr (18, [(.ref (ko r)), (va_rf (vl r)), (va_rf (lf r)), (.ref c), .null, (vi (co r))])) := g3H.2.2.1
      have g31 := g3H.1
      have g32 := g3H.2.1
      refine m_aload_n (y := yiJ4_rotateRight) dJ4_rotateRight_40 rfl ?_
      refine m_getfS (y := yiJ4_rotateRight) kc_18 4 (by decide) dJ4_rotateRight_41 q1773 hcp0 rfl ?_
      refine m_ifnonnull (y := yiJ4_rotateRight) (x := none) 55 dJ4_rotateRight_44 (by decide) (fun _ h9 => nomatch h9) (fun _ => ?_)
      refine m_aload_n (y := yiJ4_rotateRight) dJ4_rotateRight_47 rfl ?_
      refine m_aload_n (y := yiJ4_rotateRight) dJ4_rotateRight_48 rfl ?_
      refine m_putfS (y := yiJ4_rotateRight) kc_17 3 (by decide) dJ4_rotateRight_49 q240 rfl hm rfl rfl (hp_put fun g4 g4H => ?_)
      have hcp0 : g4.2.2 p = some (true, .inr (18, [(.ref (ko p)), (va_rf (vl p)), (.ref c), (va_rf (rt p)), .null, (vi (co p))])) := (g4H.2.2.2 _ (by first | omega | exact (fun e9 => hb.2.2.2.1 (by rw [e9]; exact hlr)) | exact (fun e9 => hb.2.2.2.2 (by rw [e9]; exact hpp)))).trans hcp0
      have hcr0 : g4.2.2 r = some (true, .inr (18, [(.ref (ko r)), (va_rf (vl r)), (va_rf (lf r)), (.ref c), .null, (vi (co r))])) := (g4H.2.2.2 _ (by first | omega | exact (fun e9 => hb.2.2.2.1 (by rw [e9]; exact hlr)) | exact (fun e9 => hb.2.2.2.2 (by rw [e9]; exact hpp)))).trans hcr0
      have hcc0 : g4.2.2 c = some (true, .inr (18, [(.ref (ko c)), (va_rf (vl c)), (va_rf (lf c)), (va_rf (rt c)), (.ref p), (vi (co c))])) := (g4H.2.2.2 _ (by first | omega | exact (fun e9 => hb.2.2.2.1 (by rw [e9]; exact hlr)) | exact (fun e9 => hb.2.2.2.2 (by rw [e9]; exact hpp)))).trans hcc0
      have fR : ∀ b, (b ≠ m ∧ b ≠ p ∧ b ≠ r ∧ rt r ≠ some b ∧ pa p ≠ some b) → g4.2.2 b = h.2.2 b := fun b hb => (g4H.2.2.2 b (by first | omega | exact (fun e9 => hb.2.2.2.1 (by rw [e9]; exact hlr)) | exact (fun e9 => hb.2.2.2.2 (by rw [e9]; exact hpp)))).trans (fR b hb)
      have hm : g4.2.2 m = some (true, .inr (17, [.null, .null, .null, (.ref r), (vi sz), (vi mc), .null, .null, .null])) := g4H.2.2.1
      have g41 := g4H.1
      have g42 := g4H.2.1
      refine m_goto (y := yiJ4_rotateRight) 85 dJ4_rotateRight_52 (by decide) ?_
      refine m_aload_n (y := yiJ4_rotateRight) dJ4_rotateRight_85 rfl ?_
      refine m_aload_n (y := yiJ4_rotateRight) dJ4_rotateRight_86 rfl ?_
      refine m_putfS (y := yiJ4_rotateRight) kc_18 3 (by decide) dJ4_rotateRight_87 q1771 rfl hcr0 rfl rfl (hp_put fun g5 g5H => ?_)
      have hm : g5.2.2 m = some (true, .inr (17, [.null, .null, .null, (.ref r), (vi sz), (vi mc), .null, .null, .null])) := (g5H.2.2.2 _ (by first | omega | exact (fun e9 => hb.2.2.2.1 (by rw [e9]; exact hlr)) | exact (fun e9 => hb.2.2.2.2 (by rw [e9]; exact hpp)))).trans hm
      have hcp0 : g5.2.2 p = some (true, .inr (18, [(.ref (ko p)), (va_rf (vl p)), (.ref c), (va_rf (rt p)), .null, (vi (co p))])) := (g5H.2.2.2 _ (by first | omega | exact (fun e9 => hb.2.2.2.1 (by rw [e9]; exact hlr)) | exact (fun e9 => hb.2.2.2.2 (by rw [e9]; exact hpp)))).trans hcp0
      have hcc0 : g5.2.2 c = some (true, .inr (18, [(.ref (ko c)), (va_rf (vl c)), (va_rf (lf c)), (va_rf (rt c)), (.ref p), (vi (co c))])) := (g5H.2.2.2 _ (by first | omega | exact (fun e9 => hb.2.2.2.1 (by rw [e9]; exact hlr)) | exact (fun e9 => hb.2.2.2.2 (by rw [e9]; exact hpp)))).trans hcc0
      have fR : ∀ b, (b ≠ m ∧ b ≠ p ∧ b ≠ r ∧ rt r ≠ some b ∧ pa p ≠ some b) → g5.2.2 b = h.2.2 b := fun b hb => (g5H.2.2.2 b (by first | omega | exact (fun e9 => hb.2.2.2.1 (by rw [e9]; exact hlr)) | exact (fun e9 => hb.2.2.2.2 (by rw [e9]; exact hpp)))).trans (fR b hb)
      have hcr0 : g5.2.2 r = some (true, .inr (18, [(.ref (ko r)), (va_rf (vl r)), (va_rf (lf r)), (.ref p), .null, (vi (co r))])) := g5H.2.2.1
      have g51 := g5H.1
      have g52 := g5H.2.1
      refine m_aload_n (y := yiJ4_rotateRight) dJ4_rotateRight_90 rfl ?_
      refine m_aload_n (y := yiJ4_rotateRight) dJ4_rotateRight_91 rfl ?_
      refine m_putfS (y := yiJ4_rotateRight) kc_18 4 (by decide) dJ4_rotateRight_92 q1773 rfl hcp0 rfl rfl (hp_put fun g6 g6H => ?_)
      have hm : g6.2.2 m = some (true, .inr (17, [.null, .null, .null, (.ref r), (vi sz), (vi mc), .null, .null, .null])) := (g6H.2.2.2 _ (by first | omega | exact (fun e9 => hb.2.2.2.1 (by rw [e9]; exact hlr)) | exact (fun e9 => hb.2.2.2.2 (by rw [e9]; exact hpp)))).trans hm
      have hcr0 : g6.2.2 r = some (true, .inr (18, [(.ref (ko r)), (va_rf (vl r)), (va_rf (lf r)), (.ref p), .null, (vi (co r))])) := (g6H.2.2.2 _ (by first | omega | exact (fun e9 => hb.2.2.2.1 (by rw [e9]; exact hlr)) | exact (fun e9 => hb.2.2.2.2 (by rw [e9]; exact hpp)))).trans hcr0
      have hcc0 : g6.2.2 c = some (true, .inr (18, [(.ref (ko c)), (va_rf (vl c)), (va_rf (lf c)), (va_rf (rt c)), (.ref p), (vi (co c))])) := (g6H.2.2.2 _ (by first | omega | exact (fun e9 => hb.2.2.2.1 (by rw [e9]; exact hlr)) | exact (fun e9 => hb.2.2.2.2 (by rw [e9]; exact hpp)))).trans hcc0
      have fR : ∀ b, (b ≠ m ∧ b ≠ p ∧ b ≠ r ∧ rt r ≠ some b ∧ pa p ≠ some b) → g6.2.2 b = h.2.2 b := fun b hb => (g6H.2.2.2 b (by first | omega | exact (fun e9 => hb.2.2.2.1 (by rw [e9]; exact hlr)) | exact (fun e9 => hb.2.2.2.2 (by rw [e9]; exact hpp)))).trans (fR b hb)
      have hcp0 : g6.2.2 p = some (true, .inr (18, [(.ref (ko p)), (va_rf (vl p)), (.ref c), (va_rf (rt p)), (.ref r), (vi (co p))])) := g6H.2.2.1
      have g61 := g6H.1
      have g62 := g6H.2.1
      subst hQ; exact j_vret (y := yiJ4_rotateRight) dJ4_rotateRight_95 rfl (⟨hTF _ (by omega) (by omega) fR, _, _, _, _, _, _, TmF.rotR hF hI hp hr (by unfold roR; rw [if_pos hpp]; exact hm) (by rw [hlr]; exact hcp0) (by rw [hpp]; exact hcr0) (fun c9 e => by { rw [hlr] at e; cases e; exact hcc0 }) (fun g9 e => by { rw [hpp] at e; cases e }) fR, hI.rotR hp hr, (hI.1.rotR hp hr).2, rfl⟩)
    | some g =>
      rw [hpp] at hcp0
      obtain ⟨hgL, ngp, ngr, ngc, hgs⟩ := hg g hpp
      have hcg0 := hF.2.1 g hgL
      have nmg : m ≠ g := ne_oo hm hcg0 (by decide)
      have ncg2 : c ≠ g := fun e9 => ncg (by rw [e9]; exact hpp)
      by_cases hlg : rt g = some p
      · rw [hlg] at hcg0
        refine mt_ofQ (by decide) (Nat.le_of_ble_eq_true rfl) (fun Q hQ => ?_)
        show MW K yiJ4_rotateRight d h 0 [some (.ref m), some (.ref p), none] [] Q
        refine mw_wf (fun hwf => ?_)
        have l_hm := hwf _ _ hm
        have l_hcp0 := hwf _ _ hcp0
        have l_hcr0 := hwf _ _ hcr0
        have l_hcc0 := hwf _ _ hcc0
        have l_hcg0 := hwf _ _ hcg0
        have fR : ∀ b, (b ≠ m ∧ b ≠ p ∧ b ≠ r ∧ rt r ≠ some b ∧ pa p ≠ some b) → h.2.2 b = h.2.2 b := fun _ _ => rfl
        refine m_aload_n (y := yiJ4_rotateRight) dJ4_rotateRight_0 rfl ?_
        refine m_ifnull (y := yiJ4_rotateRight) (x := (some p)) 95 dJ4_rotateRight_1 (by decide) (fun h9 => nomatch h9) (fun _ _ => ?_)
        refine m_aload_n (y := yiJ4_rotateRight) dJ4_rotateRight_4 rfl ?_
        refine m_getfS (y := yiJ4_rotateRight) kc_18 2 (by decide) dJ4_rotateRight_5 q1770 hcp0 rfl ?_
        refine m_astore_n (y := yiJ4_rotateRight) dJ4_rotateRight_8 (by decide) rfl ?_
        show MW K yiJ4_rotateRight d h 9 [some (.ref m), some (.ref p), some (.ref r)] [] Q
        refine m_aload_n (y := yiJ4_rotateRight) dJ4_rotateRight_9 rfl ?_
        refine m_aload_n (y := yiJ4_rotateRight) dJ4_rotateRight_10 rfl ?_
        refine m_getfS (y := yiJ4_rotateRight) kc_18 3 (by decide) dJ4_rotateRight_11 q1771 hcr0 rfl ?_
        refine m_putfS (y := yiJ4_rotateRight) kc_18 2 (by decide) dJ4_rotateRight_14 q1770 rfl hcp0 rfl rfl (hp_put fun g1 g1H => ?_)
        have hm : g1.2.2 m = some (true, .inr (17, [.null, .null, .null, (va_rf root), (vi sz), (vi mc), .null, .null, .null])) := (g1H.2.2.2 _ (by first | omega | exact (fun e9 => hb.2.2.2.1 (by rw [e9]; exact hlr)) | exact (fun e9 => hb.2.2.2.2 (by rw [e9]; exact hpp)))).trans hm
        have hcr0 : g1.2.2 r = some (true, .inr (18, [(.ref (ko r)), (va_rf (vl r)), (va_rf (lf r)), (.ref c), (.ref p), (vi (co r))])) := (g1H.2.2.2 _ (by first | omega | exact (fun e9 => hb.2.2.2.1 (by rw [e9]; exact hlr)) | exact (fun e9 => hb.2.2.2.2 (by rw [e9]; exact hpp)))).trans hcr0
        have hcc0 : g1.2.2 c = some (true, .inr (18, [(.ref (ko c)), (va_rf (vl c)), (va_rf (lf c)), (va_rf (rt c)), (va_rf (pa c)), (vi (co c))])) := (g1H.2.2.2 _ (by first | omega | exact (fun e9 => hb.2.2.2.1 (by rw [e9]; exact hlr)) | exact (fun e9 => hb.2.2.2.2 (by rw [e9]; exact hpp)))).trans hcc0
        have hcg0 : g1.2.2 g = some (true, .inr (18, [(.ref (ko g)), (va_rf (vl g)), (va_rf (lf g)), (.ref p), (va_rf (pa g)), (vi (co g))])) := (g1H.2.2.2 _ (by first | omega | exact (fun e9 => hb.2.2.2.1 (by rw [e9]; exact hlr)) | exact (fun e9 => hb.2.2.2.2 (by rw [e9]; exact hpp)))).trans hcg0
        have fR : ∀ b, (b ≠ m ∧ b ≠ p ∧ b ≠ r ∧ rt r ≠ some b ∧ pa p ≠ some b) → g1.2.2 b = h.2.2 b := fun b hb => (g1H.2.2.2 b (by first | omega | exact (fun e9 => hb.2.2.2.1 (by rw [e9]; exact hlr)) | exact (fun e9 => hb.2.2.2.2 (by rw [e9]; exact hpp)))).trans (fR b hb)
        have hcp0 : g1.2.2 p = some (true, .inr (18, [(.ref (ko p)), (va_rf (vl p)), (.ref c), (va_rf (rt p)), (.ref g), (vi (co p))])) := g1H.2.2.1
        have g11 := g1H.1
        have g12 := g1H.2.1
        refine m_aload_n (y := yiJ4_rotateRight) dJ4_rotateRight_17 rfl ?_
        refine m_getfS (y := yiJ4_rotateRight) kc_18 3 (by decide) dJ4_rotateRight_18 q1771 hcr0 rfl ?_
        refine m_ifnull (y := yiJ4_rotateRight) (x := (some c)) 32 dJ4_rotateRight_21 (by decide) (fun h9 => nomatch h9) (fun _ _ => ?_)
        refine m_aload_n (y := yiJ4_rotateRight) dJ4_rotateRight_24 rfl ?_
        refine m_getfS (y := yiJ4_rotateRight) kc_18 3 (by decide) dJ4_rotateRight_25 q1771 hcr0 rfl ?_
        refine m_aload_n (y := yiJ4_rotateRight) dJ4_rotateRight_28 rfl ?_
        refine m_putfS (y := yiJ4_rotateRight) kc_18 4 (by decide) dJ4_rotateRight_29 q1773 rfl hcc0 rfl rfl (hp_put fun g2 g2H => ?_)
        have hm : g2.2.2 m = some (true, .inr (17, [.null, .null, .null, (va_rf root), (vi sz), (vi mc), .null, .null, .null])) := (g2H.2.2.2 _ (by first | omega | exact (fun e9 => hb.2.2.2.1 (by rw [e9]; exact hlr)) | exact (fun e9 => hb.2.2.2.2 (by rw [e9]; exact hpp)))).trans hm
        have hcp0 : g2.2.2 p = some (true, .inr (18, [(.ref (ko p)), (va_rf (vl p)), (.ref c), (va_rf (rt p)), (.ref g), (vi (co p))])) := (g2H.2.2.2 _ (by first | omega | exact (fun e9 => hb.2.2.2.1 (by rw [e9]; exact hlr)) | exact (fun e9 => hb.2.2.2.2 (by rw [e9]; exact hpp)))).trans hcp0
        have hcr0 : g2.2.2 r = some (true, .inr (18, [(.ref (ko r)), (va_rf (vl r)), (va_rf (lf r)), (.ref c), (.ref p), (vi (co r))])) := (g2H.2.2.2 _ (by first | omega | exact (fun e9 => hb.2.2.2.1 (by rw [e9]; exact hlr)) | exact (fun e9 => hb.2.2.2.2 (by rw [e9]; exact hpp)))).trans hcr0
        have hcg0 : g2.2.2 g = some (true, .inr (18, [(.ref (ko g)), (va_rf (vl g)), (va_rf (lf g)), (.ref p), (va_rf (pa g)), (vi (co g))])) := (g2H.2.2.2 _ (by first | omega | exact (fun e9 => hb.2.2.2.1 (by rw [e9]; exact hlr)) | exact (fun e9 => hb.2.2.2.2 (by rw [e9]; exact hpp)))).trans hcg0
        have fR : ∀ b, (b ≠ m ∧ b ≠ p ∧ b ≠ r ∧ rt r ≠ some b ∧ pa p ≠ some b) → g2.2.2 b = h.2.2 b := fun b hb => (g2H.2.2.2 b (by first | omega | exact (fun e9 => hb.2.2.2.1 (by rw [e9]; exact hlr)) | exact (fun e9 => hb.2.2.2.2 (by rw [e9]; exact hpp)))).trans (fR b hb)
        have hcc0 : g2.2.2 c = some (true, .inr (18, [(.ref (ko c)), (va_rf (vl c)), (va_rf (lf c)), (va_rf (rt c)), (.ref p), (vi (co c))])) := g2H.2.2.1
        have g21 := g2H.1
        have g22 := g2H.2.1
        refine m_aload_n (y := yiJ4_rotateRight) dJ4_rotateRight_32 rfl ?_
        refine m_aload_n (y := yiJ4_rotateRight) dJ4_rotateRight_33 rfl ?_
        refine m_getfS (y := yiJ4_rotateRight) kc_18 4 (by decide) dJ4_rotateRight_34 q1773 hcp0 rfl ?_
        refine m_putfS (y := yiJ4_rotateRight) kc_18 4 (by decide) dJ4_rotateRight_37 q1773 rfl hcr0 rfl rfl (hp_put fun g3 g3H => ?_)
        have hm : g3.2.2 m = some (true, .inr (17, [.null, .null, .null, (va_rf root), (vi sz), (vi mc), .null, .null, .null])) := (g3H.2.2.2 _ (by first | omega | exact (fun e9 => hb.2.2.2.1 (by rw [e9]; exact hlr)) | exact (fun e9 => hb.2.2.2.2 (by rw [e9]; exact hpp)))).trans hm
        have hcp0 : g3.2.2 p = some (true, .inr (18, [(.ref (ko p)), (va_rf (vl p)), (.ref c), (va_rf (rt p)), (.ref g), (vi (co p))])) := (g3H.2.2.2 _ (by first | omega | exact (fun e9 => hb.2.2.2.1 (by rw [e9]; exact hlr)) | exact (fun e9 => hb.2.2.2.2 (by rw [e9]; exact hpp)))).trans hcp0
        have hcc0 : g3.2.2 c = some (true, .inr (18, [(.ref (ko c)), (va_rf (vl c)), (va_rf (lf c)), (va_rf (rt c)), (.ref p), (vi (co c))])) := (g3H.2.2.2 _ (by first | omega | exact (fun e9 => hb.2.2.2.1 (by rw [e9]; exact hlr)) | exact (fun e9 => hb.2.2.2.2 (by rw [e9]; exact hpp)))).trans hcc0
        have hcg0 : g3.2.2 g = some (true, .inr (18, [(.ref (ko g)), (va_rf (vl g)), (va_rf (lf g)), (.ref p), (va_rf (pa g)), (vi (co g))])) := (g3H.2.2.2 _ (by first | omega | exact (fun e9 => hb.2.2.2.1 (by rw [e9]; exact hlr)) | exact (fun e9 => hb.2.2.2.2 (by rw [e9]; exact hpp)))).trans hcg0
        have fR : ∀ b, (b ≠ m ∧ b ≠ p ∧ b ≠ r ∧ rt r ≠ some b ∧ pa p ≠ some b) → g3.2.2 b = h.2.2 b := fun b hb => (g3H.2.2.2 b (by first | omega | exact (fun e9 => hb.2.2.2.1 (by rw [e9]; exact hlr)) | exact (fun e9 => hb.2.2.2.2 (by rw [e9]; exact hpp)))).trans (fR b hb)
        have hcr0 : g3.2.2 r = some (true, .inr (18, [(.ref (ko r)), (va_rf (vl r)), (va_rf (lf r)), (.ref c), (.ref g), (vi (co r))])) := g3H.2.2.1
        have g31 := g3H.1
        have g32 := g3H.2.1
        refine m_aload_n (y := yiJ4_rotateRight) dJ4_rotateRight_40 rfl ?_
        refine m_getfS (y := yiJ4_rotateRight) kc_18 4 (by decide) dJ4_rotateRight_41 q1773 hcp0 rfl ?_
        refine m_ifnonnull (y := yiJ4_rotateRight) (x := (some g)) 55 dJ4_rotateRight_44 (by decide) (fun _ _ => ?_) (fun h9 => nomatch h9)
        refine m_aload_n (y := yiJ4_rotateRight) dJ4_rotateRight_55 rfl ?_
        refine m_getfS (y := yiJ4_rotateRight) kc_18 4 (by decide) dJ4_rotateRight_56 q1773 hcp0 rfl ?_
        refine m_getfS (y := yiJ4_rotateRight) kc_18 3 (by decide) dJ4_rotateRight_59 q1771 hcg0 rfl ?_
        refine m_aload_n (y := yiJ4_rotateRight) dJ4_rotateRight_62 rfl ?_
        refine m_acmp_ne (y := yiJ4_rotateRight) (x := (some p)) (z := (some p)) 77 dJ4_rotateRight_63 (by decide) (fun c => absurd rfl c) (fun _ => ?_)
        refine m_aload_n (y := yiJ4_rotateRight) dJ4_rotateRight_66 rfl ?_
        refine m_getfS (y := yiJ4_rotateRight) kc_18 4 (by decide) dJ4_rotateRight_67 q1773 hcp0 rfl ?_
        refine m_aload_n (y := yiJ4_rotateRight) dJ4_rotateRight_70 rfl ?_
        refine m_putfS (y := yiJ4_rotateRight) kc_18 3 (by decide) dJ4_rotateRight_71 q1771 rfl hcg0 rfl rfl (hp_put fun g4 g4H => ?_)
        have hm : g4.2.2 m = some (true, .inr (17, [.null, .null, .null, (va_rf root), (vi sz), (vi mc), .null, .null, .null])) := (g4H.2.2.2 _ (by first | omega | exact (fun e9 => hb.2.2.2.1 (by rw [e9]; exact hlr)) | exact (fun e9 => hb.2.2.2.2 (by rw [e9]; exact hpp)))).trans hm
        have hcp0 : g4.2.2 p = some (true, .inr (18, [(.ref (ko p)), (va_rf (vl p)), (.ref c), (va_rf (rt p)), (.ref g), (vi (co p))])) := (g4H.2.2.2 _ (by first | omega | exact (fun e9 => hb.2.2.2.1 (by rw [e9]; exact hlr)) | exact (fun e9 => hb.2.2.2.2 (by rw [e9]; exact hpp)))).trans hcp0
        have hcr0 : g4.2.2 r = some (true, .inr (18, [(.ref (ko r)), (va_rf (vl r)), (va_rf (lf r)), (.ref c), (.ref g), (vi (co r))])) := (g4H.2.2.2 _ (by first | omega | exact (fun e9 => hb.2.2.2.1 (by rw [e9]; exact hlr)) | exact (fun e9 => hb.2.2.2.2 (by rw [e9]; exact hpp)))).trans hcr0
        have hcc0 : g4.2.2 c = some (true, .inr (18, [(.ref (ko c)), (va_rf (vl c)), (va_rf (lf c)), (va_rf (rt c)), (.ref p), (vi (co c))])) := (g4H.2.2.2 _ (by first | omega | exact (fun e9 => hb.2.2.2.1 (by rw [e9]; exact hlr)) | exact (fun e9 => hb.2.2.2.2 (by rw [e9]; exact hpp)))).trans hcc0
        have fR : ∀ b, (b ≠ m ∧ b ≠ p ∧ b ≠ r ∧ rt r ≠ some b ∧ pa p ≠ some b) → g4.2.2 b = h.2.2 b := fun b hb => (g4H.2.2.2 b (by first | omega | exact (fun e9 => hb.2.2.2.1 (by rw [e9]; exact hlr)) | exact (fun e9 => hb.2.2.2.2 (by rw [e9]; exact hpp)))).trans (fR b hb)
        have hcg0 : g4.2.2 g = some (true, .inr (18, [(.ref (ko g)), (va_rf (vl g)), (va_rf (lf g)), (.ref r), (va_rf (pa g)), (vi (co g))])) := g4H.2.2.1
        have g41 := g4H.1
        have g42 := g4H.2.1
        refine m_goto (y := yiJ4_rotateRight) 85 dJ4_rotateRight_74 (by decide) ?_
        refine m_aload_n (y := yiJ4_rotateRight) dJ4_rotateRight_85 rfl ?_
        refine m_aload_n (y := yiJ4_rotateRight) dJ4_rotateRight_86 rfl ?_
        refine m_putfS (y := yiJ4_rotateRight) kc_18 3 (by decide) dJ4_rotateRight_87 q1771 rfl hcr0 rfl rfl (hp_put fun g5 g5H => ?_)
        have hm : g5.2.2 m = some (true, .inr (17, [.null, .null, .null, (va_rf root), (vi sz), (vi mc), .null, .null, .null])) := (g5H.2.2.2 _ (by first | omega | exact (fun e9 => hb.2.2.2.1 (by rw [e9]; exact hlr)) | exact (fun e9 => hb.2.2.2.2 (by rw [e9]; exact hpp)))).trans hm
        have hcp0 : g5.2.2 p = some (true, .inr (18, [(.ref (ko p)), (va_rf (vl p)), (.ref c), (va_rf (rt p)), (.ref g), (vi (co p))])) := (g5H.2.2.2 _ (by first | omega | exact (fun e9 => hb.2.2.2.1 (by rw [e9]; exact hlr)) | exact (fun e9 => hb.2.2.2.2 (by rw [e9]; exact hpp)))).trans hcp0
        have hcc0 : g5.2.2 c = some (true, .inr (18, [(.ref (ko c)), (va_rf (vl c)), (va_rf (lf c)), (va_rf (rt c)), (.ref p), (vi (co c))])) := (g5H.2.2.2 _ (by first | omega | exact (fun e9 => hb.2.2.2.1 (by rw [e9]; exact hlr)) | exact (fun e9 => hb.2.2.2.2 (by rw [e9]; exact hpp)))).trans hcc0
        have hcg0 : g5.2.2 g = some (true, .inr (18, [(.ref (ko g)), (va_rf (vl g)), (va_rf (lf g)), (.ref r), (va_rf (pa g)), (vi (co g))])) := (g5H.2.2.2 _ (by first | omega | exact (fun e9 => hb.2.2.2.1 (by rw [e9]; exact hlr)) | exact (fun e9 => hb.2.2.2.2 (by rw [e9]; exact hpp)))).trans hcg0
        have fR : ∀ b, (b ≠ m ∧ b ≠ p ∧ b ≠ r ∧ rt r ≠ some b ∧ pa p ≠ some b) → g5.2.2 b = h.2.2 b := fun b hb => (g5H.2.2.2 b (by first | omega | exact (fun e9 => hb.2.2.2.1 (by rw [e9]; exact hlr)) | exact (fun e9 => hb.2.2.2.2 (by rw [e9]; exact hpp)))).trans (fR b hb)
        have hcr0 : g5.2.2 r = some (true, .inr (18, [(.ref (ko r)), (va_rf (vl r)), (va_rf (lf r)), (.ref p), (.ref g), (vi (co r))])) := g5H.2.2.1
        have g51 := g5H.1
        have g52 := g5H.2.1
        refine m_aload_n (y := yiJ4_rotateRight) dJ4_rotateRight_90 rfl ?_
        refine m_aload_n (y := yiJ4_rotateRight) dJ4_rotateRight_91 rfl ?_
        refine m_putfS (y := yiJ4_rotateRight) kc_18 4 (by decide) dJ4_rotateRight_92 q1773 rfl hcp0 rfl rfl (hp_put fun g6 g6H => ?_)
        have hm : g6.2.2 m = some (true, .inr (17, [.null, .null, .null, (va_rf root), (vi sz), (vi mc), .null, .null, .null])) := (g6H.2.2.2 _ (by first | omega | exact (fun e9 => hb.2.2.2.1 (by rw [e9]; exact hlr)) | exact (fun e9 => hb.2.2.2.2 (by rw [e9]; exact hpp)))).trans hm
        have hcr0 : g6.2.2 r = some (true, .inr (18, [(.ref (ko r)), (va_rf (vl r)), (va_rf (lf r)), (.ref p), (.ref g), (vi (co r))])) := (g6H.2.2.2 _ (by first | omega | exact (fun e9 => hb.2.2.2.1 (by rw [e9]; exact hlr)) | exact (fun e9 => hb.2.2.2.2 (by rw [e9]; exact hpp)))).trans hcr0
        have hcc0 : g6.2.2 c = some (true, .inr (18, [(.ref (ko c)), (va_rf (vl c)), (va_rf (lf c)), (va_rf (rt c)), (.ref p), (vi (co c))])) := (g6H.2.2.2 _ (by first | omega | exact (fun e9 => hb.2.2.2.1 (by rw [e9]; exact hlr)) | exact (fun e9 => hb.2.2.2.2 (by rw [e9]; exact hpp)))).trans hcc0
        have hcg0 : g6.2.2 g = some (true, .inr (18, [(.ref (ko g)), (va_rf (vl g)), (va_rf (lf g)), (.ref r), (va_rf (pa g)), (vi (co g))])) := (g6H.2.2.2 _ (by first | omega | exact (fun e9 => hb.2.2.2.1 (by rw [e9]; exact hlr)) | exact (fun e9 => hb.2.2.2.2 (by rw [e9]; exact hpp)))).trans hcg0
        have fR : ∀ b, (b ≠ m ∧ b ≠ p ∧ b ≠ r ∧ rt r ≠ some b ∧ pa p ≠ some b) → g6.2.2 b = h.2.2 b := fun b hb => (g6H.2.2.2 b (by first | omega | exact (fun e9 => hb.2.2.2.1 (by rw [e9]; exact hlr)) | exact (fun e9 => hb.2.2.2.2 (by rw [e9]; exact hpp)))).trans (fR b hb)
        have hcp0 : g6.2.2 p = some (true, .inr (18, [(.ref (ko p)), (va_rf (vl p)), (.ref c), (va_rf (rt p)), (.ref r), (vi (co p))])) := g6H.2.2.1
        have g61 := g6H.1
        have g62 := g6H.2.1
        subst hQ; exact j_vret (y := yiJ4_rotateRight) dJ4_rotateRight_95 rfl (⟨hTF _ (by omega) (by omega) fR, _, _, _, _, _, _, TmF.rotR hF hI hp hr (by unfold roR; rw [if_neg (by rw [hpp]; intro h9; cases h9)]; exact hm) (by rw [hlr]; exact hcp0) (by rw [hpp]; exact hcr0) (fun c9 e => by { rw [hlr] at e; cases e; exact hcc0 }) (fun g9 e => by { rw [hpp] at e; cases e; rw [if_pos hlg, if_pos hlg]; exact hcg0 }) fR, hI.rotR hp hr, (hI.1.rotR hp hr).2, rfl⟩)
      · have hng := hlg
        refine mt_ofQ (by decide) (Nat.le_of_ble_eq_true rfl) (fun Q hQ => ?_)
        show MW K yiJ4_rotateRight d h 0 [some (.ref m), some (.ref p), none] [] Q
        refine mw_wf (fun hwf => ?_)
        have l_hm := hwf _ _ hm
        have l_hcp0 := hwf _ _ hcp0
        have l_hcr0 := hwf _ _ hcr0
        have l_hcc0 := hwf _ _ hcc0
        have l_hcg0 := hwf _ _ hcg0
        have fR : ∀ b, (b ≠ m ∧ b ≠ p ∧ b ≠ r ∧ rt r ≠ some b ∧ pa p ≠ some b) → h.2.2 b = h.2.2 b := fun _ _ => rfl
        refine m_aload_n (y := yiJ4_rotateRight) dJ4_rotateRight_0 rfl ?_
        refine m_ifnull (y := yiJ4_rotateRight) (x := (some p)) 95 dJ4_rotateRight_1 (by decide) (fun h9 => nomatch h9) (fun _ _ => ?_)
        refine m_aload_n (y := yiJ4_rotateRight) dJ4_rotateRight_4 rfl ?_
        refine m_getfS (y := yiJ4_rotateRight) kc_18 2 (by decide) dJ4_rotateRight_5 q1770 hcp0 rfl ?_
        refine m_astore_n (y := yiJ4_rotateRight) dJ4_rotateRight_8 (by decide) rfl ?_
        show MW K yiJ4_rotateRight d h 9 [some (.ref m), some (.ref p), some (.ref r)] [] Q
        refine m_aload_n (y := yiJ4_rotateRight) dJ4_rotateRight_9 rfl ?_
        refine m_aload_n (y := yiJ4_rotateRight) dJ4_rotateRight_10 rfl ?_
        refine m_getfS (y := yiJ4_rotateRight) kc_18 3 (by decide) dJ4_rotateRight_11 q1771 hcr0 rfl ?_
        refine m_putfS (y := yiJ4_rotateRight) kc_18 2 (by decide) dJ4_rotateRight_14 q1770 rfl hcp0 rfl rfl (hp_put fun g1 g1H => ?_)
        have hm : g1.2.2 m = some (true, .inr (17, [.null, .null, .null, (va_rf root), (vi sz), (vi mc), .null, .null, .null])) := (g1H.2.2.2 _ (by first | omega | exact (fun e9 => hb.2.2.2.1 (by rw [e9]; exact hlr)) | exact (fun e9 => hb.2.2.2.2 (by rw [e9]; exact hpp)))).trans hm
        have hcr0 : g1.2.2 r = some (true, .inr (18, [(.ref (ko r)), (va_rf (vl r)), (va_rf (lf r)), (.ref c), (.ref p), (vi (co r))])) := (g1H.2.2.2 _ (by first | omega | exact (fun e9 => hb.2.2.2.1 (by rw [e9]; exact hlr)) | exact (fun e9 => hb.2.2.2.2 (by rw [e9]; exact hpp)))).trans hcr0
        have hcc0 : g1.2.2 c = some (true, .inr (18, [(.ref (ko c)), (va_rf (vl c)), (va_rf (lf c)), (va_rf (rt c)), (va_rf (pa c)), (vi (co c))])) := (g1H.2.2.2 _ (by first | omega | exact (fun e9 => hb.2.2.2.1 (by rw [e9]; exact hlr)) | exact (fun e9 => hb.2.2.2.2 (by rw [e9]; exact hpp)))).trans hcc0
        have hcg0 : g1.2.2 g = some (true, .inr (18, [(.ref (ko g)), (va_rf (vl g)), (va_rf (lf g)), (va_rf (rt g)), (va_rf (pa g)), (vi (co g))])) := (g1H.2.2.2 _ (by first | omega | exact (fun e9 => hb.2.2.2.1 (by rw [e9]; exact hlr)) | exact (fun e9 => hb.2.2.2.2 (by rw [e9]; exact hpp)))).trans hcg0
        have fR : ∀ b, (b ≠ m ∧ b ≠ p ∧ b ≠ r ∧ rt r ≠ some b ∧ pa p ≠ some b) → g1.2.2 b = h.2.2 b := fun b hb => (g1H.2.2.2 b (by first | omega | exact (fun e9 => hb.2.2.2.1 (by rw [e9]; exact hlr)) | exact (fun e9 => hb.2.2.2.2 (by rw [e9]; exact hpp)))).trans (fR b hb)
        have hcp0 : g1.2.2 p = some (true, .inr (18, [(.ref (ko p)), (va_rf (vl p)), (.ref c), (va_rf (rt p)), (.ref g), (vi (co p))])) := g1H.2.2.1
        have g11 := g1H.1
        have g12 := g1H.2.1
        refine m_aload_n (y := yiJ4_rotateRight) dJ4_rotateRight_17 rfl ?_
        refine m_getfS (y := yiJ4_rotateRight) kc_18 3 (by decide) dJ4_rotateRight_18 q1771 hcr0 rfl ?_
        refine m_ifnull (y := yiJ4_rotateRight) (x := (some c)) 32 dJ4_rotateRight_21 (by decide) (fun h9 => nomatch h9) (fun _ _ => ?_)
        refine m_aload_n (y := yiJ4_rotateRight) dJ4_rotateRight_24 rfl ?_
        refine m_getfS (y := yiJ4_rotateRight) kc_18 3 (by decide) dJ4_rotateRight_25 q1771 hcr0 rfl ?_
        refine m_aload_n (y := yiJ4_rotateRight) dJ4_rotateRight_28 rfl ?_
        refine m_putfS (y := yiJ4_rotateRight) kc_18 4 (by decide) dJ4_rotateRight_29 q1773 rfl hcc0 rfl rfl (hp_put fun g2 g2H => ?_)
        have hm : g2.2.2 m = some (true, .inr (17, [.null, .null, .null, (va_rf root), (vi sz), (vi mc), .null, .null, .null])) := (g2H.2.2.2 _ (by first | omega | exact (fun e9 => hb.2.2.2.1 (by rw [e9]; exact hlr)) | exact (fun e9 => hb.2.2.2.2 (by rw [e9]; exact hpp)))).trans hm
        have hcp0 : g2.2.2 p = some (true, .inr (18, [(.ref (ko p)), (va_rf (vl p)), (.ref c), (va_rf (rt p)), (.ref g), (vi (co p))])) := (g2H.2.2.2 _ (by first | omega | exact (fun e9 => hb.2.2.2.1 (by rw [e9]; exact hlr)) | exact (fun e9 => hb.2.2.2.2 (by rw [e9]; exact hpp)))).trans hcp0
        have hcr0 : g2.2.2 r = some (true, .inr (18, [(.ref (ko r)), (va_rf (vl r)), (va_rf (lf r)), (.ref c), (.ref p), (vi (co r))])) := (g2H.2.2.2 _ (by first | omega | exact (fun e9 => hb.2.2.2.1 (by rw [e9]; exact hlr)) | exact (fun e9 => hb.2.2.2.2 (by rw [e9]; exact hpp)))).trans hcr0
        have hcg0 : g2.2.2 g = some (true, .inr (18, [(.ref (ko g)), (va_rf (vl g)), (va_rf (lf g)), (va_rf (rt g)), (va_rf (pa g)), (vi (co g))])) := (g2H.2.2.2 _ (by first | omega | exact (fun e9 => hb.2.2.2.1 (by rw [e9]; exact hlr)) | exact (fun e9 => hb.2.2.2.2 (by rw [e9]; exact hpp)))).trans hcg0
        have fR : ∀ b, (b ≠ m ∧ b ≠ p ∧ b ≠ r ∧ rt r ≠ some b ∧ pa p ≠ some b) → g2.2.2 b = h.2.2 b := fun b hb => (g2H.2.2.2 b (by first | omega | exact (fun e9 => hb.2.2.2.1 (by rw [e9]; exact hlr)) | exact (fun e9 => hb.2.2.2.2 (by rw [e9]; exact hpp)))).trans (fR b hb)
        have hcc0 : g2.2.2 c = some (true, .inr (18, [(.ref (ko c)), (va_rf (vl c)), (va_rf (lf c)), (va_rf (rt c)), (.ref p), (vi (co c))])) := g2H.2.2.1
        have g21 := g2H.1
        have g22 := g2H.2.1
        refine m_aload_n (y := yiJ4_rotateRight) dJ4_rotateRight_32 rfl ?_
        refine m_aload_n (y := yiJ4_rotateRight) dJ4_rotateRight_33 rfl ?_
        refine m_getfS (y := yiJ4_rotateRight) kc_18 4 (by decide) dJ4_rotateRight_34 q1773 hcp0 rfl ?_
        refine m_putfS (y := yiJ4_rotateRight) kc_18 4 (by decide) dJ4_rotateRight_37 q1773 rfl hcr0 rfl rfl (hp_put fun g3 g3H => ?_)
        have hm : g3.2.2 m = some (true, .inr (17, [.null, .null, .null, (va_rf root), (vi sz), (vi mc), .null, .null, .null])) := (g3H.2.2.2 _ (by first | omega | exact (fun e9 => hb.2.2.2.1 (by rw [e9]; exact hlr)) | exact (fun e9 => hb.2.2.2.2 (by rw [e9]; exact hpp)))).trans hm
        have hcp0 : g3.2.2 p = some (true, .inr (18, [(.ref (ko p)), (va_rf (vl p)), (.ref c), (va_rf (rt p)), (.ref g), (vi (co p))])) := (g3H.2.2.2 _ (by first | omega | exact (fun e9 => hb.2.2.2.1 (by rw [e9]; exact hlr)) | exact (fun e9 => hb.2.2.2.2 (by rw [e9]; exact hpp)))).trans hcp0
        have hcc0 : g3.2.2 c = some (true, .inr (18, [(.ref (ko c)), (va_rf (vl c)), (va_rf (lf c)), (va_rf (rt c)), (.ref p), (vi (co c))])) := (g3H.2.2.2 _ (by first | omega | exact (fun e9 => hb.2.2.2.1 (by rw [e9]; exact hlr)) | exact (fun e9 => hb.2.2.2.2 (by rw [e9]; exact hpp)))).trans hcc0
        have hcg0 : g3.2.2 g = some (true, .inr (18, [(.ref (ko g)), (va_rf (vl g)), (va_rf (lf g)), (va_rf (rt g)), (va_rf (pa g)), (vi (co g))])) := (g3H.2.2.2 _ (by first | omega | exact (fun e9 => hb.2.2.2.1 (by rw [e9]; exact hlr)) | exact (fun e9 => hb.2.2.2.2 (by rw [e9]; exact hpp)))).trans hcg0
        have fR : ∀ b, (b ≠ m ∧ b ≠ p ∧ b ≠ r ∧ rt r ≠ some b ∧ pa p ≠ some b) → g3.2.2 b = h.2.2 b := fun b hb => (g3H.2.2.2 b (by first | omega | exact (fun e9 => hb.2.2.2.1 (by rw [e9]; exact hlr)) | exact (fun e9 => hb.2.2.2.2 (by rw [e9]; exact hpp)))).trans (fR b hb)
        have hcr0 : g3.2.2 r = some (true, .inr (18, [(.ref (ko r)), (va_rf (vl r)), (va_rf (lf r)), (.ref c), (.ref g), (vi (co r))])) := g3H.2.2.1
        have g31 := g3H.1
        have g32 := g3H.2.1
        refine m_aload_n (y := yiJ4_rotateRight) dJ4_rotateRight_40 rfl ?_
        refine m_getfS (y := yiJ4_rotateRight) kc_18 4 (by decide) dJ4_rotateRight_41 q1773 hcp0 rfl ?_
        refine m_ifnonnull (y := yiJ4_rotateRight) (x := (some g)) 55 dJ4_rotateRight_44 (by decide) (fun _ _ => ?_) (fun h9 => nomatch h9)
        refine m_aload_n (y := yiJ4_rotateRight) dJ4_rotateRight_55 rfl ?_
        refine m_getfS (y := yiJ4_rotateRight) kc_18 4 (by decide) dJ4_rotateRight_56 q1773 hcp0 rfl ?_
        refine m_getfS (y := yiJ4_rotateRight) kc_18 3 (by decide) dJ4_rotateRight_59 q1771 hcg0 rfl ?_
        refine m_aload_n (y := yiJ4_rotateRight) dJ4_rotateRight_62 rfl ?_
        refine m_acmp_ne (y := yiJ4_rotateRight) (x := (rt g)) (z := (some p)) 77 dJ4_rotateRight_63 (by decide) (fun c63 => ?_) (fun c63 => ?_)
        · refine m_aload_n (y := yiJ4_rotateRight) dJ4_rotateRight_77 rfl ?_
          refine m_getfS (y := yiJ4_rotateRight) kc_18 4 (by decide) dJ4_rotateRight_78 q1773 hcp0 rfl ?_
          refine m_aload_n (y := yiJ4_rotateRight) dJ4_rotateRight_81 rfl ?_
          refine m_putfS (y := yiJ4_rotateRight) kc_18 2 (by decide) dJ4_rotateRight_82 q1770 rfl hcg0 rfl rfl (hp_put fun g4 g4H => ?_)
          have hm : g4.2.2 m = some (true, .inr (17, [.null, .null, .null, (va_rf root), (vi sz), (vi mc), .null, .null, .null])) := (g4H.2.2.2 _ (by first | omega | exact (fun e9 => hb.2.2.2.1 (by rw [e9]; exact hlr)) | exact (fun e9 => hb.2.2.2.2 (by rw [e9]; exact hpp)))).trans hm
          have hcp0 : g4.2.2 p = some (true, .inr (18, [(.ref (ko p)), (va_rf (vl p)), (.ref c), (va_rf (rt p)), (.ref g), (vi (co p))])) := (g4H.2.2.2 _ (by first | omega | exact (fun e9 => hb.2.2.2.1 (by rw [e9]; exact hlr)) | exact (fun e9 => hb.2.2.2.2 (by rw [e9]; exact hpp)))).trans hcp0
          have hcr0 : g4.2.2 r = some (true, .inr (18, [(.ref (ko r)), (va_rf (vl r)), (va_rf (lf r)), (.ref c), (.ref g), (vi (co r))])) := (g4H.2.2.2 _ (by first | omega | exact (fun e9 => hb.2.2.2.1 (by rw [e9]; exact hlr)) | exact (fun e9 => hb.2.2.2.2 (by rw [e9]; exact hpp)))).trans hcr0
          have hcc0 : g4.2.2 c = some (true, .inr (18, [(.ref (ko c)), (va_rf (vl c)), (va_rf (lf c)), (va_rf (rt c)), (.ref p), (vi (co c))])) := (g4H.2.2.2 _ (by first | omega | exact (fun e9 => hb.2.2.2.1 (by rw [e9]; exact hlr)) | exact (fun e9 => hb.2.2.2.2 (by rw [e9]; exact hpp)))).trans hcc0
          have fR : ∀ b, (b ≠ m ∧ b ≠ p ∧ b ≠ r ∧ rt r ≠ some b ∧ pa p ≠ some b) → g4.2.2 b = h.2.2 b := fun b hb => (g4H.2.2.2 b (by first | omega | exact (fun e9 => hb.2.2.2.1 (by rw [e9]; exact hlr)) | exact (fun e9 => hb.2.2.2.2 (by rw [e9]; exact hpp)))).trans (fR b hb)
          have hcg0 : g4.2.2 g = some (true, .inr (18, [(.ref (ko g)), (va_rf (vl g)), (.ref r), (va_rf (rt g)), (va_rf (pa g)), (vi (co g))])) := g4H.2.2.1
          have g41 := g4H.1
          have g42 := g4H.2.1
          refine m_aload_n (y := yiJ4_rotateRight) dJ4_rotateRight_85 rfl ?_
          refine m_aload_n (y := yiJ4_rotateRight) dJ4_rotateRight_86 rfl ?_
          refine m_putfS (y := yiJ4_rotateRight) kc_18 3 (by decide) dJ4_rotateRight_87 q1771 rfl hcr0 rfl rfl (hp_put fun g5 g5H => ?_)
          have hm : g5.2.2 m = some (true, .inr (17, [.null, .null, .null, (va_rf root), (vi sz), (vi mc), .null, .null, .null])) := (g5H.2.2.2 _ (by first | omega | exact (fun e9 => hb.2.2.2.1 (by rw [e9]; exact hlr)) | exact (fun e9 => hb.2.2.2.2 (by rw [e9]; exact hpp)))).trans hm
          have hcp0 : g5.2.2 p = some (true, .inr (18, [(.ref (ko p)), (va_rf (vl p)), (.ref c), (va_rf (rt p)), (.ref g), (vi (co p))])) := (g5H.2.2.2 _ (by first | omega | exact (fun e9 => hb.2.2.2.1 (by rw [e9]; exact hlr)) | exact (fun e9 => hb.2.2.2.2 (by rw [e9]; exact hpp)))).trans hcp0
          have hcc0 : g5.2.2 c = some (true, .inr (18, [(.ref (ko c)), (va_rf (vl c)), (va_rf (lf c)), (va_rf (rt c)), (.ref p), (vi (co c))])) := (g5H.2.2.2 _ (by first | omega | exact (fun e9 => hb.2.2.2.1 (by rw [e9]; exact hlr)) | exact (fun e9 => hb.2.2.2.2 (by rw [e9]; exact hpp)))).trans hcc0
          have hcg0 : g5.2.2 g = some (true, .inr (18, [(.ref (ko g)), (va_rf (vl g)), (.ref r), (va_rf (rt g)), (va_rf (pa g)), (vi (co g))])) := (g5H.2.2.2 _ (by first | omega | exact (fun e9 => hb.2.2.2.1 (by rw [e9]; exact hlr)) | exact (fun e9 => hb.2.2.2.2 (by rw [e9]; exact hpp)))).trans hcg0
          have fR : ∀ b, (b ≠ m ∧ b ≠ p ∧ b ≠ r ∧ rt r ≠ some b ∧ pa p ≠ some b) → g5.2.2 b = h.2.2 b := fun b hb => (g5H.2.2.2 b (by first | omega | exact (fun e9 => hb.2.2.2.1 (by rw [e9]; exact hlr)) | exact (fun e9 => hb.2.2.2.2 (by rw [e9]; exact hpp)))).trans (fR b hb)
          have hcr0 : g5.2.2 r = some (true, .inr (18, [(.ref (ko r)), (va_rf (vl r)), (va_rf (lf r)), (.ref p), (.ref g), (vi (co r))])) := g5H.2.2.1
          have g51 := g5H.1
          have g52 := g5H.2.1
          refine m_aload_n (y := yiJ4_rotateRight) dJ4_rotateRight_90 rfl ?_
          refine m_aload_n (y := yiJ4_rotateRight) dJ4_rotateRight_91 rfl ?_
          refine m_putfS (y := yiJ4_rotateRight) kc_18 4 (by decide) dJ4_rotateRight_92 q1773 rfl hcp0 rfl rfl (hp_put fun g6 g6H => ?_)
          have hm : g6.2.2 m = some (true, .inr (17, [.null, .null, .null, (va_rf root), (vi sz), (vi mc), .null, .null, .null])) := (g6H.2.2.2 _ (by first | omega | exact (fun e9 => hb.2.2.2.1 (by rw [e9]; exact hlr)) | exact (fun e9 => hb.2.2.2.2 (by rw [e9]; exact hpp)))).trans hm
          have hcr0 : g6.2.2 r = some (true, .inr (18, [(.ref (ko r)), (va_rf (vl r)), (va_rf (lf r)), (.ref p), (.ref g), (vi (co r))])) := (g6H.2.2.2 _ (by first | omega | exact (fun e9 => hb.2.2.2.1 (by rw [e9]; exact hlr)) | exact (fun e9 => hb.2.2.2.2 (by rw [e9]; exact hpp)))).trans hcr0
          have hcc0 : g6.2.2 c = some (true, .inr (18, [(.ref (ko c)), (va_rf (vl c)), (va_rf (lf c)), (va_rf (rt c)), (.ref p), (vi (co c))])) := (g6H.2.2.2 _ (by first | omega | exact (fun e9 => hb.2.2.2.1 (by rw [e9]; exact hlr)) | exact (fun e9 => hb.2.2.2.2 (by rw [e9]; exact hpp)))).trans hcc0
          have hcg0 : g6.2.2 g = some (true, .inr (18, [(.ref (ko g)), (va_rf (vl g)), (.ref r), (va_rf (rt g)), (va_rf (pa g)), (vi (co g))])) := (g6H.2.2.2 _ (by first | omega | exact (fun e9 => hb.2.2.2.1 (by rw [e9]; exact hlr)) | exact (fun e9 => hb.2.2.2.2 (by rw [e9]; exact hpp)))).trans hcg0
          have fR : ∀ b, (b ≠ m ∧ b ≠ p ∧ b ≠ r ∧ rt r ≠ some b ∧ pa p ≠ some b) → g6.2.2 b = h.2.2 b := fun b hb => (g6H.2.2.2 b (by first | omega | exact (fun e9 => hb.2.2.2.1 (by rw [e9]; exact hlr)) | exact (fun e9 => hb.2.2.2.2 (by rw [e9]; exact hpp)))).trans (fR b hb)
          have hcp0 : g6.2.2 p = some (true, .inr (18, [(.ref (ko p)), (va_rf (vl p)), (.ref c), (va_rf (rt p)), (.ref r), (vi (co p))])) := g6H.2.2.1
          have g61 := g6H.1
          have g62 := g6H.2.1
          subst hQ; exact j_vret (y := yiJ4_rotateRight) dJ4_rotateRight_95 rfl (⟨hTF _ (by omega) (by omega) fR, _, _, _, _, _, _, TmF.rotR hF hI hp hr (by unfold roR; rw [if_neg (by rw [hpp]; intro h9; cases h9)]; exact hm) (by rw [hlr]; exact hcp0) (by rw [hpp]; exact hcr0) (fun c9 e => by { rw [hlr] at e; cases e; exact hcc0 }) (fun g9 e => by { rw [hpp] at e; cases e; rw [if_neg hng, if_neg hng]; exact hcg0 }) fR, hI.rotR hp hr, (hI.1.rotR hp hr).2, rfl⟩)
        · exact absurd c63 hng
end TREE
