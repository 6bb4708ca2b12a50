/-! java.util.TreeMap: an entry put, taken out, the last one; java.util.TreeSet -/
theorem c_J33_init (K : KT) (d : Nat) (h : MH) (e k v : Nat) (p : Option Nat) (hd : 1 ≤ d) (he : h.2.2 e = some (true, .inr (18, [.null, .null, .null, .null, .null, vi 0]))) : Mt K yiJ33_init d [.ref e, .ref k, .ref v, va_rf p] h (Rv fun h' => Hp h h' e (true, .inr (18, [.ref k, .ref v, .null, .null, va_rf p, vi 1])) 0 0) := by
  refine mt_ofQc (by decide) (Nat.le_of_ble_eq_true rfl) ⟨(show (1 : Nat) ≠ 2 by decide), (show (1 : Nat) ≠ 2 by decide), (show (1 : Nat) ≠ 2 by decide), va_rf_c, trivial⟩ (fun Q hQ => ?_)
  show MW K yiJ33_init d h 0 [some (.ref e), some (.ref k), some (.ref v), some (va_rf p)] [] Q
  refine mw_wf (fun hwf => ?_)
  have l_he := hwf _ _ he
  have fR : ∀ b, (b ≠ e) → h.2.2 b = h.2.2 b := fun _ _ => rfl
  refine m_aload_n (y := yiJ33_init) dJ33_init_0 rfl ?_
  refine m_objInit (y := yiJ33_init) dJ33_init_1 q1765 q195 q196 ⟨Nat.le_of_ble_eq_true rfl, by omega⟩ ?_
  refine m_aload_n (y := yiJ33_init) dJ33_init_4 rfl ?_
  refine j_iconst (y := yiJ33_init) dJ33_init_5 ?_
  refine m_putfS (y := yiJ33_init) kc_18 5 (by decide) dJ33_init_6 q1774 rfl he rfl rfl (hp_put fun g1 g1H => ?_)
  have fR : ∀ b, (b ≠ e) → g1.2.2 b = h.2.2 b := fun b hb => (g1H.2.2.2 b (by omega)).trans (fR b hb)
  have he : g1.2.2 e = some (true, .inr (18, [.null, .null, .null, .null, .null, (vi 1)])) := g1H.2.2.1
  have g11 := g1H.1
  have g12 := g1H.2.1
  refine m_aload_n (y := yiJ33_init) dJ33_init_9 rfl ?_
  refine m_aload_n (y := yiJ33_init) dJ33_init_10 rfl ?_
  refine m_putfS (y := yiJ33_init) kc_18 0 (by decide) dJ33_init_11 q1766 rfl he rfl rfl (hp_put fun g2 g2H => ?_)
  have fR : ∀ b, (b ≠ e) → g2.2.2 b = h.2.2 b := fun b hb => (g2H.2.2.2 b (by omega)).trans (fR b hb)
  have he : g2.2.2 e = some (true, .inr (18, [(.ref k), .null, .null, .null, .null, (vi 1)])) := g2H.2.2.1
  have g21 := g2H.1
  have g22 := g2H.2.1
  refine m_aload_n (y := yiJ33_init) dJ33_init_14 rfl ?_
  refine m_aload_n (y := yiJ33_init) dJ33_init_15 rfl ?_
  refine m_putfS (y := yiJ33_init) kc_18 1 (by decide) dJ33_init_16 q1768 rfl he rfl rfl (hp_put fun g3 g3H => ?_)
  have fR : ∀ b, (b ≠ e) → g3.2.2 b = h.2.2 b := fun b hb => (g3H.2.2.2 b (by omega)).trans (fR b hb)
  have he : g3.2.2 e = some (true, .inr (18, [(.ref k), (.ref v), .null, .null, .null, (vi 1)])) := g3H.2.2.1
  have g31 := g3H.1
  have g32 := g3H.2.1
  refine m_aload_n (y := yiJ33_init) dJ33_init_19 rfl ?_
  refine m_aload_nq (y := yiJ33_init) dJ33_init_20 rfl ?_
  refine m_putfS (y := yiJ33_init) kc_18 4 (by decide) dJ33_init_21 q1772 rfl he (by cases p <;> rfl) (by cases p <;> rfl) (hp_put fun g4 g4H => ?_)
  have fR : ∀ b, (b ≠ e) → g4.2.2 b = h.2.2 b := fun b hb => (g4H.2.2.2 b (by omega)).trans (fR b hb)
  have he : g4.2.2 e = some (true, .inr (18, [(.ref k), (.ref v), .null, .null, (va_rf p), (vi 1)])) := g4H.2.2.1
  have g41 := g4H.1
  have g42 := g4H.2.1
  subst hQ; exact j_vret (y := yiJ33_init) dJ33_init_24 rfl (⟨by omega, by omega, he, fR⟩)
section TREE
variable {K : KT} {d : Nat} {h : MH} {m : Nat} {L : List Nat} {key : Nat → Int} {ko : Nat → Nat} {vl lf rt pa : Nat → Option Nat} {co lo hi : Nat → Int} {root : Option Nat} {sz mc LO HI : Int}
/-- a cell more, the map's own cells changed -/
def PFr (L : List Nat) (m : Nat) (h h' : MH) : Prop := (h.1 ≤ h'.1 ∧ h'.1 ≤ h.1 + 1) ∧ (h.2.1 ≤ h'.2.1 ∧ h'.2.1 ≤ h.2.1 + 6) ∧ ∀ b, (b < h.1 ∧ b ∉ L ∧ b ≠ m) → h'.2.2 b = h.2.2 b
def TAddQ (h h' : MH) (m : Nat) (L : List Nat) (key : Nat → Int) (ko : Nat → Nat) (vl : Nat → Option Nat) (sz mc LO HI k : Int) (q v : Nat) : Prop := PFr L m h h' ∧ ∃ (lf rt pa : Nat → Option Nat) (co lo hi : Nat → Int) (root : Option Nat), TmF h' m (h.1 :: L) (upN ko h.1 q) (upo vl h.1 (some v)) lf rt pa co root (sz + 1) (mc + 1) ∧ TmI (h.1 :: L) (upI key h.1 k) lf rt pa lo hi root LO HI ∧ TmB co root
theorem TmF.addL {p x q v : Nat} {g : MH} (H : TmF h m L ko vl lf rt pa co root sz mc) (hp : p ∈ L) (hx : x ∉ L) (hpx : p ≠ x) (hm : g.2.2 m = h.2.2 m) (e1 : g.2.2 p = some (true, .inr (18, [.ref (ko p), va_rf (vl p), .ref x, va_rf (rt p), va_rf (pa p), vi (co p)]))) (e2 : g.2.2 x = some (true, .inr (18, [.ref q, .ref v, .null, .null, .ref p, vi 1]))) (fr : ∀ b, b ∈ L → b ≠ p → g.2.2 b = h.2.2 b) : TmF g m (x :: L) (upN ko x q) (upo vl x (some v)) (upo (upo lf x none) p (some x)) (upo rt x none) (upo pa x (some p)) (upI co x 1) root sz mc := by
  refine ⟨hm.trans H.1, fun b hb => ?_, fun b hb => ?_⟩
  · rcases List.mem_cons.mp hb with e | e
    · subst e
      rw [e2, show upN ko b q b = q from if_pos rfl, upo_at, upo_ne hpx.symm, upo_at, upo_at, upo_at, upI_at]; rfl
    · have nx : b ≠ x := fun e9 => hx (by rw [← e9]; exact e)
      rw [show upN ko x q b = ko b from if_neg nx, upo_ne nx, upo_ne nx, upo_ne nx, upI_ne nx]
      by_cases e3 : b = p
      · subst e3; rw [upo_at]; exact e1
      · rw [upo_ne e3, upo_ne nx, fr b e e3]; exact H.2.1 b e
  · rcases List.mem_cons.mp hb with e | e
    · subst e; rw [upI_at]; exact Or.inr rfl
    · rw [upI_ne (fun e9 => hx (by rw [← e9]; exact e))]; exact H.2.2 b e
theorem TmF.addR {p x q v : Nat} {g : MH} (H : TmF h m L ko vl lf rt pa co root sz mc) (hp : p ∈ L) (hx : x ∉ L) (hpx : p ≠ x) (hm : g.2.2 m = h.2.2 m) (e1 : g.2.2 p = some (true, .inr (18, [.ref (ko p), va_rf (vl p), va_rf (lf p), .ref x, va_rf (pa p), vi (co p)]))) (e2 : g.2.2 x = some (true, .inr (18, [.ref q, .ref v, .null, .null, .ref p, vi 1]))) (fr : ∀ b, b ∈ L → b ≠ p → g.2.2 b = h.2.2 b) : TmF g m (x :: L) (upN ko x q) (upo vl x (some v)) (upo lf x none) (upo (upo rt x none) p (some x)) (upo pa x (some p)) (upI co x 1) root sz mc := by
  refine ⟨hm.trans H.1, fun b hb => ?_, fun b hb => ?_⟩
  · rcases List.mem_cons.mp hb with e | e
    · subst e
      rw [e2, show upN ko b q b = q from if_pos rfl, upo_at, upo_at, upo_ne hpx.symm, upo_at, upo_at, upI_at]; rfl
    · have nx : b ≠ x := fun e9 => hx (by rw [← e9]; exact e)
      rw [show upN ko x q b = ko b from if_neg nx, upo_ne nx, upo_ne nx, upo_ne nx, upI_ne nx]
      by_cases e3 : b = p
      · subst e3; rw [upo_at]; exact e1
      · rw [upo_ne e3, upo_ne nx, fr b e e3]; exact H.2.1 b e
  · rcases List.mem_cons.mp hb with e | e
    · subst e; rw [upI_at]; exact Or.inr rfl
    · rw [upI_ne (fun e9 => hx (by rw [← e9]; exact e))]; exact H.2.2 b e
theorem c_J4_addEntryL {p q v : Nat} {k : Int} (hd : 2 ≤ d) (hF : TmF h m L ko vl lf rt pa co root sz mc) (hI : TmI L key lf rt pa lo hi root LO HI) (hB : TmB co root) (hp : p ∈ L) (hl : lf p = none) (hk : lo p < k ∧ k < key p) (hz : h.1 + 1 ≤ kC K ∧ h.2.1 + 6 ≤ kS K) : Mt K yiJ4_addEntry d [.ref m, .ref q, .ref v, .ref p, vi 1] h (Rv fun h' => TAddQ h h' m L key ko vl sz mc LO HI k q v) := by
  have hm := hF.1
  have hcp := hF.2.1 p hp
  rw [hl] at hcp
  have nmp : m ≠ p := ne_oo hm hcp (by decide)
  refine mt_ofQ (by decide) (Nat.le_of_ble_eq_true rfl) (fun Q hQ => ?_)
  show MW K yiJ4_addEntry d h 0 [some (.ref m), some (.ref q), some (.ref v), some (.ref p), some (vi 1), none] [] Q
  refine mw_wf (fun hwf => ?_)
  have l_hm := hwf _ _ hm
  have l_hcp := hwf _ _ hcp
  have fR : ∀ b, (b < h.1 ∧ b ≠ p) → h.2.2 b = h.2.2 b := fun _ _ => rfl
  have hLs : ∀ b, b ∈ L → b < h.1 := fun b hb => hwf _ _ (hF.2.1 b hb)
  have hxL : h.1 ∉ L := fun h9 => Nat.lt_irrefl _ (hLs _ h9)
  refine m_new (y := yiJ4_addEntry) kc_18 6 dJ4_addEntry_0 q1760 q1761 q166 _ rfl ⟨by omega, by omega⟩ (hp_new fun g1 g1H => ?_)
  have hm : g1.2.2 m = some (true, .inr (17, [.null, .null, .null, (va_rf root), (vi sz), (vi mc), .null, .null, .null])) := (g1H.2.2.2 _ (by omega)).trans hm
  have hcp : g1.2.2 p = some (true, .inr (18, [(.ref (ko p)), (va_rf (vl p)), .null, (va_rf (rt p)), (va_rf (pa p)), (vi (co p))])) := (g1H.2.2.2 _ (by omega)).trans hcp
  have fR : ∀ b, (b < h.1 ∧ b ≠ p) → g1.2.2 b = h.2.2 b := fun b hb => (g1H.2.2.2 b (by omega)).trans (fR b hb)
  have fg1 : g1.2.2 h.1 = some (true, .inr (18, [.null, .null, .null, .null, .null, (vi 0)])) := g1H.2.2.1
  have g11 := g1H.1
  have g12 := g1H.2.1
  refine m_dup (y := yiJ4_addEntry) dJ4_addEntry_3 rfl ?_
  refine m_aload_n (y := yiJ4_addEntry) dJ4_addEntry_4 rfl ?_
  refine m_aload_n (y := yiJ4_addEntry) dJ4_addEntry_5 rfl ?_
  refine m_aload_n (y := yiJ4_addEntry) dJ4_addEntry_6 rfl ?_
  refine m_invI (y := yiJ4_addEntry) [(.ref q), (.ref v), (.ref p)] dJ4_addEntry_7 q1762 q1763 q166 q1764 rfl rfl (c_J33_init K 1 g1 h.1 q v (some p) (by omega) fg1) pdJ33_init ⟨Nat.le_of_ble_eq_true rfl, by decide, by omega⟩ (kk_v fun h7 q7 => ?_) kx_v
  obtain q7 := q7
  have y7 := q7.1
  have z7 := q7.2.1
  have fn := q7.2.2.1
  have hm : h7.2.2 m = some (true, .inr (17, [.null, .null, .null, (va_rf root), (vi sz), (vi mc), .null, .null, .null])) := (q7.2.2.2 _ (by omega)).trans hm
  have hcp : h7.2.2 p = some (true, .inr (18, [(.ref (ko p)), (va_rf (vl p)), .null, (va_rf (rt p)), (va_rf (pa p)), (vi (co p))])) := (q7.2.2.2 _ (by omega)).trans hcp
  have fR : ∀ b, (b < h.1 ∧ b ≠ p) → h7.2.2 b = h.2.2 b := fun b hb => (q7.2.2.2 b (by omega)).trans (fR b hb)
  refine mw_wf (fun hwf7 => ?_)
  have l_fn7 := hwf7 _ _ fn
  refine m_astore (y := yiJ4_addEntry) dJ4_addEntry_10 (by decide) rfl ?_
  show MW K yiJ4_addEntry d h7 12 [some (.ref m), some (.ref q), some (.ref v), some (.ref p), some (vi 1), some (.ref h.1)] [] Q
  refine j_iload (y := yiJ4_addEntry) dJ4_addEntry_12 rfl ?_
  refine j_if_eq (y := yiJ4_addEntry) 26 dJ4_addEntry_14 (by decide) ⟨by decide, by decide⟩ (fun c => absurd c (by decide)) (fun _ => ?_)
  refine m_aload_n (y := yiJ4_addEntry) dJ4_addEntry_17 rfl ?_
  refine m_aload (y := yiJ4_addEntry) dJ4_addEntry_18 rfl ?_
  refine m_putfS (y := yiJ4_addEntry) kc_18 2 (by decide) dJ4_addEntry_20 q1770 rfl hcp rfl rfl (hp_put fun g2 g2H => ?_)
  have hm : g2.2.2 m = some (true, .inr (17, [.null, .null, .null, (va_rf root), (vi sz), (vi mc), .null, .null, .null])) := (g2H.2.2.2 _ (by omega)).trans hm
  have fn : g2.2.2 h.1 = some (true, .inr (18, [(.ref q), (.ref v), .null, .null, (.ref p), (vi 1)])) := (g2H.2.2.2 _ (by omega)).trans fn
  have fR : ∀ b, (b < h.1 ∧ b ≠ p) → g2.2.2 b = h.2.2 b := fun b hb => (g2H.2.2.2 b (by omega)).trans (fR b hb)
  have hcp : g2.2.2 p = some (true, .inr (18, [(.ref (ko p)), (va_rf (vl p)), (.ref h.1), (va_rf (rt p)), (va_rf (pa p)), (vi (co p))])) := g2H.2.2.1
  have g21 := g2H.1
  have g22 := g2H.2.1
  refine m_goto (y := yiJ4_addEntry) 32 dJ4_addEntry_23 (by decide) ?_
  have hA : TmF g2 m (h.1 :: L) (upN ko h.1 q) (upo vl h.1 (some v)) _ _ _ _ root sz mc := hF.addL (p := p) (x := h.1) hp hxL (by omega) (hm.trans hF.1.symm) hcp fn (fun b hb n => fR b ⟨hLs b hb, n⟩)
  have hAI := hI.addL (x := h.1) hp hxL hl hk
  have hAB : ∀ r0, root = some r0 → upI co h.1 1 r0 = 1 ∨ r0 = h.1 := fun r0 e9 => Or.inl ((upI_ne (fun e8 => hxL (by rw [← e8]; exact (hI.1.2.2.1 r0 e9).1))).trans (hB r0 e9))
  refine m_aload_n (y := yiJ4_addEntry) dJ4_addEntry_32 rfl ?_
  refine m_aload (y := yiJ4_addEntry) dJ4_addEntry_33 rfl ?_
  refine m_invV (y := yiJ4_addEntry) (rB := (RJ4, TJ4, 9)) [(.ref h.1)] dJ4_addEntry_35 hm rfl q1793 q1795 qs25 q128 q1796 rfl (c_J4_fixAfterInsertion (d := 1) h.1 (by omega) hA hAI List.mem_cons_self hAB) pdJ4_fixAfterInsertion ⟨Nat.le_of_ble_eq_true rfl, by decide, by omega⟩ (kk_v fun h35 q35 => ?_) kx_v
  obtain ⟨hU35, lfX, rtX, paX, coX, loX, hiX, roX, hF35, hI35, hB35⟩ := q35
  have y35 := hU35.1
  have z35 := hU35.2.1
  refine mw_wf (fun hwf35 => ?_)
  refine m_aload_n (y := yiJ4_addEntry) dJ4_addEntry_38 rfl ?_
  refine m_dup (y := yiJ4_addEntry) dJ4_addEntry_39 rfl ?_
  refine m_getfS (y := yiJ4_addEntry) kc_17 4 (by decide) dJ4_addEntry_40 q241 hF35.1 rfl ?_
  refine j_iconst (y := yiJ4_addEntry) dJ4_addEntry_43 ?_
  refine j_iadd (y := yiJ4_addEntry) dJ4_addEntry_44 ?_
  refine m_putfS (y := yiJ4_addEntry) kc_17 4 (by decide) dJ4_addEntry_45 q241 rfl hF35.1 rfl rfl (hp_put fun g3 g3H => ?_)
  have hFg3 := TmF.m4 hF35 g3H
  have hTg3 := TFr.putm (TFr.refl (L := h.1 :: L) (m := m) (h := h35)) g3H
  refine m_aload_n (y := yiJ4_addEntry) dJ4_addEntry_48 rfl ?_
  refine m_dup (y := yiJ4_addEntry) dJ4_addEntry_49 rfl ?_
  refine m_getfS (y := yiJ4_addEntry) kc_17 5 (by decide) dJ4_addEntry_50 q242 hFg3.1 rfl ?_
  refine j_iconst (y := yiJ4_addEntry) dJ4_addEntry_53 ?_
  refine j_iadd (y := yiJ4_addEntry) dJ4_addEntry_54 ?_
  refine m_putfS (y := yiJ4_addEntry) kc_17 5 (by decide) dJ4_addEntry_55 q242 rfl hFg3.1 rfl rfl (hp_put fun g4 g4H => ?_)
  have hFg4 := TmF.m5 hFg3 g4H
  have hTg4 := TFr.putm hTg3 g4H
  subst hQ; exact j_vret (y := yiJ4_addEntry) dJ4_addEntry_58 rfl (⟨⟨⟨by have a9 := (hTg4).1; omega, by have a9 := (hTg4).1; omega⟩, ⟨by have a9 := (hTg4).2.1; omega, by have a9 := (hTg4).2.1; omega⟩, fun b hb => ((hTg4).2.2 b ⟨fun h9 => (List.mem_cons.mp h9).elim (fun h8 => by omega) hb.2.1, hb.2.2⟩).trans ((hU35.2.2 b ⟨fun h9 => (List.mem_cons.mp h9).elim (fun h8 => by omega) hb.2.1, hb.2.2⟩).trans (fR b ⟨hb.1, fun h9 => hb.2.1 (by rw [h9]; exact hp)⟩))⟩, lfX, rtX, paX, coX, loX, hiX, roX, hFg4, hI35, hB35⟩)
theorem c_J4_addEntryR {p q v : Nat} {k : Int} (hd : 2 ≤ d) (hF : TmF h m L ko vl lf rt pa co root sz mc) (hI : TmI L key lf rt pa lo hi root LO HI) (hB : TmB co root) (hp : p ∈ L) (hl : rt p = none) (hk : key p < k ∧ k < hi p) (hz : h.1 + 1 ≤ kC K ∧ h.2.1 + 6 ≤ kS K) : Mt K yiJ4_addEntry d [.ref m, .ref q, .ref v, .ref p, vi 0] h (Rv fun h' => TAddQ h h' m L key ko vl sz mc LO HI k q v) := by
  have hm := hF.1
  have hcp := hF.2.1 p hp
  rw [hl] at hcp
  have nmp : m ≠ p := ne_oo hm hcp (by decide)
  refine mt_ofQ (by decide) (Nat.le_of_ble_eq_true rfl) (fun Q hQ => ?_)
  show MW K yiJ4_addEntry d h 0 [some (.ref m), some (.ref q), some (.ref v), some (.ref p), some (vi 0), none] [] Q
  refine mw_wf (fun hwf => ?_)
  have l_hm := hwf _ _ hm
  have l_hcp := hwf _ _ hcp
  have fR : ∀ b, (b < h.1 ∧ b ≠ p) → h.2.2 b = h.2.2 b := fun _ _ => rfl
  have hLs : ∀ b, b ∈ L → b < h.1 := fun b hb => hwf _ _ (hF.2.1 b hb)
  have hxL : h.1 ∉ L := fun h9 => Nat.lt_irrefl _ (hLs _ h9)
  refine m_new (y := yiJ4_addEntry) kc_18 6 dJ4_addEntry_0 q1760 q1761 q166 _ rfl ⟨by omega, by omega⟩ (hp_new fun g1 g1H => ?_)
  have hm : g1.2.2 m = some (true, .inr (17, [.null, .null, .null, (va_rf root), (vi sz), (vi mc), .null, .null, .null])) := (g1H.2.2.2 _ (by omega)).trans hm
  have hcp : g1.2.2 p = some (true, .inr (18, [(.ref (ko p)), (va_rf (vl p)), (va_rf (lf p)), .null, (va_rf (pa p)), (vi (co p))])) := (g1H.2.2.2 _ (by omega)).trans hcp
  have fR : ∀ b, (b < h.1 ∧ b ≠ p) → g1.2.2 b = h.2.2 b := fun b hb => (g1H.2.2.2 b (by omega)).trans (fR b hb)
  have fg1 : g1.2.2 h.1 = some (true, .inr (18, [.null, .null, .null, .null, .null, (vi 0)])) := g1H.2.2.1
  have g11 := g1H.1
  have g12 := g1H.2.1
  refine m_dup (y := yiJ4_addEntry) dJ4_addEntry_3 rfl ?_
  refine m_aload_n (y := yiJ4_addEntry) dJ4_addEntry_4 rfl ?_
  refine m_aload_n (y := yiJ4_addEntry) dJ4_addEntry_5 rfl ?_
  refine m_aload_n (y := yiJ4_addEntry) dJ4_addEntry_6 rfl ?_
  refine m_invI (y := yiJ4_addEntry) [(.ref q), (.ref v), (.ref p)] dJ4_addEntry_7 q1762 q1763 q166 q1764 rfl rfl (c_J33_init K 1 g1 h.1 q v (some p) (by omega) fg1) pdJ33_init ⟨Nat.le_of_ble_eq_true rfl, by decide, by omega⟩ (kk_v fun h7 q7 => ?_) kx_v
  obtain q7 := q7
  have y7 := q7.1
  have z7 := q7.2.1
  have fn := q7.2.2.1
  have hm : h7.2.2 m = some (true, .inr (17, [.null, .null, .null, (va_rf root), (vi sz), (vi mc), .null, .null, .null])) := (q7.2.2.2 _ (by omega)).trans hm
  have hcp : h7.2.2 p = some (true, .inr (18, [(.ref (ko p)), (va_rf (vl p)), (va_rf (lf p)), .null, (va_rf (pa p)), (vi (co p))])) := (q7.2.2.2 _ (by omega)).trans hcp
  have fR : ∀ b, (b < h.1 ∧ b ≠ p) → h7.2.2 b = h.2.2 b := fun b hb => (q7.2.2.2 b (by omega)).trans (fR b hb)
  refine mw_wf (fun hwf7 => ?_)
  have l_fn7 := hwf7 _ _ fn
  refine m_astore (y := yiJ4_addEntry) dJ4_addEntry_10 (by decide) rfl ?_
  show MW K yiJ4_addEntry d h7 12 [some (.ref m), some (.ref q), some (.ref v), some (.ref p), some (vi 0), some (.ref h.1)] [] Q
  refine j_iload (y := yiJ4_addEntry) dJ4_addEntry_12 rfl ?_
  refine j_if_eq (y := yiJ4_addEntry) 26 dJ4_addEntry_14 (by decide) ⟨by decide, by decide⟩ (fun _ => ?_) (fun c => absurd c (by decide))
  refine m_aload_n (y := yiJ4_addEntry) dJ4_addEntry_26 rfl ?_
  refine m_aload (y := yiJ4_addEntry) dJ4_addEntry_27 rfl ?_
  refine m_putfS (y := yiJ4_addEntry) kc_18 3 (by decide) dJ4_addEntry_29 q1771 rfl hcp rfl rfl (hp_put fun g2 g2H => ?_)
  have hm : g2.2.2 m = some (true, .inr (17, [.null, .null, .null, (va_rf root), (vi sz), (vi mc), .null, .null, .null])) := (g2H.2.2.2 _ (by omega)).trans hm
  have fn : g2.2.2 h.1 = some (true, .inr (18, [(.ref q), (.ref v), .null, .null, (.ref p), (vi 1)])) := (g2H.2.2.2 _ (by omega)).trans fn
  have fR : ∀ b, (b < h.1 ∧ b ≠ p) → g2.2.2 b = h.2.2 b := fun b hb => (g2H.2.2.2 b (by omega)).trans (fR b hb)
  have hcp : g2.2.2 p = some (true, .inr (18, [(.ref (ko p)), (va_rf (vl p)), (va_rf (lf p)), (.ref h.1), (va_rf (pa p)), (vi (co p))])) := g2H.2.2.1
  have g21 := g2H.1
  have g22 := g2H.2.1
  have hA : TmF g2 m (h.1 :: L) (upN ko h.1 q) (upo vl h.1 (some v)) _ _ _ _ root sz mc := hF.addR (p := p) (x := h.1) hp hxL (by omega) (hm.trans hF.1.symm) hcp fn (fun b hb n => fR b ⟨hLs b hb, n⟩)
  have hAI := hI.addR (x := h.1) hp hxL hl hk
  have hAB : ∀ r0, root = some r0 → upI co h.1 1 r0 = 1 ∨ r0 = h.1 := fun r0 e9 => Or.inl ((upI_ne (fun e8 => hxL (by rw [← e8]; exact (hI.1.2.2.1 r0 e9).1))).trans (hB r0 e9))
  refine m_aload_n (y := yiJ4_addEntry) dJ4_addEntry_32 rfl ?_
  refine m_aload (y := yiJ4_addEntry) dJ4_addEntry_33 rfl ?_
  refine m_invV (y := yiJ4_addEntry) (rB := (RJ4, TJ4, 9)) [(.ref h.1)] dJ4_addEntry_35 hm rfl q1793 q1795 qs25 q128 q1796 rfl (c_J4_fixAfterInsertion (d := 1) h.1 (by omega) hA hAI List.mem_cons_self hAB) pdJ4_fixAfterInsertion ⟨Nat.le_of_ble_eq_true rfl, by decide, by omega⟩ (kk_v fun h35 q35 => ?_) kx_v
  obtain ⟨hU35, lfX, rtX, paX, coX, loX, hiX, roX, hF35, hI35, hB35⟩ := q35
  have y35 := hU35.1
  have z35 := hU35.2.1
  refine mw_wf (fun hwf35 => ?_)
  refine m_aload_n (y := yiJ4_addEntry) dJ4_addEntry_38 rfl ?_
  refine m_dup (y := yiJ4_addEntry) dJ4_addEntry_39 rfl ?_
  refine m_getfS (y := yiJ4_addEntry) kc_17 4 (by decide) dJ4_addEntry_40 q241 hF35.1 rfl ?_
  refine j_iconst (y := yiJ4_addEntry) dJ4_addEntry_43 ?_
  refine j_iadd (y := yiJ4_addEntry) dJ4_addEntry_44 ?_
  refine m_putfS (y := yiJ4_addEntry) kc_17 4 (by decide) dJ4_addEntry_45 q241 rfl hF35.1 rfl rfl (hp_put fun g3 g3H => ?_)
  have hFg3 := TmF.m4 hF35 g3H
  have hTg3 := TFr.putm (TFr.refl (L := h.1 :: L) (m := m) (h := h35)) g3H
  refine m_aload_n (y := yiJ4_addEntry) dJ4_addEntry_48 rfl ?_
  refine m_dup (y := yiJ4_addEntry) dJ4_addEntry_49 rfl ?_
  refine m_getfS (y := yiJ4_addEntry) kc_17 5 (by decide) dJ4_addEntry_50 q242 hFg3.1 rfl ?_
  refine j_iconst (y := yiJ4_addEntry) dJ4_addEntry_53 ?_
  refine j_iadd (y := yiJ4_addEntry) dJ4_addEntry_54 ?_
  refine m_putfS (y := yiJ4_addEntry) kc_17 5 (by decide) dJ4_addEntry_55 q242 rfl hFg3.1 rfl rfl (hp_put fun g4 g4H => ?_)
  have hFg4 := TmF.m5 hFg3 g4H
  have hTg4 := TFr.putm hTg3 g4H
  subst hQ; exact j_vret (y := yiJ4_addEntry) dJ4_addEntry_58 rfl (⟨⟨⟨by have a9 := (hTg4).1; omega, by have a9 := (hTg4).1; omega⟩, ⟨by have a9 := (hTg4).2.1; omega, by have a9 := (hTg4).2.1; omega⟩, fun b hb => ((hTg4).2.2 b ⟨fun h9 => (List.mem_cons.mp h9).elim (fun h8 => by omega) hb.2.1, hb.2.2⟩).trans ((hU35.2.2 b ⟨fun h9 => (List.mem_cons.mp h9).elim (fun h8 => by omega) hb.2.1, hb.2.2⟩).trans (fR b ⟨hb.1, fun h9 => hb.2.1 (by rw [h9]; exact hp)⟩))⟩, lfX, rtX, paX, coX, loX, hiX, roX, hFg4, hI35, hB35⟩)
theorem c_J4_compare_eq {q : Nat} {wq : Bool} {k : Int} (hd : 3 ≤ d) (hm : h.2.2 m = some (true, .inr (17, [.null, .null, .null, va_rf root, vi sz, vi mc, .null, .null, .null]))) (hq : h.2.2 q = some (wq, .inr (22, [vi k]))) (hk : In k) : Mt K yiJ4_compare d [.ref m, .ref q, .ref q] h (Rz fun r h' => h = h' ∧ cmI3 k k = r) := by
  refine mt_ofQ (by decide) (Nat.le_of_ble_eq_true rfl) (fun Q hQ => ?_)
  show MW K yiJ4_compare d h 0 [some (.ref m), some (.ref q), some (.ref q)] [] Q
  refine mw_wf (fun hwf => ?_)
  have l_hm := hwf _ _ hm
  have l_hq := hwf _ _ hq
  refine m_aload_n (y := yiJ4_compare) dJ4_compare_0 rfl ?_
  refine m_getfS (y := yiJ4_compare) kc_17 2 (by decide) dJ4_compare_1 q239 hm rfl ?_
  refine m_ifnonnull (y := yiJ4_compare) (x := none) 20 dJ4_compare_4 (by decide) (fun _ h9 => nomatch h9) (fun _ => ?_)
  refine m_aload_n (y := yiJ4_compare) dJ4_compare_7 rfl ?_
  refine m_cast (y := yiJ4_compare) dJ4_compare_8 hq rfl q1513 (Or.inr q1545) ?_
  refine m_aload_n (y := yiJ4_compare) dJ4_compare_11 rfl ?_
  refine m_invF (y := yiJ4_compare) (rB := (RJ25, TJ25, 1)) [(.ref q)] dJ4_compare_12 hq rfl q1515 q1517 q1516 rfl q1546 q1548 q1549 q1547 q1545 q151 q1550 ⟨by decide, by decide⟩ (by show _ = some 1; decide +kernel) (c_J25_compareTo K 2 h q q wq wq k k (by omega) hq hq hk hk) pdJ25_compareTo ⟨Nat.le_of_ble_eq_true rfl, by decide, by omega⟩ (kk_z fun r12 h12 q12 => ?_) kx_z
  obtain ⟨rfl, rfl⟩ := q12
  refine mw_top (x' := cmI3 k k) rfl ?_
  refine m_goto (y := yiJ4_compare) 31 dJ4_compare_17 (by decide) ?_
  subst hQ; exact j_iret (y := yiJ4_compare) dJ4_compare_31 rfl (⟨rfl, rfl⟩)
theorem c_J4_addEntryToEmptyMap {q v : Nat} {wq : Bool} {k : Int} (hd : 4 ≤ d) (hm : h.2.2 m = some (true, .inr (17, [.null, .null, .null, .null, vi 0, vi mc, .null, .null, .null]))) (hq : h.2.2 q = some (wq, .inr (22, [vi k]))) (hk : LO < k ∧ k < HI) (hi : In k) (hz : h.1 + 1 ≤ kC K ∧ h.2.1 + 6 ≤ kS K) : Mt K yiJ4_addEntryToEmptyMap d [.ref m, .ref q, .ref v] h (Rv fun h' => TAddQ h h' m [] key ko vl 0 mc LO HI k q v) := by
  have nmq : m ≠ q := ne_oo hm hq (by decide)
  refine mt_ofQ (by decide) (Nat.le_of_ble_eq_true rfl) (fun Q hQ => ?_)
  show MW K yiJ4_addEntryToEmptyMap d h 0 [some (.ref m), some (.ref q), some (.ref v)] [] Q
  refine mw_wf (fun hwf => ?_)
  have l_hm := hwf _ _ hm
  have l_hq := hwf _ _ hq
  have fR : ∀ b, (b < h.1 ∧ b ≠ m) → h.2.2 b = h.2.2 b := fun _ _ => rfl
  refine m_aload_n (y := yiJ4_addEntryToEmptyMap) dJ4_addEntryToEmptyMap_0 rfl ?_
  refine m_aload_n (y := yiJ4_addEntryToEmptyMap) dJ4_addEntryToEmptyMap_1 rfl ?_
  refine m_aload_n (y := yiJ4_addEntryToEmptyMap) dJ4_addEntryToEmptyMap_2 rfl ?_
  refine m_invV (y := yiJ4_addEntryToEmptyMap) (rB := (RJ4, TJ4, 9)) [(.ref q), (.ref q)] dJ4_addEntryToEmptyMap_3 hm rfl q1756 q1757 q1758 q128 q1759 rfl (c_J4_compare_eq (d := 3) (root := none) (by omega) hm hq hi) pdJ4_compare ⟨Nat.le_of_ble_eq_true rfl, by decide, by omega⟩ (kk_z fun r3 h3 q3 => ?_) kx_z
  obtain ⟨rfl, rfl⟩ := q3
  refine mw_top (x' := cmI3 k k) rfl ?_
  refine m_pop (y := yiJ4_addEntryToEmptyMap) dJ4_addEntryToEmptyMap_6 rfl ?_
  refine m_aload_n (y := yiJ4_addEntryToEmptyMap) dJ4_addEntryToEmptyMap_7 rfl ?_
  refine m_new (y := yiJ4_addEntryToEmptyMap) kc_18 6 dJ4_addEntryToEmptyMap_8 q1760 q1761 q166 _ rfl ⟨by omega, by omega⟩ (hp_new fun g1 g1H => ?_)
  have hm : g1.2.2 m = some (true, .inr (17, [.null, .null, .null, .null, (vi 0), (vi mc), .null, .null, .null])) := (g1H.2.2.2 _ (by omega)).trans hm
  have hq : g1.2.2 q = some (wq, .inr (22, [(vi k)])) := (g1H.2.2.2 _ (by omega)).trans hq
  have fR : ∀ b, (b < h.1 ∧ b ≠ m) → g1.2.2 b = h.2.2 b := fun b hb => (g1H.2.2.2 b (by omega)).trans (fR b hb)
  have fg1 : g1.2.2 h.1 = some (true, .inr (18, [.null, .null, .null, .null, .null, (vi 0)])) := g1H.2.2.1
  have g11 := g1H.1
  have g12 := g1H.2.1
  refine m_dup (y := yiJ4_addEntryToEmptyMap) dJ4_addEntryToEmptyMap_11 rfl ?_
  refine m_aload_n (y := yiJ4_addEntryToEmptyMap) dJ4_addEntryToEmptyMap_12 rfl ?_
  refine m_aload_n (y := yiJ4_addEntryToEmptyMap) dJ4_addEntryToEmptyMap_13 rfl ?_
  refine m_null (y := yiJ4_addEntryToEmptyMap) dJ4_addEntryToEmptyMap_14 ?_
  refine m_invI (y := yiJ4_addEntryToEmptyMap) [(.ref q), (.ref v), .null] dJ4_addEntryToEmptyMap_15 q1762 q1763 q166 q1764 rfl rfl (c_J33_init K 1 g1 h.1 q v none (by omega) fg1) pdJ33_init ⟨Nat.le_of_ble_eq_true rfl, by decide, by omega⟩ (kk_v fun h15 q15 => ?_) kx_v
  obtain q15 := q15
  have y15 := q15.1
  have z15 := q15.2.1
  have fn := q15.2.2.1
  have hm : h15.2.2 m = some (true, .inr (17, [.null, .null, .null, .null, (vi 0), (vi mc), .null, .null, .null])) := (q15.2.2.2 _ (by omega)).trans hm
  have hq : h15.2.2 q = some (wq, .inr (22, [(vi k)])) := (q15.2.2.2 _ (by omega)).trans hq
  have fR : ∀ b, (b < h.1 ∧ b ≠ m) → h15.2.2 b = h.2.2 b := fun b hb => (q15.2.2.2 b (by omega)).trans (fR b hb)
  refine mw_wf (fun hwf15 => ?_)
  have l_fn15 := hwf15 _ _ fn
  refine m_putfS (y := yiJ4_addEntryToEmptyMap) kc_17 3 (by decide) dJ4_addEntryToEmptyMap_18 q240 rfl hm rfl rfl (hp_put fun g2 g2H => ?_)
  have hq : g2.2.2 q = some (wq, .inr (22, [(vi k)])) := (g2H.2.2.2 _ (by omega)).trans hq
  have fn : g2.2.2 h.1 = some (true, .inr (18, [(.ref q), (.ref v), .null, .null, .null, (vi 1)])) := (g2H.2.2.2 _ (by omega)).trans fn
  have fR : ∀ b, (b < h.1 ∧ b ≠ m) → g2.2.2 b = h.2.2 b := fun b hb => (g2H.2.2.2 b (by omega)).trans (fR b hb)
  have hm : g2.2.2 m = some (true, .inr (17, [.null, .null, .null, (.ref h.1), (vi 0), (vi mc), .null, .null, .null])) := g2H.2.2.1
  have g21 := g2H.1
  have g22 := g2H.2.1
  refine m_aload_n (y := yiJ4_addEntryToEmptyMap) dJ4_addEntryToEmptyMap_21 rfl ?_
  refine j_iconst (y := yiJ4_addEntryToEmptyMap) dJ4_addEntryToEmptyMap_22 ?_
  refine m_putfS (y := yiJ4_addEntryToEmptyMap) kc_17 4 (by decide) dJ4_addEntryToEmptyMap_23 q241 rfl hm rfl rfl (hp_put fun g3 g3H => ?_)
  have hq : g3.2.2 q = some (wq, .inr (22, [(vi k)])) := (g3H.2.2.2 _ (by omega)).trans hq
  have fn : g3.2.2 h.1 = some (true, .inr (18, [(.ref q), (.ref v), .null, .null, .null, (vi 1)])) := (g3H.2.2.2 _ (by omega)).trans fn
  have fR : ∀ b, (b < h.1 ∧ b ≠ m) → g3.2.2 b = h.2.2 b := fun b hb => (g3H.2.2.2 b (by omega)).trans (fR b hb)
  have hm : g3.2.2 m = some (true, .inr (17, [.null, .null, .null, (.ref h.1), (vi 1), (vi mc), .null, .null, .null])) := g3H.2.2.1
  have g31 := g3H.1
  have g32 := g3H.2.1
  refine m_aload_n (y := yiJ4_addEntryToEmptyMap) dJ4_addEntryToEmptyMap_26 rfl ?_
  refine m_dup (y := yiJ4_addEntryToEmptyMap) dJ4_addEntryToEmptyMap_27 rfl ?_
  refine m_getfS (y := yiJ4_addEntryToEmptyMap) kc_17 5 (by decide) dJ4_addEntryToEmptyMap_28 q242 hm rfl ?_
  refine j_iconst (y := yiJ4_addEntryToEmptyMap) dJ4_addEntryToEmptyMap_31 ?_
  refine j_iadd (y := yiJ4_addEntryToEmptyMap) dJ4_addEntryToEmptyMap_32 ?_
  refine m_putfS (y := yiJ4_addEntryToEmptyMap) kc_17 5 (by decide) dJ4_addEntryToEmptyMap_33 q242 rfl hm rfl rfl (hp_put fun g4 g4H => ?_)
  have hq : g4.2.2 q = some (wq, .inr (22, [(vi k)])) := (g4H.2.2.2 _ (by omega)).trans hq
  have fn : g4.2.2 h.1 = some (true, .inr (18, [(.ref q), (.ref v), .null, .null, .null, (vi 1)])) := (g4H.2.2.2 _ (by omega)).trans fn
  have fR : ∀ b, (b < h.1 ∧ b ≠ m) → g4.2.2 b = h.2.2 b := fun b hb => (g4H.2.2.2 b (by omega)).trans (fR b hb)
  have hm : g4.2.2 m = some (true, .inr (17, [.null, .null, .null, (.ref h.1), (vi 1), (vi (mc + 1)), .null, .null, .null])) := g4H.2.2.1
  have g41 := g4H.1
  have g42 := g4H.2.1
  subst hQ; exact j_vret (y := yiJ4_addEntryToEmptyMap) dJ4_addEntryToEmptyMap_36 rfl (⟨⟨⟨by omega, by omega⟩, ⟨by omega, by omega⟩, fun b hb => fR b ⟨hb.1, hb.2.2⟩⟩, upo (fun _ => none) h.1 none, upo (fun _ => none) h.1 none, upo (fun _ => none) h.1 none, upI (fun _ => 0) h.1 1, _, _, some h.1, ⟨hm, fun b hb => by { have e := List.mem_singleton.mp hb; subst e; rw [show upN ko h.1 q h.1 = q from if_pos rfl, upo_at, upo_at, upI_at]; exact fn }, fun b hb => by { have e := List.mem_singleton.mp hb; subst e; rw [upI_at]; exact Or.inr rfl }⟩, TmI.one (lo := fun _ => 0) (hi := fun _ => 0) hk, fun r0 e => by { cases e; exact upI_at }⟩)
/-- what put leaves: another value at a key that is there, or an entry more -/
def PutQ (h h' : MH) (m : Nat) (L : List Nat) (key : Nat → Int) (ko : Nat → Nat) (vl : Nat → Option Nat) (sz mc LO HI k : Int) (q v : Nat) (r : Option Nat) : Prop := (∃ a, a ∈ L ∧ key a = k ∧ r = vl a ∧ TFr L m h h' ∧ ∃ (lf rt pa : Nat → Option Nat) (co lo hi : Nat → Int) (root : Option Nat), TmF h' m L ko (upo vl a (some v)) lf rt pa co root sz mc ∧ TmI L key lf rt pa lo hi root LO HI ∧ TmB co root) ∨ ((∀ a, a ∈ L → key a ≠ k) ∧ r = none ∧ TAddQ h h' m L key ko vl sz mc LO HI k q v)
theorem c_J4_put_2 {q v : Nat} {wq : Bool} {k : Int} (hd : 5 ≤ d) (hF : TmF h m L ko vl lf rt pa co root (L.length : Int) mc) (hK : TmK h L ko key) (hI : TmI L key lf rt pa lo hi root LO HI) (hB : TmB co root) (hb9 : -1000000 ≤ LO ∧ HI ≤ 1000000) (hq : h.2.2 q = some (wq, .inr (22, [vi k]))) (hk : LO < k ∧ k < HI) (hz : h.1 + 1 ≤ kC K ∧ h.2.1 + 6 ≤ kS K) : Mt K yiJ4_put_2 d [.ref m, .ref q, .ref v, vi 1] h (Rq fun r h' => PutQ h h' m L key ko vl (L.length : Int) mc LO HI k q v r) := by
  have hT : TFr L m h h := TFr.refl
  cases hro : root with
  | none =>
    have hL := hI.1.2.1.mp hro
    subst hL
    have hm := hF.1
    rw [hro] at hm
    refine mt_ofQ (by decide) (Nat.le_of_ble_eq_true rfl) (fun Q hQ => ?_)
    show MW K yiJ4_put_2 d h 0 [some (.ref m), some (.ref q), some (.ref v), some (vi 1), none, none, none, none, none, none] [] Q
    refine mw_wf (fun hwf => ?_)
    have l_hm := hwf _ _ hm
    have l_hq := hwf _ _ hq
    refine m_aload_n (y := yiJ4_put_2) dJ4_put_2_0 rfl ?_
    refine m_getfS (y := yiJ4_put_2) kc_17 3 (by decide) dJ4_put_2_1 q240 hm rfl ?_
    refine m_astoreN (y := yiJ4_put_2) dJ4_put_2_4 (by decide) rfl ?_
    show MW K yiJ4_put_2 d h 6 [some (.ref m), some (.ref q), some (.ref v), some (vi 1), some .null, none, none, none, none, none] [] Q
    refine m_aloadN (y := yiJ4_put_2) dJ4_put_2_6 rfl ?_
    refine m_ifnonnull (y := yiJ4_put_2) (x := none) 19 dJ4_put_2_8 (by decide) (fun _ h9 => nomatch h9) (fun _ => ?_)
    refine m_aload_n (y := yiJ4_put_2) dJ4_put_2_11 rfl ?_
    refine m_aload_n (y := yiJ4_put_2) dJ4_put_2_12 rfl ?_
    refine m_aload_n (y := yiJ4_put_2) dJ4_put_2_13 rfl ?_
    refine m_invV (y := yiJ4_put_2) (rB := (RJ4, TJ4, 9)) [(.ref q), (.ref v)] dJ4_put_2_14 hm rfl q1752 q1754 qs23 q128 q1755 rfl (c_J4_addEntryToEmptyMap (d := 4) (key := key) (ko := ko) (vl := vl) (LO := LO) (HI := HI) (by omega) hm hq hk ⟨by omega, by omega⟩ ⟨by omega, by omega⟩) pdJ4_addEntryToEmptyMap ⟨Nat.le_of_ble_eq_true rfl, by decide, by omega⟩ (kk_v fun h14 q14 => ?_) kx_v
    obtain q14 := q14
    refine mw_wf (fun hwf14 => ?_)
    refine m_null (y := yiJ4_put_2) dJ4_put_2_17 ?_
    subst hQ; exact m_aret (y := yiJ4_put_2) (x := none) dJ4_put_2_18 rfl (Or.inl ⟨_, rfl⟩) ⟨none, rfl, Or.inr ⟨fun a h9 => (nomatch h9), rfl, q14⟩⟩
  | some r0 =>
    have hr9 := hI.1.2.2.1 r0 hro
    refine mt_ofQ (by decide) (Nat.le_of_ble_eq_true rfl) (fun Q hQ => ?_)
    show MW K yiJ4_put_2 d h 0 [some (.ref m), some (.ref q), some (.ref v), some (vi 1), none, none, none, none, none, none] [] Q
    refine mw_wf (fun hwf => ?_)
    have l_hq := hwf _ _ hq
    refine m_aload_n (y := yiJ4_put_2) dJ4_put_2_0 rfl ?_
    refine m_getfS (y := yiJ4_put_2) kc_17 3 (by decide) dJ4_put_2_1 q240 hF.1 rfl ?_
    refine mw_topv (v' := .ref r0) (congrArg va_rf (hro)) ?_
    refine m_astore (y := yiJ4_put_2) dJ4_put_2_4 (by decide) rfl ?_
    show MW K yiJ4_put_2 d h 6 [some (.ref m), some (.ref q), some (.ref v), some (vi 1), some (.ref r0), none, none, none, none, none] [] Q
    refine m_aload (y := yiJ4_put_2) dJ4_put_2_6 rfl ?_
    refine m_ifnonnull (y := yiJ4_put_2) (x := (some r0)) 19 dJ4_put_2_8 (by decide) (fun _ _ => ?_) (fun h9 => nomatch h9)
    refine m_aload_n (y := yiJ4_put_2) dJ4_put_2_19 rfl ?_
    refine m_getfS (y := yiJ4_put_2) kc_17 2 (by decide) dJ4_put_2_20 q239 hF.1 rfl ?_
    refine m_astoreN (y := yiJ4_put_2) dJ4_put_2_23 (by decide) rfl ?_
    show MW K yiJ4_put_2 d h 25 [some (.ref m), some (.ref q), some (.ref v), some (vi 1), some (.ref r0), none, none, some .null, none, none] [] Q
    refine m_aloadN (y := yiJ4_put_2) dJ4_put_2_25 rfl ?_
    refine m_ifnull (y := yiJ4_put_2) (x := none) 112 dJ4_put_2_27 (by decide) (fun _ => ?_) (fun _ h9 => nomatch h9)
    refine m_aload_n (y := yiJ4_put_2) dJ4_put_2_112 rfl ?_
    refine m_invS (y := yiJ4_put_2) [(.ref q)] dJ4_put_2_113 q1510 q1511 q147 q1512 (c_J21_requireNonNull K 0 h q) pdJ21_requireNonNull ⟨Nat.le_of_ble_eq_true rfl, by decide, by omega⟩ (kk_r fun r113 h113 q113 => ?_) kx_r
    obtain ⟨rfl, rfl⟩ := q113
    refine m_pop (y := yiJ4_put_2) dJ4_put_2_116 rfl ?_
    refine m_aload_n (y := yiJ4_put_2) dJ4_put_2_117 rfl ?_
    refine m_cast (y := yiJ4_put_2) dJ4_put_2_118 hq rfl q1513 (Or.inr q1545) ?_
    refine m_astore (y := yiJ4_put_2) dJ4_put_2_121 (by decide) rfl ?_
    show MW K yiJ4_put_2 d h 123 [some (.ref m), some (.ref q), some (.ref v), some (vi 1), some (.ref r0), none, none, some .null, some (.ref q), none] [] Q
    have L123 : ∀ (N : Nat) (x : Nat), (hi x - lo x).toNat = N → (x ∈ L) → (lo x < k ∧ k < hi x) → MW K yiJ4_put_2 d h 123 [some (.ref m), some (.ref q), some (.ref v), some (vi 1), some (.ref x), none, none, some .null, some (.ref q), none] [] Q := by
      intro N
      induction N using Nat.strongRecOn with
      | _ N ih123 =>
      intro x hN123 hx hx2
      obtain ⟨wk, hkn9⟩ := hK x hx
      have bx := hI.1.bd hx
      refine m_aload (y := yiJ4_put_2) dJ4_put_2_123 rfl ?_
      refine m_astore (y := yiJ4_put_2) dJ4_put_2_125 (by decide) rfl ?_
      show MW K yiJ4_put_2 d h 127 [some (.ref m), some (.ref q), some (.ref v), some (vi 1), some (.ref x), none, some (.ref x), some .null, some (.ref q), none] [] Q
      refine m_aload (y := yiJ4_put_2) dJ4_put_2_127 rfl ?_
      refine m_aload (y := yiJ4_put_2) dJ4_put_2_129 rfl ?_
      refine m_getfS (y := yiJ4_put_2) kc_18 0 (by decide) dJ4_put_2_131 q1767 (hF.2.1 x (by assumption)) rfl ?_
      have hkn : h.2.2 (ko x) = some (wk, .inr (22, [(vi (key x))])) := hkn9
      have l_hkn := hwf _ _ hkn
      refine m_invF (y := yiJ4_put_2) (rB := (RJ25, TJ25, 1)) [(.ref (ko x))] dJ4_put_2_134 hq rfl q1515 q1517 q1516 rfl q1546 q1548 q1549 q1547 q1545 q151 q1550 ⟨by decide, by decide⟩ (by show _ = some 1; decide +kernel) (c_J25_compareTo K 2 h q (ko x) wq wk k (key x) (by omega) hq hkn ⟨by omega, by omega⟩ ⟨by omega, by omega⟩) pdJ25_compareTo ⟨Nat.le_of_ble_eq_true rfl, by decide, by omega⟩ (kk_z fun r134 h134 q134 => ?_) kx_z
      obtain ⟨rfl, rfl⟩ := q134
      refine mw_top (x' := cmI3 k (key x)) rfl ?_
      have cs := cmI3_s k (key x)
      refine j_istore (y := yiJ4_put_2) [some (.ref m), some (.ref q), some (.ref v), some (vi 1), some (.ref x), some (vi (cmI3 k (key x))), some (.ref x), some .null, some (.ref q), none] dJ4_put_2_139 (by decide) rfl rfl ?_
      refine j_iload (y := yiJ4_put_2) dJ4_put_2_141 rfl ?_
      refine j_if_ge (y := yiJ4_put_2) 156 dJ4_put_2_143 (by decide) ⟨by omega, by omega⟩ (fun c143 => ?_) (fun c143 => ?_)
      · refine j_iload (y := yiJ4_put_2) dJ4_put_2_156 rfl ?_
        refine j_if_le (y := yiJ4_put_2) 171 dJ4_put_2_158 (by decide) ⟨by omega, by omega⟩ (fun c158 => ?_) (fun c158 => ?_)
        · refine m_aload (y := yiJ4_put_2) dJ4_put_2_171 rfl ?_
          refine m_getfS (y := yiJ4_put_2) kc_18 1 (by decide) dJ4_put_2_173 q1769 (hF.2.1 x (by assumption)) rfl ?_
          refine m_astoreq (y := yiJ4_put_2) dJ4_put_2_176 (by decide) rfl ?_
          show MW K yiJ4_put_2 d h 178 [some (.ref m), some (.ref q), some (.ref v), some (vi 1), some (.ref x), some (vi (cmI3 k (key x))), some (.ref x), some .null, some (.ref q), some (va_rf (vl x))] [] Q
          refine j_iload_n (y := yiJ4_put_2) dJ4_put_2_178 rfl ?_
          refine j_if_ne (y := yiJ4_put_2) 187 dJ4_put_2_179 (by decide) ⟨by decide, by decide⟩ (fun _ => ?_) (fun c => absurd c (by decide))
          refine m_aload (y := yiJ4_put_2) dJ4_put_2_187 rfl ?_
          refine m_aload_n (y := yiJ4_put_2) dJ4_put_2_189 rfl ?_
          refine m_putfS (y := yiJ4_put_2) kc_18 1 (by decide) dJ4_put_2_190 q1769 rfl (hF.2.1 x (by assumption)) rfl rfl (hp_put fun g1 g1H => ?_)
          have hFg1 := TmF.p1 (v := (some v)) hF (by assumption) g1H
          have hTg1 := TFr.put hT (by assumption) g1H
          refine m_aloadq (y := yiJ4_put_2) dJ4_put_2_193 rfl ?_
          subst hQ; exact m_aret (y := yiJ4_put_2) (x := (vl x)) dJ4_put_2_195 rfl (Or.inl ⟨_, rfl⟩) ⟨(vl x), rfl, Or.inl ⟨x, hx, by omega, rfl, hTg1, lf, rt, pa, co, lo, hi, root, hFg1, hI, hB⟩⟩
        · refine m_aload (y := yiJ4_put_2) dJ4_put_2_161 rfl ?_
          refine m_getfS (y := yiJ4_put_2) kc_18 3 (by decide) dJ4_put_2_163 q1771 (hF.2.1 x (by assumption)) rfl ?_
          refine m_astoreq (y := yiJ4_put_2) dJ4_put_2_166 (by decide) rfl ?_
          show MW K yiJ4_put_2 d h 168 [some (.ref m), some (.ref q), some (.ref v), some (vi 1), some (va_rf (rt x)), some (vi (cmI3 k (key x))), some (.ref x), some .null, some (.ref q), none] [] Q
          refine m_goto (y := yiJ4_put_2) 196 dJ4_put_2_168 (by decide) ?_
          refine m_aloadq (y := yiJ4_put_2) dJ4_put_2_196 rfl ?_
          refine m_ifnonnull (y := yiJ4_put_2) 123 dJ4_put_2_198 (by decide) (fun a198 c198 => ?_) (fun c198 => ?_)
          · refine mw_forget 5 ?_
            refine mw_forget 6 ?_
            first | rw [c198]
            exact ih123 _ (by first | (have z9 := hI.1.2.2.2.2.1 x a198 hx c198; have b9 := hI.1.bd z9.1; omega) | (have z9 := hI.1.2.2.2.2.2.1 x a198 hx c198; have b9 := hI.1.bd z9.1; omega)) a198 rfl (by first | exact (hI.1.2.2.2.2.1 x a198 hx c198).1 | exact (hI.1.2.2.2.2.2.1 x a198 hx c198).1) (by first | (have z9 := hI.1.2.2.2.2.1 x a198 hx c198; omega) | (have z9 := hI.1.2.2.2.2.2.1 x a198 hx c198; omega))
          · refine m_aload_n (y := yiJ4_put_2) dJ4_put_2_201 rfl ?_
            refine m_aload_n (y := yiJ4_put_2) dJ4_put_2_202 rfl ?_
            refine m_aload_n (y := yiJ4_put_2) dJ4_put_2_203 rfl ?_
            refine m_aload (y := yiJ4_put_2) dJ4_put_2_204 rfl ?_
            refine j_iload (y := yiJ4_put_2) dJ4_put_2_206 rfl ?_
            refine j_if_ge (y := yiJ4_put_2) 215 dJ4_put_2_208 (by decide) ⟨by omega, by omega⟩ (fun c208 => ?_) (fun c208 => False.elim (by omega))
            refine j_iconst (y := yiJ4_put_2) dJ4_put_2_215 ?_
            refine m_invV (y := yiJ4_put_2) (rB := (RJ4, TJ4, 9)) [(.ref q), (.ref v), (.ref x), (vi 0)] dJ4_put_2_216 hF.1 rfl q1789 q1791 qs24 q128 q1792 rfl (c_J4_addEntryR (p := x) (k := k) (d := 2) (by omega) hF hI hB hx c198 (⟨by omega, by omega⟩) ⟨by omega, by omega⟩) pdJ4_addEntry ⟨Nat.le_of_ble_eq_true rfl, by decide, by omega⟩ (kk_v fun h216 q216 => ?_) kx_v
            obtain q216 := q216
            refine mw_wf (fun hwf216 => ?_)
            refine m_null (y := yiJ4_put_2) dJ4_put_2_219 ?_
            subst hQ; exact m_aret (y := yiJ4_put_2) (x := none) dJ4_put_2_220 rfl (Or.inl ⟨_, rfl⟩) ⟨none, rfl, Or.inr ⟨(fun a ha e => by { exact hI.1.2.2.2.2.2.2.2.2.2.1 x a hx ha (by omega) (by omega) c198 }), rfl, q216⟩⟩
      · refine m_aload (y := yiJ4_put_2) dJ4_put_2_146 rfl ?_
        refine m_getfS (y := yiJ4_put_2) kc_18 2 (by decide) dJ4_put_2_148 q1770 (hF.2.1 x (by assumption)) rfl ?_
        refine m_astoreq (y := yiJ4_put_2) dJ4_put_2_151 (by decide) rfl ?_
        show MW K yiJ4_put_2 d h 153 [some (.ref m), some (.ref q), some (.ref v), some (vi 1), some (va_rf (lf x)), some (vi (cmI3 k (key x))), some (.ref x), some .null, some (.ref q), none] [] Q
        refine m_goto (y := yiJ4_put_2) 196 dJ4_put_2_153 (by decide) ?_
        refine m_aloadq (y := yiJ4_put_2) dJ4_put_2_196 rfl ?_
        refine m_ifnonnull (y := yiJ4_put_2) 123 dJ4_put_2_198 (by decide) (fun a198 c198 => ?_) (fun c198 => ?_)
        · refine mw_forget 5 ?_
          refine mw_forget 6 ?_
          first | rw [c198]
          exact ih123 _ (by first | (have z9 := hI.1.2.2.2.2.1 x a198 hx c198; have b9 := hI.1.bd z9.1; omega) | (have z9 := hI.1.2.2.2.2.2.1 x a198 hx c198; have b9 := hI.1.bd z9.1; omega)) a198 rfl (by first | exact (hI.1.2.2.2.2.1 x a198 hx c198).1 | exact (hI.1.2.2.2.2.2.1 x a198 hx c198).1) (by first | (have z9 := hI.1.2.2.2.2.1 x a198 hx c198; omega) | (have z9 := hI.1.2.2.2.2.2.1 x a198 hx c198; omega))
        · refine m_aload_n (y := yiJ4_put_2) dJ4_put_2_201 rfl ?_
          refine m_aload_n (y := yiJ4_put_2) dJ4_put_2_202 rfl ?_
          refine m_aload_n (y := yiJ4_put_2) dJ4_put_2_203 rfl ?_
          refine m_aload (y := yiJ4_put_2) dJ4_put_2_204 rfl ?_
          refine j_iload (y := yiJ4_put_2) dJ4_put_2_206 rfl ?_
          refine j_if_ge (y := yiJ4_put_2) 215 dJ4_put_2_208 (by decide) ⟨by omega, by omega⟩ (fun c208 => False.elim (by omega)) (fun c208 => ?_)
          refine j_iconst (y := yiJ4_put_2) dJ4_put_2_211 ?_
          refine m_goto (y := yiJ4_put_2) 216 dJ4_put_2_212 (by decide) ?_
          refine m_invV (y := yiJ4_put_2) (rB := (RJ4, TJ4, 9)) [(.ref q), (.ref v), (.ref x), (vi 1)] dJ4_put_2_216 hF.1 rfl q1789 q1791 qs24 q128 q1792 rfl (c_J4_addEntryL (p := x) (k := k) (d := 2) (by omega) hF hI hB hx c198 (⟨by omega, by omega⟩) ⟨by omega, by omega⟩) pdJ4_addEntry ⟨Nat.le_of_ble_eq_true rfl, by decide, by omega⟩ (kk_v fun h216 q216 => ?_) kx_v
          obtain q216 := q216
          refine mw_wf (fun hwf216 => ?_)
          refine m_null (y := yiJ4_put_2) dJ4_put_2_219 ?_
          subst hQ; exact m_aret (y := yiJ4_put_2) (x := none) dJ4_put_2_220 rfl (Or.inl ⟨_, rfl⟩) ⟨none, rfl, Or.inr ⟨(fun a ha e => by { exact hI.1.2.2.2.2.2.2.2.2.1 x a hx ha (by omega) (by omega) c198 }), rfl, q216⟩⟩
    exact L123 _ r0 rfl hr9.1 (⟨by omega, by omega⟩)
theorem c_J4_put {q v : Nat} {wq : Bool} {k : Int} (hd : 6 ≤ d) (hF : TmF h m L ko vl lf rt pa co root (L.length : Int) mc) (hK : TmK h L ko key) (hI : TmI L key lf rt pa lo hi root LO HI) (hB : TmB co root) (hb9 : -1000000 ≤ LO ∧ HI ≤ 1000000) (hq : h.2.2 q = some (wq, .inr (22, [vi k]))) (hk : LO < k ∧ k < HI) (hz : h.1 + 1 ≤ kC K ∧ h.2.1 + 6 ≤ kS K) : Mt K yiJ4_put d [.ref m, .ref q, .ref v] h (Rq fun r h' => PutQ h h' m L key ko vl (L.length : Int) mc LO HI k q v r) := by
  have hm := hF.1
  refine mt_ofQ (by decide) (Nat.le_of_ble_eq_true rfl) (fun Q hQ => ?_)
  show MW K yiJ4_put d h 0 [some (.ref m), some (.ref q), some (.ref v)] [] Q
  refine mw_wf (fun hwf => ?_)
  have l_hm := hwf _ _ hm
  refine m_aload_n (y := yiJ4_put) dJ4_put_0 rfl ?_
  refine m_aload_n (y := yiJ4_put) dJ4_put_1 rfl ?_
  refine m_aload_n (y := yiJ4_put) dJ4_put_2 rfl ?_
  refine j_iconst (y := yiJ4_put) dJ4_put_3 ?_
  refine m_invV (y := yiJ4_put) (rB := (RJ4, TJ4, 9)) [(.ref q), (.ref v), (vi 1)] dJ4_put_4 hm rfl q1748 q1750 qs22 q128 q1751 rfl (c_J4_put_2 (d := 5) (by omega) hF hK hI hB hb9 hq hk hz) pdJ4_put_2 ⟨Nat.le_of_ble_eq_true rfl, by decide, by omega⟩ (kk_q fun r4 h4 q4 => ?_) kx_q
  obtain q4 := q4
  refine mw_wf (fun hwf4 => ?_)
  subst hQ; exact m_aret (y := yiJ4_put) (x := r4) dJ4_put_7 rfl (Or.inl ⟨_, rfl⟩) ⟨r4, rfl, q4⟩
theorem c_J4_remove {q : Nat} {wq : Bool} {k : Int} (hd : 4 ≤ d) (hF : TmF h m L ko vl lf rt pa co root (L.length : Int) mc) (hK : TmK h L ko key) (hI : TmI L key lf rt pa lo hi root LO HI) (hB : TmB co root) (hb9 : -1000000 ≤ LO ∧ HI ≤ 1000000) (hq : h.2.2 q = some (wq, .inr (22, [vi k]))) (hk : LO < k ∧ k < HI) : Mt K yiJ4_remove d [.ref m, .ref q] h (Rq fun r h' => (∃ a, a ∈ L ∧ key a = k ∧ r = vl a ∧ DelQ h h' m L key ko vl (L.length : Int) mc LO HI a) ∨ (r = none ∧ h = h' ∧ ∀ a, a ∈ L → key a ≠ k)) := by
  have hm := hF.1
  refine mt_ofQ (by decide) (Nat.le_of_ble_eq_true rfl) (fun Q hQ => ?_)
  show MW K yiJ4_remove d h 0 [some (.ref m), some (.ref q), none, none] [] Q
  refine mw_wf (fun hwf => ?_)
  refine m_aload_n (y := yiJ4_remove) dJ4_remove_0 rfl ?_
  refine m_aload_n (y := yiJ4_remove) dJ4_remove_1 rfl ?_
  refine m_invV (y := yiJ4_remove) (rB := (RJ4, TJ4, 9)) [(.ref q)] dJ4_remove_2 hF.1 rfl q1498 q1499 q1500 q128 q1501 rfl (c_J4_getEntry K 3 h m q L ko key vl lf rt pa co lo hi root mc LO HI k (by omega) hF.C hK hI.1 hb9 ⟨wq, hq⟩ hk) pdJ4_getEntry ⟨Nat.le_of_ble_eq_true rfl, by decide, by omega⟩ (kk_q fun r2 h2 q2 => ?_) kx_q
  obtain ⟨rfl, e2⟩ := q2
  refine m_astore_nq (y := yiJ4_remove) dJ4_remove_5 (by decide) rfl ?_
  show MW K yiJ4_remove d h 6 [some (.ref m), some (.ref q), some (va_rf r2), none] [] Q
  refine m_aload_nq (y := yiJ4_remove) dJ4_remove_6 rfl ?_
  refine m_ifnonnull (y := yiJ4_remove) 12 dJ4_remove_7 (by decide) (fun a7 c7 => ?_) (fun c7 => ?_)
  · subst c7
    obtain ⟨haL, hak⟩ : a7 ∈ L ∧ key a7 = k := by { rcases e2 with ⟨a, h9, h8⟩ | h9; { cases h9; exact h8 }; { cases h9.1 } }
    refine m_aload_n (y := yiJ4_remove) dJ4_remove_12 rfl ?_
    refine m_getfS (y := yiJ4_remove) kc_18 1 (by decide) dJ4_remove_13 q1769 (hF.2.1 a7 (by assumption)) rfl ?_
    refine m_astore_nq (y := yiJ4_remove) dJ4_remove_16 (by decide) rfl ?_
    show MW K yiJ4_remove d h 17 [some (.ref m), some (.ref q), some (.ref a7), some (va_rf (vl a7))] [] Q
    refine m_aload_n (y := yiJ4_remove) dJ4_remove_17 rfl ?_
    refine m_aload_n (y := yiJ4_remove) dJ4_remove_18 rfl ?_
    refine m_invV (y := yiJ4_remove) (rB := (RJ4, TJ4, 9)) [(.ref a7)] dJ4_remove_19 hF.1 rfl q1824 q1826 qs28 q128 q1827 rfl (c_J4_deleteEntry (d := 3) (p := a7) (by omega) hF hI haL hB) pdJ4_deleteEntry ⟨Nat.le_of_ble_eq_true rfl, by decide, by omega⟩ (kk_v fun h19 q19 => ?_) kx_v
    obtain q19 := q19
    refine mw_wf (fun hwf19 => ?_)
    refine m_aload_nq (y := yiJ4_remove) dJ4_remove_22 rfl ?_
    subst hQ; exact m_aret (y := yiJ4_remove) (x := (vl a7)) dJ4_remove_23 rfl (Or.inl ⟨_, rfl⟩) ⟨(vl a7), rfl, Or.inl ⟨a7, haL, hak, rfl, q19⟩⟩
  · subst c7
    refine m_null (y := yiJ4_remove) dJ4_remove_10 ?_
    subst hQ; exact m_aret (y := yiJ4_remove) (x := none) dJ4_remove_11 rfl (Or.inl ⟨_, rfl⟩) ⟨none, rfl, Or.inr ⟨rfl, rfl, by { rcases e2 with ⟨a, h9, h8⟩ | h9; { cases h9 }; { exact h9.2 } }⟩⟩
end TREE
