/-! java.util.TreeMap: the shape of a tree, finding -/
/-- the shape: the entries L, their keys, links, and the bounds of the keys below each (ghosts) -/
def TmS (L : List Nat) (key : Nat → Int) (lf rt pa : Nat → Option Nat) (lo hi : Nat → Int) (root : Option Nat) (LO HI : Int) : Prop :=
  L.Nodup ∧ (root = none ↔ L = []) ∧ (∀ r, root = some r → r ∈ L ∧ pa r = none ∧ lo r = LO ∧ hi r = HI) ∧
  (∀ a, a ∈ L → lo a < key a ∧ key a < hi a ∧ LO ≤ lo a ∧ hi a ≤ HI) ∧
  (∀ a b, a ∈ L → lf a = some b → b ∈ L ∧ pa b = some a ∧ lo b = lo a ∧ hi b = key a) ∧
  (∀ a b, a ∈ L → rt a = some b → b ∈ L ∧ pa b = some a ∧ lo b = key a ∧ hi b = hi a) ∧
  (∀ a b, a ∈ L → pa a = some b → b ∈ L ∧ (lf b = some a ∨ rt b = some a)) ∧
  (∀ a, a ∈ L → pa a = none → root = some a) ∧
  (∀ a b, a ∈ L → b ∈ L → lo a < key b → key b < key a → lf a ≠ none) ∧
  (∀ a b, a ∈ L → b ∈ L → key a < key b → key b < hi a → rt a ≠ none) ∧
  ∀ a b, a ∈ L → b ∈ L → key a = key b → a = b
/-- the cells: the map m, its entries, their keys' Integers -/
def TmC (h : MH) (m : Nat) (L : List Nat) (ko : Nat → Nat) (vl lf rt pa : Nat → Option Nat) (co : Nat → Int) (root : Option Nat) (mc : Int) : Prop :=
  h.2.2 m = some (true, .inr (17, [.null, .null, .null, va_rf root, vi (L.length : Int), vi mc, .null, .null, .null])) ∧
  ∀ a, a ∈ L → h.2.2 a = some (true, .inr (18, [.ref (ko a), va_rf (vl a), va_rf (lf a), va_rf (rt a), va_rf (pa a), vi (co a)]))
def TmK (h : MH) (L : List Nat) (ko : Nat → Nat) (key : Nat → Int) : Prop := ∀ a, a ∈ L → IgA h (ko a) (key a)
theorem cmI3_s (x y : Int) : (cmI3 x y < 0 ↔ x < y) ∧ (cmI3 x y = 0 ↔ x = y) ∧ (0 < cmI3 x y ↔ y < x) ∧ -1 ≤ cmI3 x y ∧ cmI3 x y ≤ 1 := by
  unfold cmI3; split
  · omega
  · split <;> omega
theorem c_J21_requireNonNull (K : KT) (d : Nat) (h : MH) (q : Nat) : Mt K yiJ21_requireNonNull d [.ref q] h (Rr fun r h' => h = h' ∧ q = r) := by
  refine mt_ofQ (by decide) (Nat.le_of_ble_eq_true rfl) (fun Q hQ => ?_)
  show MW K yiJ21_requireNonNull d h 0 [some (.ref q)] [] Q
  refine mw_wf (fun hwf => ?_)
  refine m_aload_n (y := yiJ21_requireNonNull) dJ21_requireNonNull_0 rfl ?_
  refine m_ifnonnull (y := yiJ21_requireNonNull) (x := (some q)) 12 dJ21_requireNonNull_1 (by decide) (fun _ _ => ?_) (fun h9 => nomatch h9)
  refine m_aload_n (y := yiJ21_requireNonNull) dJ21_requireNonNull_12 rfl ?_
  subst hQ; exact m_aret (y := yiJ21_requireNonNull) (x := (some q)) dJ21_requireNonNull_13 rfl (Or.inl ⟨_, rfl⟩) ⟨q, rfl, ⟨rfl, rfl⟩⟩
theorem c_J4_getEntry (K : KT) (d : Nat) (h : MH) (m q : Nat) (L : List Nat) (ko : Nat → Nat) (key : Nat → Int) (vl lf rt pa : Nat → Option Nat) (co lo hi : Nat → Int) (root : Option Nat) (mc LO HI k : Int) (hd : 3 ≤ d) (hC : TmC h m L ko vl lf rt pa co root mc) (hK : TmK h L ko key) (hS : TmS L key lf rt pa lo hi root LO HI) (hb : -1000000 ≤ LO ∧ HI ≤ 1000000) (hq : IgA h q k) (hk : LO < k ∧ k < HI) : Mt K yiJ4_getEntry d [.ref m, .ref q] h (Rq fun r h' => h = h' ∧ ((∃ a, r = some a ∧ a ∈ L ∧ key a = k) ∨ (r = none ∧ ∀ a, a ∈ L → key a ≠ k))) := by
  obtain ⟨hm, hc⟩ := hC
  obtain ⟨wq, hq⟩ := hq
  obtain ⟨s1, s2, s3, s4, s5, s6, s7, s8, s9, s10, s11⟩ := hS
  refine mt_ofQ (by decide) (Nat.le_of_ble_eq_true rfl) (fun Q hQ => ?_)
  show MW K yiJ4_getEntry d h 0 [some (.ref m), some (.ref q), none, none, none] [] Q
  refine mw_wf (fun hwf => ?_)
  have l_hm := hwf _ _ hm
  have l_hq := hwf _ _ hq
  refine m_aload_n (y := yiJ4_getEntry) dJ4_getEntry_0 rfl ?_
  refine m_getfS (y := yiJ4_getEntry) kc_17 2 (by decide) dJ4_getEntry_1 q239 hm rfl ?_
  refine m_ifnull (y := yiJ4_getEntry) (x := none) 13 dJ4_getEntry_4 (by decide) (fun _ => ?_) (fun _ h9 => nomatch h9)
  refine m_aload_n (y := yiJ4_getEntry) dJ4_getEntry_13 rfl ?_
  refine m_invS (y := yiJ4_getEntry) [(.ref q)] dJ4_getEntry_14 q1510 q1511 q147 q1512 (c_J21_requireNonNull K 0 h q) pdJ21_requireNonNull ⟨Nat.le_of_ble_eq_true rfl, by decide, by omega⟩ (kk_r fun r14 h14 q14 => ?_) kx_r
  obtain ⟨rfl, rfl⟩ := q14
  refine m_pop (y := yiJ4_getEntry) dJ4_getEntry_17 rfl ?_
  refine m_aload_n (y := yiJ4_getEntry) dJ4_getEntry_18 rfl ?_
  refine m_cast (y := yiJ4_getEntry) dJ4_getEntry_19 hq rfl q1513 (Or.inr q1545) ?_
  refine m_astore_n (y := yiJ4_getEntry) dJ4_getEntry_22 (by decide) rfl ?_
  show MW K yiJ4_getEntry d h 23 [some (.ref m), some (.ref q), some (.ref q), none, none] [] Q
  refine m_aload_n (y := yiJ4_getEntry) dJ4_getEntry_23 rfl ?_
  refine m_getfS (y := yiJ4_getEntry) kc_17 3 (by decide) dJ4_getEntry_24 q240 hm rfl ?_
  refine m_astore_nq (y := yiJ4_getEntry) dJ4_getEntry_27 (by decide) rfl ?_
  show MW K yiJ4_getEntry d h 28 [some (.ref m), some (.ref q), some (.ref q), some (va_rf root), none] [] Q
  have L28 : ∀ (N : Nat) (p : Option Nat) (N0 : Nat), N0 = N → ((p = none ∧ ∀ a, a ∈ L → key a ≠ k) ∨ ∃ a, p = some a ∧ a ∈ L ∧ lo a < k ∧ k < hi a ∧ (hi a - lo a).toNat ≤ N0) → MW K yiJ4_getEntry d h 28 [some (.ref m), some (.ref q), some (.ref q), some (va_rf p), none] [] Q := by
    intro N
    induction N using Nat.strongRecOn with
    | _ N ih28 =>
    intro p N0 hN28 hp
    refine m_aload_nq (y := yiJ4_getEntry) dJ4_getEntry_28 rfl ?_
    refine m_ifnull (y := yiJ4_getEntry) 75 dJ4_getEntry_29 (by decide) (fun c29 => ?_) (fun a29 c29 => ?_)
    · subst c29
      refine m_null (y := yiJ4_getEntry) dJ4_getEntry_75 ?_
      subst hQ; exact m_aret (y := yiJ4_getEntry) (x := none) dJ4_getEntry_76 rfl (Or.inl ⟨_, rfl⟩) ⟨none, rfl, ⟨rfl, by { rcases hp with h9 | ⟨a, h9, -⟩; { exact Or.inr ⟨rfl, h9.2⟩ }; { cases h9 } }⟩⟩
    · subst c29
      obtain ⟨ha9, lo9, hi9, N9⟩ : a29 ∈ L ∧ lo a29 < k ∧ k < hi a29 ∧ (hi a29 - lo a29).toNat ≤ N0 := by { rcases hp with h9 | ⟨a, h9, ha9, h8⟩; { cases h9.1 }; { cases h9; exact ⟨ha9, h8⟩ } }
      obtain ⟨wk, hkn9⟩ := hK a29 ha9
      have b9 := s4 a29 ha9
      have hn : h.2.2 a29 = some (true, .inr (18, [(.ref (ko a29)), (va_rf (vl a29)), (va_rf (lf a29)), (va_rf (rt a29)), (va_rf (pa a29)), (vi (co a29))])) := by { rcases hp with h9 | ⟨a, h9, ha9, -⟩; { cases h9.1 }; { cases h9; exact hc _ ha9 } }
      have l_hn := hwf _ _ hn
      refine m_aload_n (y := yiJ4_getEntry) dJ4_getEntry_32 rfl ?_
      refine m_aload_n (y := yiJ4_getEntry) dJ4_getEntry_33 rfl ?_
      refine m_getfS (y := yiJ4_getEntry) kc_18 0 (by decide) dJ4_getEntry_34 q1767 hn rfl ?_
      have hkn : h.2.2 (ko a29) = some (wk, .inr (22, [(vi (key a29))])) := hkn9
      have l_hkn := hwf _ _ hkn
      refine m_invF (y := yiJ4_getEntry) (rB := (RJ25, TJ25, 1)) [(.ref (ko a29))] dJ4_getEntry_37 hq rfl q1515 q1517 q1516 rfl q1546 q1548 q1549 q1547 q1545 q151 q1550 ⟨by decide, by decide⟩ (by show _ = some 1; decide +kernel) (c_J25_compareTo K 2 h q (ko a29) wq wk k (key a29) (by omega) hq hkn ⟨by omega, by omega⟩ ⟨by omega, by omega⟩) pdJ25_compareTo ⟨Nat.le_of_ble_eq_true rfl, by decide, by omega⟩ (kk_z fun r37 h37 q37 => ?_) kx_z
      obtain ⟨rfl, rfl⟩ := q37
      refine mw_top (x' := cmI3 k (key a29)) rfl ?_
      have cs := cmI3_s k (key a29)
      refine j_istore (y := yiJ4_getEntry) [some (.ref m), some (.ref q), some (.ref q), some (.ref a29), some (vi (cmI3 k (key a29)))] dJ4_getEntry_42 (by decide) rfl rfl ?_
      refine j_iload (y := yiJ4_getEntry) dJ4_getEntry_44 rfl ?_
      refine j_if_ge (y := yiJ4_getEntry) 57 dJ4_getEntry_46 (by decide) ⟨by omega, by omega⟩ (fun c46 => ?_) (fun c46 => ?_)
      · refine j_iload (y := yiJ4_getEntry) dJ4_getEntry_57 rfl ?_
        refine j_if_le (y := yiJ4_getEntry) 70 dJ4_getEntry_59 (by decide) ⟨by omega, by omega⟩ (fun c59 => ?_) (fun c59 => ?_)
        · refine m_aload_n (y := yiJ4_getEntry) dJ4_getEntry_70 rfl ?_
          subst hQ; exact m_aret (y := yiJ4_getEntry) (x := (some a29)) dJ4_getEntry_71 rfl (Or.inl ⟨_, rfl⟩) ⟨(some a29), rfl, ⟨rfl, Or.inl ⟨a29, rfl, ha9, by omega⟩⟩⟩
        · refine m_aload_n (y := yiJ4_getEntry) dJ4_getEntry_62 rfl ?_
          refine m_getfS (y := yiJ4_getEntry) kc_18 3 (by decide) dJ4_getEntry_63 q1771 hn rfl ?_
          refine m_astore_nq (y := yiJ4_getEntry) dJ4_getEntry_66 (by decide) rfl ?_
          show MW K yiJ4_getEntry d h 67 [some (.ref m), some (.ref q), some (.ref q), some (va_rf (rt a29)), some (vi (cmI3 k (key a29)))] [] Q
          refine m_goto (y := yiJ4_getEntry) 72 dJ4_getEntry_67 (by decide) ?_
          refine m_goto (y := yiJ4_getEntry) 28 dJ4_getEntry_72 (by decide) ?_
          refine mw_forget 4 ?_
          exact ih28 _ (by omega) _ (N0 - 1) rfl (by first | (cases hl : lf a29 with | none => exact Or.inl ⟨rfl, fun b hb e => s9 a29 b ha9 hb (by omega) (by omega) hl⟩ | some b => (have z := s5 a29 b ha9 hl; exact Or.inr ⟨b, rfl, z.1, by omega, by omega, by omega⟩)) | (cases hl : rt a29 with | none => exact Or.inl ⟨rfl, fun b hb e => s10 a29 b ha9 hb (by omega) (by omega) hl⟩ | some b => (have z := s6 a29 b ha9 hl; exact Or.inr ⟨b, rfl, z.1, by omega, by omega, by omega⟩)))
      · refine m_aload_n (y := yiJ4_getEntry) dJ4_getEntry_49 rfl ?_
        refine m_getfS (y := yiJ4_getEntry) kc_18 2 (by decide) dJ4_getEntry_50 q1770 hn rfl ?_
        refine m_astore_nq (y := yiJ4_getEntry) dJ4_getEntry_53 (by decide) rfl ?_
        show MW K yiJ4_getEntry d h 54 [some (.ref m), some (.ref q), some (.ref q), some (va_rf (lf a29)), some (vi (cmI3 k (key a29)))] [] Q
        refine m_goto (y := yiJ4_getEntry) 72 dJ4_getEntry_54 (by decide) ?_
        refine m_goto (y := yiJ4_getEntry) 28 dJ4_getEntry_72 (by decide) ?_
        refine mw_forget 4 ?_
        exact ih28 _ (by omega) _ (N0 - 1) rfl (by first | (cases hl : lf a29 with | none => exact Or.inl ⟨rfl, fun b hb e => s9 a29 b ha9 hb (by omega) (by omega) hl⟩ | some b => (have z := s5 a29 b ha9 hl; exact Or.inr ⟨b, rfl, z.1, by omega, by omega, by omega⟩)) | (cases hl : rt a29 with | none => exact Or.inl ⟨rfl, fun b hb e => s10 a29 b ha9 hb (by omega) (by omega) hl⟩ | some b => (have z := s6 a29 b ha9 hl; exact Or.inr ⟨b, rfl, z.1, by omega, by omega, by omega⟩)))
  exact L28 _ root ((HI - LO).toNat) rfl (by { cases hr : root with | none => exact Or.inl ⟨rfl, fun a ha => by { rw [s2.mp hr] at ha; cases ha }⟩ | some r => (have z := s3 r hr; exact Or.inr ⟨r, rfl, z.1, by omega, by omega, by omega⟩) })
theorem c_J4_get (K : KT) (d : Nat) (h : MH) (m q : Nat) (L : List Nat) (ko : Nat → Nat) (key : Nat → Int) (vl lf rt pa : Nat → Option Nat) (co lo hi : Nat → Int) (root : Option Nat) (mc LO HI k : Int) (hd : 4 ≤ d) (hC : TmC h m L ko vl lf rt pa co root mc) (hK : TmK h L ko key) (hS : TmS L key lf rt pa lo hi root LO HI) (hb : -1000000 ≤ LO ∧ HI ≤ 1000000) (hq : IgA h q k) (hk : LO < k ∧ k < HI) : Mt K yiJ4_get d [.ref m, .ref q] h (Rq fun r h' => h = h' ∧ ((∃ a, r = vl a ∧ a ∈ L ∧ key a = k) ∨ (r = none ∧ ∀ a, a ∈ L → key a ≠ k))) := by
  have hm := hC.1
  have hc := hC.2
  refine mt_ofQ (by decide) (Nat.le_of_ble_eq_true rfl) (fun Q hQ => ?_)
  show MW K yiJ4_get d h 0 [some (.ref m), some (.ref q), none] [] Q
  refine mw_wf (fun hwf => ?_)
  have l_hm := hwf _ _ hm
  refine m_aload_n (y := yiJ4_get) dJ4_get_0 rfl ?_
  refine m_aload_n (y := yiJ4_get) dJ4_get_1 rfl ?_
  refine m_invV (y := yiJ4_get) (rB := (RJ4, TJ4, 9)) [(.ref q)] dJ4_get_2 hm rfl q1498 q1499 q1500 q128 q1501 rfl (c_J4_getEntry K 3 h m q L ko key vl lf rt pa co lo hi root mc LO HI k (by omega) hC hK hS hb hq hk) pdJ4_getEntry ⟨Nat.le_of_ble_eq_true rfl, by decide, by omega⟩ (kk_q fun r2 h2 q2 => ?_) kx_q
  obtain ⟨rfl, e2⟩ := q2
  refine m_astore_nq (y := yiJ4_get) dJ4_get_5 (by decide) rfl ?_
  show MW K yiJ4_get d h 6 [some (.ref m), some (.ref q), some (va_rf r2)] [] Q
  have J18 : ∀ (rr : Option Nat), ((∃ a, rr = vl a ∧ a ∈ L ∧ key a = k) ∨ (rr = none ∧ ∀ a, a ∈ L → key a ≠ k)) → MW K yiJ4_get d h 18 [some (.ref m), some (.ref q), none] [(va_rf rr)] Q := by
    intro rr hr
    subst hQ; exact m_aret (y := yiJ4_get) (x := rr) dJ4_get_18 rfl (Or.inl ⟨_, rfl⟩) ⟨rr, rfl, ⟨rfl, hr⟩⟩
  refine m_aload_nq (y := yiJ4_get) dJ4_get_6 rfl ?_
  refine m_ifnonnull (y := yiJ4_get) 14 dJ4_get_7 (by decide) (fun a7 c7 => ?_) (fun c7 => ?_)
  · subst c7
    refine m_aload_n (y := yiJ4_get) dJ4_get_14 rfl ?_
    have hn : h.2.2 a7 = some (true, .inr (18, [(.ref (ko a7)), (va_rf (vl a7)), (va_rf (lf a7)), (va_rf (rt a7)), (va_rf (pa a7)), (vi (co a7))])) := by { rcases e2 with ⟨a, h9, h8⟩ | h9; { cases h9; exact hc _ h8.1 }; { cases h9.1 } }
    have l_hn := hwf _ _ hn
    refine m_getfS (y := yiJ4_get) kc_18 1 (by decide) dJ4_get_15 q1769 hn rfl ?_
    refine mw_forget 2 ?_
    exact J18 _ (by first | (rcases e2 with ⟨a, h9, -⟩ | h9; { cases h9 }; { exact Or.inr ⟨rfl, h9.2⟩ }) | (rcases e2 with ⟨a, h9, h8⟩ | h9; { cases h9; exact Or.inl ⟨_, rfl, h8⟩ }; { cases h9.1 }))
  · subst c7
    refine m_null (y := yiJ4_get) dJ4_get_10 ?_
    refine m_goto (y := yiJ4_get) 18 dJ4_get_11 (by decide) ?_
    refine mw_forget 2 ?_
    exact J18 _ (by first | (rcases e2 with ⟨a, h9, -⟩ | h9; { cases h9 }; { exact Or.inr ⟨rfl, h9.2⟩ }) | (rcases e2 with ⟨a, h9, h8⟩ | h9; { cases h9; exact Or.inl ⟨_, rfl, h8⟩ }; { cases h9.1 }))
/-- the intervals of the keys below are nested -/
def TmL (L : List Nat) (key lo hi : Nat → Int) (LO HI : Int) : Prop := (∀ a, a ∈ L → lo a = LO ∨ ∃ c, c ∈ L ∧ lo a = key c ∧ hi a ≤ hi c) ∧ (∀ a, a ∈ L → hi a = HI ∨ ∃ c, c ∈ L ∧ hi a = key c ∧ lo c ≤ lo a) ∧ (∀ a b, a ∈ L → b ∈ L → lo a < key b → key b < key a → lo a ≤ lo b ∧ hi b ≤ key a) ∧ ∀ a b, a ∈ L → b ∈ L → key a < key b → key b < hi a → key a ≤ lo b ∧ hi b ≤ hi a
def TmI (L : List Nat) (key : Nat → Int) (lf rt pa : Nat → Option Nat) (lo hi : Nat → Int) (root : Option Nat) (LO HI : Int) : Prop := TmS L key lf rt pa lo hi root LO HI ∧ TmL L key lo hi LO HI
/-- the cells: the map m, its entries -/
def TmF (h : MH) (m : Nat) (L : List Nat) (ko : Nat → Nat) (vl lf rt pa : Nat → Option Nat) (co : Nat → Int) (root : Option Nat) (sz mc : Int) : Prop :=
  h.2.2 m = some (true, .inr (17, [.null, .null, .null, va_rf root, vi sz, vi mc, .null, .null, .null])) ∧
  (∀ a, a ∈ L → h.2.2 a = some (true, .inr (18, [.ref (ko a), va_rf (vl a), va_rf (lf a), va_rf (rt a), va_rf (pa a), vi (co a)]))) ∧ ∀ a, a ∈ L → co a = 0 ∨ co a = 1
theorem TmF.C {h : MH} {m : Nat} {L : List Nat} {ko : Nat → Nat} {vl lf rt pa : Nat → Option Nat} {co : Nat → Int} {root : Option Nat} {mc : Int} (H : TmF h m L ko vl lf rt pa co root (L.length : Int) mc) : TmC h m L ko vl lf rt pa co root mc := ⟨H.1, H.2.1⟩
/-- the root is black -/
def TmB (co : Nat → Int) (root : Option Nat) : Prop := ∀ r, root = some r → co r = 1
