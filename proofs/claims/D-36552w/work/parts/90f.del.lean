/-! java.util.TreeMap: successor, the last entry, an entry taken out -/
section TREE
variable {K : KT} {d : Nat} {h : MH} {m : Nat} {L : List Nat} {key : Nat → Int} {ko : Nat → Nat} {vl lf rt pa : Nat → Option Nat} {co lo hi : Nat → Int} {root : Option Nat} {sz mc LO HI : Int}
theorem c_J4_successor {p r : Nat} (hF : TmF h m L ko vl lf rt pa co root sz mc) (hI : TmI L key lf rt pa lo hi root LO HI) (hp : p ∈ L) (hr : rt p = some r) : Mt K yiJ4_successor d [.ref p] h (Rr fun s h' => h = h' ∧ (s ∈ L ∧ s ≠ p) ∧ lf s = none ∧ lo s = key p) := by
  have hr9 := hI.1.2.2.2.2.2.1 p r hp hr
  have bp := hI.1.bd hp
  refine mt_ofQ (by decide) (Nat.le_of_ble_eq_true rfl) (fun Q hQ => ?_)
  show MW K yiJ4_successor d h 0 [some (.ref p), none, none] [] Q
  refine mw_wf (fun hwf => ?_)
  refine m_aload_n (y := yiJ4_successor) dJ4_successor_0 rfl ?_
  refine m_ifnonnull (y := yiJ4_successor) (x := (some p)) 6 dJ4_successor_1 (by decide) (fun _ _ => ?_) (fun h9 => nomatch h9)
  refine m_aload_n (y := yiJ4_successor) dJ4_successor_6 rfl ?_
  refine m_getfS (y := yiJ4_successor) kc_18 3 (by decide) dJ4_successor_7 q1771 (hF.2.1 p (by assumption)) rfl ?_
  refine mw_topv (v' := .ref r) (congrArg va_rf (hr)) ?_
  refine m_ifnull (y := yiJ4_successor) (x := (some r)) 35 dJ4_successor_10 (by decide) (fun h9 => nomatch h9) (fun _ _ => ?_)
  refine m_aload_n (y := yiJ4_successor) dJ4_successor_13 rfl ?_
  refine m_getfS (y := yiJ4_successor) kc_18 3 (by decide) dJ4_successor_14 q1771 (hF.2.1 p (by assumption)) rfl ?_
  refine mw_topv (v' := .ref r) (congrArg va_rf (hr)) ?_
  refine m_astore_n (y := yiJ4_successor) dJ4_successor_17 (by decide) rfl ?_
  show MW K yiJ4_successor d h 18 [some (.ref p), some (.ref r), none] [] Q
  have L18 : ∀ (N : Nat) (x : Nat), (hi x - lo x).toNat = N → (x ∈ L) → (lo x = key p) → MW K yiJ4_successor d h 18 [some (.ref p), some (.ref x), none] [] Q := by
    intro N
    induction N using Nat.strongRecOn with
    | _ N ih18 =>
    intro x hN18 hx hx2
    have bx := hI.1.bd hx
    refine m_aload_n (y := yiJ4_successor) dJ4_successor_18 rfl ?_
    refine m_getfS (y := yiJ4_successor) kc_18 2 (by decide) dJ4_successor_19 q1770 (hF.2.1 x (by assumption)) rfl ?_
    refine m_ifnull (y := yiJ4_successor) 33 dJ4_successor_22 (by decide) (fun c22 => ?_) (fun a22 c22 => ?_)
    · refine m_aload_n (y := yiJ4_successor) dJ4_successor_33 rfl ?_
      subst hQ; exact m_aret (y := yiJ4_successor) (x := (some x)) dJ4_successor_34 rfl (Or.inl ⟨_, rfl⟩) ⟨x, rfl, ⟨rfl, ⟨hx, fun e => by { subst e; omega }⟩, c22, hx2⟩⟩
    · have hy := hI.1.2.2.2.2.1 x a22 hx c22
      have by9 := hI.1.bd hy.1
      refine m_aload_n (y := yiJ4_successor) dJ4_successor_25 rfl ?_
      refine m_getfS (y := yiJ4_successor) kc_18 2 (by decide) dJ4_successor_26 q1770 (hF.2.1 x (by assumption)) rfl ?_
      refine mw_topv (v' := .ref a22) (congrArg va_rf (c22)) ?_
      refine m_astore_n (y := yiJ4_successor) dJ4_successor_29 (by decide) rfl ?_
      show MW K yiJ4_successor d h 30 [some (.ref p), some (.ref a22), none] [] Q
      refine m_goto (y := yiJ4_successor) 18 dJ4_successor_30 (by decide) ?_
      exact ih18 _ (by omega) a22 rfl hy.1 (by omega)
  exact L18 _ r rfl hr9.1 hr9.2.2.1
theorem c_J4_getLastEntry {r : Nat} (hF : TmF h m L ko vl lf rt pa co root sz mc) (hI : TmI L key lf rt pa lo hi root LO HI) (hr : root = some r) : Mt K yiJ4_getLastEntry d [.ref m] h (Rr fun s h' => h = h' ∧ s ∈ L ∧ ∀ b, b ∈ L → key b ≤ key s) := by
  have hr9 := hI.1.2.2.1 r hr
  refine mt_ofQ (by decide) (Nat.le_of_ble_eq_true rfl) (fun Q hQ => ?_)
  show MW K yiJ4_getLastEntry d h 0 [some (.ref m), none] [] Q
  refine mw_wf (fun hwf => ?_)
  refine m_aload_n (y := yiJ4_getLastEntry) dJ4_getLastEntry_0 rfl ?_
  refine m_getfS (y := yiJ4_getLastEntry) kc_17 3 (by decide) dJ4_getLastEntry_1 q240 hF.1 rfl ?_
  refine mw_topv (v' := .ref r) (congrArg va_rf (hr)) ?_
  refine m_astore_n (y := yiJ4_getLastEntry) dJ4_getLastEntry_4 (by decide) rfl ?_
  show MW K yiJ4_getLastEntry d h 5 [some (.ref m), some (.ref r)] [] Q
  refine m_aload_n (y := yiJ4_getLastEntry) dJ4_getLastEntry_5 rfl ?_
  refine m_ifnull (y := yiJ4_getLastEntry) (x := (some r)) 24 dJ4_getLastEntry_6 (by decide) (fun h9 => nomatch h9) (fun _ _ => ?_)
  have L9 : ∀ (N : Nat) (x : Nat), (hi x - lo x).toNat = N → (x ∈ L) → (hi x = HI) → MW K yiJ4_getLastEntry d h 9 [some (.ref m), some (.ref x)] [] Q := by
    intro N
    induction N using Nat.strongRecOn with
    | _ N ih9 =>
    intro x hN9 hx hx2
    have bx := hI.1.bd hx
    refine m_aload_n (y := yiJ4_getLastEntry) dJ4_getLastEntry_9 rfl ?_
    refine m_getfS (y := yiJ4_getLastEntry) kc_18 3 (by decide) dJ4_getLastEntry_10 q1771 (hF.2.1 x (by assumption)) rfl ?_
    refine m_ifnull (y := yiJ4_getLastEntry) 24 dJ4_getLastEntry_13 (by decide) (fun c13 => ?_) (fun a13 c13 => ?_)
    · refine m_aload_n (y := yiJ4_getLastEntry) dJ4_getLastEntry_24 rfl ?_
      subst hQ; exact m_aret (y := yiJ4_getLastEntry) (x := (some x)) dJ4_getLastEntry_25 rfl (Or.inl ⟨_, rfl⟩) ⟨x, rfl, ⟨rfl, hx, fun b hb => by { have bb := hI.1.bd hb; by_cases e : key x < key b; { exact absurd c13 (hI.1.2.2.2.2.2.2.2.2.2.1 x b hx hb e (by omega)) }; { omega } }⟩⟩
    · have hy := hI.1.2.2.2.2.2.1 x a13 hx c13
      have by9 := hI.1.bd hy.1
      refine m_aload_n (y := yiJ4_getLastEntry) dJ4_getLastEntry_16 rfl ?_
      refine m_getfS (y := yiJ4_getLastEntry) kc_18 3 (by decide) dJ4_getLastEntry_17 q1771 (hF.2.1 x (by assumption)) rfl ?_
      refine mw_topv (v' := .ref a13) (congrArg va_rf (c13)) ?_
      refine m_astore_n (y := yiJ4_getLastEntry) dJ4_getLastEntry_20 (by decide) rfl ?_
      show MW K yiJ4_getLastEntry d h 21 [some (.ref m), some (.ref a13)] [] Q
      refine m_goto (y := yiJ4_getLastEntry) 9 dJ4_getLastEntry_21 (by decide) ?_
      exact ih9 _ (by omega) a13 rfl hy.1 (by omega)
  exact L9 _ r rfl hr9.1 hr9.2.2.2
theorem TmF.ext {L' : List Nat} {lf2 rt2 pa2 : Nat → Option Nat} {root2 : Option Nat} (H : TmF h m L ko vl lf rt pa co root sz mc) (hs : ∀ a, a ∈ L' → a ∈ L) (h1 : ∀ a, a ∈ L' → lf2 a = lf a) (h2 : ∀ a, a ∈ L' → rt2 a = rt a) (h3 : ∀ a, a ∈ L' → pa2 a = pa a) (h4 : root2 = root) : TmF h m L' ko vl lf2 rt2 pa2 co root2 sz mc := ⟨by rw [h4]; exact H.1, fun a ha => by rw [h1 a ha, h2 a ha, h3 a ha]; exact H.2.1 a (hs a ha), fun a ha => H.2.2 a (hs a ha)⟩
/-- which place goes: p's own, or that of the next key, whose key and value p then has -/
def DlC (L : List Nat) (key : Nat → Int) (ko : Nat → Nat) (vl lf : Nat → Option Nat) (lo : Nat → Int) (p c : Nat) (ko' : Nat → Nat) (vl' : Nat → Option Nat) : Prop := (c = p ∧ ko' = ko ∧ vl' = vl) ∨ (c ≠ p ∧ lf c = none ∧ lo c = key p ∧ ko' = upN ko p (ko c) ∧ vl' = upo vl p (vl c))
def keyE (key : Nat → Int) (p c : Nat) : Nat → Int := if c = p then key else upI key p (key c)
def DelQ (h h' : MH) (m : Nat) (L : List Nat) (key : Nat → Int) (ko : Nat → Nat) (vl : Nat → Option Nat) (sz mc LO HI : Int) (p : Nat) : Prop := TFr L m h h' ∧ ∃ (L' : List Nat) (key' : Nat → Int) (ko' : Nat → Nat) (vl' lf' rt' pa' : Nat → Option Nat) (co' lo' hi' : Nat → Int) (root' : Option Nat), TmF h' m L' ko' vl' lf' rt' pa' co' root' (sz - 1) (mc + 1) ∧ TmI L' key' lf' rt' pa' lo' hi' root' LO HI ∧ TmB co' root' ∧ (∀ a, a ∈ L' → a ∈ L) ∧ L'.length + 1 = L.length ∧ (∀ a, a ∈ L' → ∃ b, b ∈ L ∧ b ≠ p ∧ key' a = key b ∧ vl' a = vl b ∧ ko' a = ko b) ∧ ∀ b, b ∈ L → b ≠ p → ∃ a, a ∈ L' ∧ key' a = key b ∧ vl' a = vl b ∧ ko' a = ko b
theorem DelQ.mk {p c : Nat} {h' : MH} {ko' : Nat → Nat} {vl' lf' rt' pa' : Nat → Option Nat} {co' lo' hi' : Nat → Int} {root' : Option Nat} (hn : L.Nodup) (hp : p ∈ L) (hc : c ∈ L) (hD : DlC L key ko vl lf lo p c ko' vl') (hT : TFr L m h h') (hF : TmF h' m (L.erase c) ko' vl' lf' rt' pa' co' root' (sz - 1) (mc + 1)) (hI : TmI (L.erase c) (keyE key p c) lf' rt' pa' lo' hi' root' LO HI) (hB : TmB co' root') : DelQ h h' m L key ko vl sz mc LO HI p := by
  have mem : ∀ a, a ∈ L.erase c ↔ a ≠ c ∧ a ∈ L := fun a => hn.mem_erase_iff
  refine ⟨hT, _, _, _, _, _, _, _, _, _, _, _, hF, hI, hB, fun a ha => ((mem a).mp ha).2, ?_, ?_, ?_⟩
  · rw [List.length_erase_of_mem hc]
    have : 0 < L.length := List.length_pos_of_mem hc
    omega
  · intro a ha
    obtain ⟨a1, a2⟩ := (mem a).mp ha
    rcases hD with ⟨e1, e2, e3⟩ | ⟨e1, e2, e3, e4, e5⟩
    · subst e1; subst e2; subst e3
      exact ⟨a, a2, a1, by unfold keyE; rw [if_pos rfl], rfl, rfl⟩
    · subst e4; subst e5
      unfold keyE; rw [if_neg e1]
      by_cases e6 : a = p
      · subst e6; exact ⟨c, hc, e1, upI_at, upo_at, if_pos rfl⟩
      · exact ⟨a, a2, e6, upI_ne e6, upo_ne e6, if_neg e6⟩
  · intro b hb nb
    rcases hD with ⟨e1, e2, e3⟩ | ⟨e1, e2, e3, e4, e5⟩
    · subst e1; subst e2; subst e3
      exact ⟨b, (mem b).mpr ⟨nb, hb⟩, by unfold keyE; rw [if_pos rfl], rfl, rfl⟩
    · subst e4; subst e5
      unfold keyE; rw [if_neg e1]
      by_cases e6 : b = c
      · subst e6; exact ⟨p, (mem p).mpr ⟨fun e => e1 e.symm, hp⟩, upI_at, upo_at, if_pos rfl⟩
      · exact ⟨b, (mem b).mpr ⟨e6, hb⟩, upI_ne nb, upo_ne nb, if_neg nb⟩
/-- the keys behind it -/
theorem TmI.delE {p c : Nat} (H : TmI L key lf rt pa lo hi root LO HI) (hp : p ∈ L) (hc : c ∈ L) (hl : lf c = none) (hcp : c = p ∨ (c ≠ p ∧ lo c = key p)) : ∃ lo' hi' : Nat → Int, TmI (L.erase c) (keyE key p c) (dlA lf c (rt c)) (dlA rt c (rt c)) (dlP pa c (rt c)) lo' hi' (dlR root c (rt c)) LO HI := by
  have z := H.del hc hl
  have mem : ∀ a, a ∈ L.erase c ↔ a ≠ c ∧ a ∈ L := fun a => H.1.1.mem_erase_iff
  unfold keyE
  by_cases e : c = p
  · rw [if_pos e]; exact ⟨_, _, z⟩
  · rw [if_neg e]
    have e2 : lo c = key p := (hcp.resolve_left e).2
    have bc := H.1.bd hc
    have bp := H.1.bd hp
    have hhi : key c < hi p := by
      rcases H.2.1 c hc with h9 | ⟨q, q1, q2, q3⟩
      · omega
      · have := H.1.2.2.2.2.2.2.2.2.2.2 q p q1 hp (by omega)
        subst this; omega
    refine ⟨_, _, z.rekey ((mem p).mpr ⟨fun e9 => e e9.symm, hp⟩) ⟨by omega, hhi⟩ (fun b hb nb => ?_)⟩
    obtain ⟨b1, b2⟩ := (mem b).mp hb
    have k1 : key b ≠ key p := fun e9 => nb (H.1.2.2.2.2.2.2.2.2.2.2 b p b2 hp e9)
    have k2 : key b ≠ key c := fun e9 => b1 (H.1.2.2.2.2.2.2.2.2.2.2 b c b2 hc e9)
    by_cases e3 : key b < key p
    · exact Or.inl e3
    · by_cases e4 : key b < key c
      · exact absurd hl (H.1.2.2.2.2.2.2.2.2.1 c b hc b2 (by omega) e4)
      · exact Or.inr (by omega)
theorem dlA_p {c g : Nat} {rep : Option Nat} (H : ∀ a, a ∈ L → lf a = some c → a = g) (hg : lf g = some c) : ∀ a, a ∈ L → a ≠ c → dlA lf c rep a = upo (upo lf g rep) c none a := fun a ha n => by
  rw [upo_ne n]
  by_cases e : a = g
  · rw [e, upo_at, dlA_y hg]
  · rw [upo_ne e, dlA_n (fun e9 => e (H a ha e9))]
theorem dlA_q {c : Nat} {rep : Option Nat} (H : ∀ a, a ∈ L → lf a ≠ some c) : ∀ a, a ∈ L → a ≠ c → dlA lf c rep a = upo lf c none a := fun a ha n => by rw [upo_ne n, dlA_n (H a ha)]
theorem dlP_p {c r : Nat} : ∀ a, a ≠ c → dlP pa c (some r) a = upo (upo pa r (pa c)) c none a := fun a n => by
  rw [upo_ne n]
  by_cases e : a = r
  · rw [e, upo_at, dlP_y rfl]
  · rw [upo_ne e, dlP_n (fun e9 => e (Option.some.inj e9).symm)]
theorem dlP_o {c : Nat} : ∀ a, a ≠ c → dlP pa c none a = upo pa c none a := fun a n => by
  rw [upo_ne n, dlP_n (fun e9 => by cases e9)]
/-- who has c below -/
theorem TmS.who {c : Nat} (H : TmS L key lf rt pa lo hi root LO HI) (hc : c ∈ L) : (∀ a, a ∈ L → lf a = some c → pa c = some a) ∧ (∀ a, a ∈ L → rt a = some c → pa c = some a) ∧ (∀ g, pa c = some g → g ∈ L ∧ g ≠ c ∧ ((lf g = some c ∧ ∀ a, a ∈ L → rt a ≠ some c) ∨ (rt g = some c ∧ lf g ≠ some c ∧ ∀ a, a ∈ L → lf a ≠ some c))) := by
  have w1 : ∀ a, a ∈ L → lf a = some c → pa c = some a := fun a ha e => (H.2.2.2.2.1 a c ha e).2.1
  have w2 : ∀ a, a ∈ L → rt a = some c → pa c = some a := fun a ha e => (H.2.2.2.2.2.1 a c ha e).2.1
  refine ⟨w1, w2, fun g e => ?_⟩
  obtain ⟨g1, g2, g3⟩ := H.up hc e
  have bg := H.bd g1
  refine ⟨g1, g3, ?_⟩
  rcases g2 with g2 | g2
  · refine Or.inl ⟨g2.1, fun a ha e9 => ?_⟩
    have := Option.some.inj (e.symm.trans (w2 a ha e9))
    subst this
    have y := H.2.2.2.2.2.1 g c g1 e9; omega
  · have n : lf g ≠ some c := fun e9 => by have y := H.2.2.2.2.1 g c g1 e9; omega
    refine Or.inr ⟨g2.1, n, fun a ha e9 => ?_⟩
    have := Option.some.inj (e.symm.trans (w1 a ha e9))
    subst this; exact n e9
theorem TmS.leafroot {c : Nat} (H : TmS L key lf rt pa lo hi root LO HI) (h1 : root = some c) (h2 : lf c = none) (h3 : rt c = none) : ∀ b, b ∈ L → b = c := fun b hb => Classical.byContradiction (fun e => by
  have z := H.2.2.1 c h1
  have bb := H.bd hb
  have k : key b ≠ key c := fun e9 => e (H.2.2.2.2.2.2.2.2.2.2 b c hb z.1 e9)
  by_cases e2 : key b < key c
  · exact H.2.2.2.2.2.2.2.2.1 c b z.1 hb (by omega) e2 h2
  · exact H.2.2.2.2.2.2.2.2.2.1 c b z.1 hb (by omega) (by omega) h3)
theorem c_delB {p : Nat} (Q : OT → MH → Prop) (hd : 2 ≤ d) (hI : TmI L key lf rt pa lo hi root LO HI) (hp : p ∈ L) (hB : TmB co root) (hQ : (Rv fun h' => DelQ h h' m L key ko vl sz mc LO HI p) = Q) : (∀ (c : Nat) (ko9 : Nat → Nat) (vl9 : Nat → Option Nat) (g : MH), (c ∈ L) → (TmF g m L ko9 vl9 lf rt pa co root (sz - 1) (mc + 1)) → (TFr L m h g) → (DlC L key ko vl lf lo p c ko9 vl9) → (∃ r, rt c = some r) → (lf c = none) → MW K yiJ4_deleteEntry d g 57 [some (.ref m), some (.ref c), none] [] Q) := by
  intro c ko9 vl9 g hc hF hT hD r9L hlc
  refine mw_wf (fun hwf57 => ?_)
  have hL9 : L.Nodup := hI.1.1
  have mem9 : ∀ a, a ∈ L.erase c ↔ a ≠ c ∧ a ∈ L := fun a => hL9.mem_erase_iff
  have hw := hI.1.who hc
  have hcc := hF.2.2 c hc
  have hcp9 : c = p ∨ (c ≠ p ∧ lo c = key p) := hD.elim (fun h9 => Or.inl h9.1) (fun h9 => Or.inr ⟨h9.1, h9.2.2.1⟩)
  obtain ⟨r, hrc⟩ := r9L
  have hr9 := hI.1.2.2.2.2.2.1 c r hc hrc
  have hrL := hr9.1
  have bc := hI.1.bd hc
  have br := hI.1.bd hrL
  have hrn : r ≠ c := fun e => by { subst e; omega }
  have hrE : r ∈ L.erase c := (mem9 r).mpr ⟨hrn, hrL⟩
  obtain ⟨lo9, hi9, hIE⟩ := hI.delE hp hc hlc hcp9
  rw [hrc] at hIE
  refine m_aload_n (y := yiJ4_deleteEntry) dJ4_deleteEntry_57 rfl ?_
  refine m_getfS (y := yiJ4_deleteEntry) kc_18 2 (by decide) dJ4_deleteEntry_58 q1770 (hF.2.1 c (by assumption)) rfl ?_
  refine mw_topv (v' := .null) (congrArg va_rf (hlc)) ?_
  refine m_ifnull (y := yiJ4_deleteEntry) (x := none) 71 dJ4_deleteEntry_61 (by decide) (fun _ => ?_) (fun _ h9 => nomatch h9)
  refine m_aload_n (y := yiJ4_deleteEntry) dJ4_deleteEntry_71 rfl ?_
  refine m_getfS (y := yiJ4_deleteEntry) kc_18 3 (by decide) dJ4_deleteEntry_72 q1771 (hF.2.1 c (by assumption)) rfl ?_
  refine mw_topv (v' := .ref r) (congrArg va_rf (hrc)) ?_
  refine m_astore_n (y := yiJ4_deleteEntry) dJ4_deleteEntry_75 (by decide) rfl ?_
  show MW K yiJ4_deleteEntry d g 76 [some (.ref m), some (.ref c), some (.ref r)] [] Q
  refine m_aload_n (y := yiJ4_deleteEntry) dJ4_deleteEntry_76 rfl ?_
  refine m_ifnull (y := yiJ4_deleteEntry) (x := (some r)) 164 dJ4_deleteEntry_77 (by decide) (fun h9 => nomatch h9) (fun _ _ => ?_)
  refine m_aload_n (y := yiJ4_deleteEntry) dJ4_deleteEntry_80 rfl ?_
  refine m_aload_n (y := yiJ4_deleteEntry) dJ4_deleteEntry_81 rfl ?_
  refine m_getfS (y := yiJ4_deleteEntry) kc_18 4 (by decide) dJ4_deleteEntry_82 q1773 (hF.2.1 c (by assumption)) rfl ?_
  refine m_putfS (y := yiJ4_deleteEntry) kc_18 4 (by decide) dJ4_deleteEntry_85 q1773 rfl (hF.2.1 r (by assumption)) (by cases pa c <;> rfl) (by cases pa c <;> rfl) (hp_put fun g1 g1H => ?_)
  have hFg1 := TmF.p4 (v := (pa c)) hF (by assumption) g1H
  have hTg1 := TFr.put hT (by assumption) g1H
  refine m_aload_n (y := yiJ4_deleteEntry) dJ4_deleteEntry_88 rfl ?_
  refine m_getfS (y := yiJ4_deleteEntry) kc_18 4 (by decide) dJ4_deleteEntry_89 q1773 (hFg1.2.1 c (by assumption)) rfl ?_
  refine m_ifnonnull (y := yiJ4_deleteEntry) 103 dJ4_deleteEntry_92 (by decide) (fun a92 c92 => ?_) (fun c92 => ?_)
  · have hpc9 : pa c = some a92 := (upo_ne hrn.symm).symm.trans c92
    have hg9 := hw.2.2 a92 hpc9
    have hgL := hg9.1
    have hrt9 : root ≠ some c := fun e9 => by { have y9 := (hI.1.2.2.1 c e9).2.1; rw [hpc9] at y9; cases y9 }
    refine m_aload_n (y := yiJ4_deleteEntry) dJ4_deleteEntry_103 rfl ?_
    refine m_aload_n (y := yiJ4_deleteEntry) dJ4_deleteEntry_104 rfl ?_
    refine m_getfS (y := yiJ4_deleteEntry) kc_18 4 (by decide) dJ4_deleteEntry_105 q1773 (hFg1.2.1 c (by assumption)) rfl ?_
    refine mw_topv (v' := .ref a92) (congrArg va_rf (c92)) ?_
    refine m_getfS (y := yiJ4_deleteEntry) kc_18 2 (by decide) dJ4_deleteEntry_108 q1770 (hFg1.2.1 a92 (by assumption)) rfl ?_
    refine m_acmp_ne (y := yiJ4_deleteEntry) (x := (some c)) (z := (lf a92)) 125 dJ4_deleteEntry_111 (by decide) (fun c111 => ?_) (fun c111 => ?_)
    · have hg8 := hg9.2.2.resolve_left (fun h9 => c111 h9.1.symm)
      have hu9 : ∀ a, a ∈ L → rt a = some c → a = a92 := fun a ha e9 => Option.some.inj ((hw.2.1 a ha e9).symm.trans hpc9)
      refine m_aload_n (y := yiJ4_deleteEntry) dJ4_deleteEntry_125 rfl ?_
      refine m_getfS (y := yiJ4_deleteEntry) kc_18 4 (by decide) dJ4_deleteEntry_126 q1773 (hFg1.2.1 c (by assumption)) rfl ?_
      refine mw_topv (v' := .ref a92) (congrArg va_rf (c92)) ?_
      refine m_aload_n (y := yiJ4_deleteEntry) dJ4_deleteEntry_129 rfl ?_
      refine m_putfS (y := yiJ4_deleteEntry) kc_18 3 (by decide) dJ4_deleteEntry_130 q1771 rfl (hFg1.2.1 a92 (by assumption)) rfl rfl (hp_put fun g2 g2H => ?_)
      have hFg2 := TmF.p3 (v := (some r)) hFg1 (by assumption) g2H
      have hTg2 := TFr.put hTg1 (by assumption) g2H
      refine m_aload_n (y := yiJ4_deleteEntry) dJ4_deleteEntry_133 rfl ?_
      refine m_aload_n (y := yiJ4_deleteEntry) dJ4_deleteEntry_134 rfl ?_
      refine m_aload_n (y := yiJ4_deleteEntry) dJ4_deleteEntry_135 rfl ?_
      refine m_null (y := yiJ4_deleteEntry) dJ4_deleteEntry_136 ?_
      refine m_dup_x1 (y := yiJ4_deleteEntry) dJ4_deleteEntry_137 rfl rfl ?_
      refine m_putfS (y := yiJ4_deleteEntry) kc_18 4 (by decide) dJ4_deleteEntry_138 q1773 rfl (hFg2.2.1 c (by assumption)) rfl rfl (hp_put fun g3 g3H => ?_)
      have hFg3 := TmF.p4 (v := none) hFg2 (by assumption) g3H
      have hTg3 := TFr.put hTg2 (by assumption) g3H
      refine m_dup_x1 (y := yiJ4_deleteEntry) dJ4_deleteEntry_141 rfl rfl ?_
      refine m_putfS (y := yiJ4_deleteEntry) kc_18 3 (by decide) dJ4_deleteEntry_142 q1771 rfl (hFg3.2.1 c (by assumption)) rfl rfl (hp_put fun g4 g4H => ?_)
      have hFg4 := TmF.p3 (v := none) hFg3 (by assumption) g4H
      have hTg4 := TFr.put hTg3 (by assumption) g4H
      refine m_putfS (y := yiJ4_deleteEntry) kc_18 2 (by decide) dJ4_deleteEntry_145 q1770 rfl (hFg4.2.1 c (by assumption)) rfl rfl (hp_put fun g5 g5H => ?_)
      have hFg5 := TmF.p2 (v := none) hFg4 (by assumption) g5H
      have hTg5 := TFr.put hTg4 (by assumption) g5H
      have hE9 : TmF g5 m (L.erase c) ko9 vl9 (dlA lf c (some r)) (dlA rt c (some r)) (dlP pa c (some r)) co (dlR root c (some r)) (sz - 1) (mc + 1) := TmF.ext hFg5 (fun a h9 => ((mem9 a).mp h9).2) (fun a h9 => dlA_q hg8.2.2 a ((mem9 a).mp h9).2 ((mem9 a).mp h9).1) (fun a h9 => dlA_p hu9 hg8.1 a ((mem9 a).mp h9).2 ((mem9 a).mp h9).1) (fun a h9 => dlP_p a ((mem9 a).mp h9).1) (by unfold dlR; rw [if_neg hrt9])
      refine m_aload_n (y := yiJ4_deleteEntry) dJ4_deleteEntry_148 rfl ?_
      refine m_getfS (y := yiJ4_deleteEntry) kc_18 5 (by decide) dJ4_deleteEntry_149 q1775 (hFg5.2.1 c (by assumption)) rfl ?_
      refine j_iconst (y := yiJ4_deleteEntry) dJ4_deleteEntry_152 ?_
      refine j_icmp_ne (y := yiJ4_deleteEntry) 245 dJ4_deleteEntry_153 (by decide) ⟨⟨by omega, by omega⟩, ⟨by omega, by omega⟩⟩ (fun c153 => ?_) (fun c153 => ?_)
      · subst hQ; exact j_vret (y := yiJ4_deleteEntry) dJ4_deleteEntry_245 rfl (DelQ.mk hL9 hp hc hD hTg5 hE9 hIE (fun r0 e9 => by { unfold dlR at e9; split at e9; { next e8 => exact absurd (hB c e8) c153 }; { exact hB r0 e9 } }))
      · have hB9 : ∀ r0, dlR root c (some r) = some r0 → co r0 = 1 ∨ r0 = r := fun r0 e9 => by { unfold dlR at e9; split at e9; { exact Or.inr (Option.some.inj e9).symm }; { exact Or.inl (hB r0 e9) } }
        refine m_aload_n (y := yiJ4_deleteEntry) dJ4_deleteEntry_156 rfl ?_
        refine m_aload_n (y := yiJ4_deleteEntry) dJ4_deleteEntry_157 rfl ?_
        refine m_invV (y := yiJ4_deleteEntry) (rB := (RJ4, TJ4, 9)) [(.ref r)] dJ4_deleteEntry_158 hFg5.1 rfl q1831 q1833 qs29 q128 q1834 rfl (c_J4_fixAfterDeletion (d := 1) r (fun _ => False) (by omega) hE9 hIE hrE hB9 (fun s h9 h8 => h8.elim)) pdJ4_fixAfterDeletion ⟨Nat.le_of_ble_eq_true rfl, by decide, by omega⟩ (kk_v fun h158 q158 => ?_) kx_v
        obtain ⟨hU158, lfX, rtX, paX, coX, loX, hiX, roX, hF158, hI158, hB158, -⟩ := q158
        refine mw_wf (fun hwf158 => ?_)
        refine m_goto (y := yiJ4_deleteEntry) 245 dJ4_deleteEntry_161 (by decide) ?_
        subst hQ; exact j_vret (y := yiJ4_deleteEntry) dJ4_deleteEntry_245 rfl (DelQ.mk hL9 hp hc hD (TFr.trans hTg5 ⟨hU158.1, hU158.2.1, fun b hb => hU158.2.2 b ⟨fun h9 => hb.1 ((mem9 b).mp h9).2, hb.2⟩⟩) hF158 hI158 hB158)
    · have hl9 : lf a92 = some c := c111.symm
      have hr8 : ∀ a, a ∈ L → rt a ≠ some c := (hg9.2.2.elim (fun h9 => h9.2) (fun h9 => absurd hl9 h9.2.1))
      have hu9 : ∀ a, a ∈ L → lf a = some c → a = a92 := fun a ha e9 => Option.some.inj ((hw.1 a ha e9).symm.trans hpc9)
      refine m_aload_n (y := yiJ4_deleteEntry) dJ4_deleteEntry_114 rfl ?_
      refine m_getfS (y := yiJ4_deleteEntry) kc_18 4 (by decide) dJ4_deleteEntry_115 q1773 (hFg1.2.1 c (by assumption)) rfl ?_
      refine mw_topv (v' := .ref a92) (congrArg va_rf (c92)) ?_
      refine m_aload_n (y := yiJ4_deleteEntry) dJ4_deleteEntry_118 rfl ?_
      refine m_putfS (y := yiJ4_deleteEntry) kc_18 2 (by decide) dJ4_deleteEntry_119 q1770 rfl (hFg1.2.1 a92 (by assumption)) rfl rfl (hp_put fun g6 g6H => ?_)
      have hFg6 := TmF.p2 (v := (some r)) hFg1 (by assumption) g6H
      have hTg6 := TFr.put hTg1 (by assumption) g6H
      refine m_goto (y := yiJ4_deleteEntry) 133 dJ4_deleteEntry_122 (by decide) ?_
      refine m_aload_n (y := yiJ4_deleteEntry) dJ4_deleteEntry_133 rfl ?_
      refine m_aload_n (y := yiJ4_deleteEntry) dJ4_deleteEntry_134 rfl ?_
      refine m_aload_n (y := yiJ4_deleteEntry) dJ4_deleteEntry_135 rfl ?_
      refine m_null (y := yiJ4_deleteEntry) dJ4_deleteEntry_136 ?_
      refine m_dup_x1 (y := yiJ4_deleteEntry) dJ4_deleteEntry_137 rfl rfl ?_
      refine m_putfS (y := yiJ4_deleteEntry) kc_18 4 (by decide) dJ4_deleteEntry_138 q1773 rfl (hFg6.2.1 c (by assumption)) rfl rfl (hp_put fun g7 g7H => ?_)
      have hFg7 := TmF.p4 (v := none) hFg6 (by assumption) g7H
      have hTg7 := TFr.put hTg6 (by assumption) g7H
      refine m_dup_x1 (y := yiJ4_deleteEntry) dJ4_deleteEntry_141 rfl rfl ?_
      refine m_putfS (y := yiJ4_deleteEntry) kc_18 3 (by decide) dJ4_deleteEntry_142 q1771 rfl (hFg7.2.1 c (by assumption)) rfl rfl (hp_put fun g8 g8H => ?_)
      have hFg8 := TmF.p3 (v := none) hFg7 (by assumption) g8H
      have hTg8 := TFr.put hTg7 (by assumption) g8H
      refine m_putfS (y := yiJ4_deleteEntry) kc_18 2 (by decide) dJ4_deleteEntry_145 q1770 rfl (hFg8.2.1 c (by assumption)) rfl rfl (hp_put fun g9 g9H => ?_)
      have hFg9 := TmF.p2 (v := none) hFg8 (by assumption) g9H
      have hTg9 := TFr.put hTg8 (by assumption) g9H
      have hE9 : TmF g9 m (L.erase c) ko9 vl9 (dlA lf c (some r)) (dlA rt c (some r)) (dlP pa c (some r)) co (dlR root c (some r)) (sz - 1) (mc + 1) := TmF.ext hFg9 (fun a h9 => ((mem9 a).mp h9).2) (fun a h9 => dlA_p hu9 hl9 a ((mem9 a).mp h9).2 ((mem9 a).mp h9).1) (fun a h9 => dlA_q hr8 a ((mem9 a).mp h9).2 ((mem9 a).mp h9).1) (fun a h9 => dlP_p a ((mem9 a).mp h9).1) (by unfold dlR; rw [if_neg hrt9])
      refine m_aload_n (y := yiJ4_deleteEntry) dJ4_deleteEntry_148 rfl ?_
      refine m_getfS (y := yiJ4_deleteEntry) kc_18 5 (by decide) dJ4_deleteEntry_149 q1775 (hFg9.2.1 c (by assumption)) rfl ?_
      refine j_iconst (y := yiJ4_deleteEntry) dJ4_deleteEntry_152 ?_
      refine j_icmp_ne (y := yiJ4_deleteEntry) 245 dJ4_deleteEntry_153 (by decide) ⟨⟨by omega, by omega⟩, ⟨by omega, by omega⟩⟩ (fun c153 => ?_) (fun c153 => ?_)
      · subst hQ; exact j_vret (y := yiJ4_deleteEntry) dJ4_deleteEntry_245 rfl (DelQ.mk hL9 hp hc hD hTg9 hE9 hIE (fun r0 e9 => by { unfold dlR at e9; split at e9; { next e8 => exact absurd (hB c e8) c153 }; { exact hB r0 e9 } }))
      · have hB9 : ∀ r0, dlR root c (some r) = some r0 → co r0 = 1 ∨ r0 = r := fun r0 e9 => by { unfold dlR at e9; split at e9; { exact Or.inr (Option.some.inj e9).symm }; { exact Or.inl (hB r0 e9) } }
        refine m_aload_n (y := yiJ4_deleteEntry) dJ4_deleteEntry_156 rfl ?_
        refine m_aload_n (y := yiJ4_deleteEntry) dJ4_deleteEntry_157 rfl ?_
        refine m_invV (y := yiJ4_deleteEntry) (rB := (RJ4, TJ4, 9)) [(.ref r)] dJ4_deleteEntry_158 hFg9.1 rfl q1831 q1833 qs29 q128 q1834 rfl (c_J4_fixAfterDeletion (d := 1) r (fun _ => False) (by omega) hE9 hIE hrE hB9 (fun s h9 h8 => h8.elim)) pdJ4_fixAfterDeletion ⟨Nat.le_of_ble_eq_true rfl, by decide, by omega⟩ (kk_v fun h158 q158 => ?_) kx_v
        obtain ⟨hU158, lfX, rtX, paX, coX, loX, hiX, roX, hF158, hI158, hB158, -⟩ := q158
        refine mw_wf (fun hwf158 => ?_)
        refine m_goto (y := yiJ4_deleteEntry) 245 dJ4_deleteEntry_161 (by decide) ?_
        subst hQ; exact j_vret (y := yiJ4_deleteEntry) dJ4_deleteEntry_245 rfl (DelQ.mk hL9 hp hc hD (TFr.trans hTg9 ⟨hU158.1, hU158.2.1, fun b hb => hU158.2.2 b ⟨fun h9 => hb.1 ((mem9 b).mp h9).2, hb.2⟩⟩) hF158 hI158 hB158)
  · have hpc9 : pa c = none := (upo_ne hrn.symm).symm.trans c92
    refine m_aload_n (y := yiJ4_deleteEntry) dJ4_deleteEntry_95 rfl ?_
    refine m_aload_n (y := yiJ4_deleteEntry) dJ4_deleteEntry_96 rfl ?_
    refine m_putfS (y := yiJ4_deleteEntry) kc_17 3 (by decide) dJ4_deleteEntry_97 q240 rfl hFg1.1 rfl rfl (hp_put fun g10 g10H => ?_)
    have hFg10 := TmF.m3 (v := (some r)) hFg1 g10H
    have hTg10 := TFr.putm hTg1 g10H
    refine m_goto (y := yiJ4_deleteEntry) 133 dJ4_deleteEntry_100 (by decide) ?_
    refine m_aload_n (y := yiJ4_deleteEntry) dJ4_deleteEntry_133 rfl ?_
    refine m_aload_n (y := yiJ4_deleteEntry) dJ4_deleteEntry_134 rfl ?_
    refine m_aload_n (y := yiJ4_deleteEntry) dJ4_deleteEntry_135 rfl ?_
    refine m_null (y := yiJ4_deleteEntry) dJ4_deleteEntry_136 ?_
    refine m_dup_x1 (y := yiJ4_deleteEntry) dJ4_deleteEntry_137 rfl rfl ?_
    refine m_putfS (y := yiJ4_deleteEntry) kc_18 4 (by decide) dJ4_deleteEntry_138 q1773 rfl (hFg10.2.1 c (by assumption)) rfl rfl (hp_put fun g11 g11H => ?_)
    have hFg11 := TmF.p4 (v := none) hFg10 (by assumption) g11H
    have hTg11 := TFr.put hTg10 (by assumption) g11H
    refine m_dup_x1 (y := yiJ4_deleteEntry) dJ4_deleteEntry_141 rfl rfl ?_
    refine m_putfS (y := yiJ4_deleteEntry) kc_18 3 (by decide) dJ4_deleteEntry_142 q1771 rfl (hFg11.2.1 c (by assumption)) rfl rfl (hp_put fun g12 g12H => ?_)
    have hFg12 := TmF.p3 (v := none) hFg11 (by assumption) g12H
    have hTg12 := TFr.put hTg11 (by assumption) g12H
    refine m_putfS (y := yiJ4_deleteEntry) kc_18 2 (by decide) dJ4_deleteEntry_145 q1770 rfl (hFg12.2.1 c (by assumption)) rfl rfl (hp_put fun g13 g13H => ?_)
    have hFg13 := TmF.p2 (v := none) hFg12 (by assumption) g13H
    have hTg13 := TFr.put hTg12 (by assumption) g13H
    have hE9 : TmF g13 m (L.erase c) ko9 vl9 (dlA lf c (some r)) (dlA rt c (some r)) (dlP pa c (some r)) co (dlR root c (some r)) (sz - 1) (mc + 1) := TmF.ext hFg13 (fun a h9 => ((mem9 a).mp h9).2) (fun a h9 => dlA_q (fun b hb e9 => by { have y9 := hw.1 b hb e9; rw [hpc9] at y9; cases y9 }) a ((mem9 a).mp h9).2 ((mem9 a).mp h9).1) (fun a h9 => dlA_q (fun b hb e9 => by { have y9 := hw.2.1 b hb e9; rw [hpc9] at y9; cases y9 }) a ((mem9 a).mp h9).2 ((mem9 a).mp h9).1) (fun a h9 => dlP_p a ((mem9 a).mp h9).1) (by unfold dlR; rw [if_pos (hI.1.2.2.2.2.2.2.2.1 c hc hpc9)])
    refine m_aload_n (y := yiJ4_deleteEntry) dJ4_deleteEntry_148 rfl ?_
    refine m_getfS (y := yiJ4_deleteEntry) kc_18 5 (by decide) dJ4_deleteEntry_149 q1775 (hFg13.2.1 c (by assumption)) rfl ?_
    refine j_iconst (y := yiJ4_deleteEntry) dJ4_deleteEntry_152 ?_
    refine j_icmp_ne (y := yiJ4_deleteEntry) 245 dJ4_deleteEntry_153 (by decide) ⟨⟨by omega, by omega⟩, ⟨by omega, by omega⟩⟩ (fun c153 => ?_) (fun c153 => ?_)
    · subst hQ; exact j_vret (y := yiJ4_deleteEntry) dJ4_deleteEntry_245 rfl (DelQ.mk hL9 hp hc hD hTg13 hE9 hIE (fun r0 e9 => by { unfold dlR at e9; split at e9; { next e8 => exact absurd (hB c e8) c153 }; { exact hB r0 e9 } }))
    · have hB9 : ∀ r0, dlR root c (some r) = some r0 → co r0 = 1 ∨ r0 = r := fun r0 e9 => by { unfold dlR at e9; split at e9; { exact Or.inr (Option.some.inj e9).symm }; { exact Or.inl (hB r0 e9) } }
      refine m_aload_n (y := yiJ4_deleteEntry) dJ4_deleteEntry_156 rfl ?_
      refine m_aload_n (y := yiJ4_deleteEntry) dJ4_deleteEntry_157 rfl ?_
      refine m_invV (y := yiJ4_deleteEntry) (rB := (RJ4, TJ4, 9)) [(.ref r)] dJ4_deleteEntry_158 hFg13.1 rfl q1831 q1833 qs29 q128 q1834 rfl (c_J4_fixAfterDeletion (d := 1) r (fun _ => False) (by omega) hE9 hIE hrE hB9 (fun s h9 h8 => h8.elim)) pdJ4_fixAfterDeletion ⟨Nat.le_of_ble_eq_true rfl, by decide, by omega⟩ (kk_v fun h158 q158 => ?_) kx_v
      obtain ⟨hU158, lfX, rtX, paX, coX, loX, hiX, roX, hF158, hI158, hB158, -⟩ := q158
      refine mw_wf (fun hwf158 => ?_)
      refine m_goto (y := yiJ4_deleteEntry) 245 dJ4_deleteEntry_161 (by decide) ?_
      subst hQ; exact j_vret (y := yiJ4_deleteEntry) dJ4_deleteEntry_245 rfl (DelQ.mk hL9 hp hc hD (TFr.trans hTg13 ⟨hU158.1, hU158.2.1, fun b hb => hU158.2.2 b ⟨fun h9 => hb.1 ((mem9 b).mp h9).2, hb.2⟩⟩) hF158 hI158 hB158)
theorem c_delC {p : Nat} (Q : OT → MH → Prop) (hd : 2 ≤ d) (hI : TmI L key lf rt pa lo hi root LO HI) (hp : p ∈ L) (hB : TmB co root) (hQ : (Rv fun h' => DelQ h h' m L key ko vl sz mc LO HI p) = Q) : (∀ (c : Nat) (ko9 : Nat → Nat) (vl9 : Nat → Option Nat) (g : MH), (c ∈ L) → (TmF g m L ko9 vl9 lf rt pa co root (sz - 1) (mc + 1)) → (TFr L m h g) → (DlC L key ko vl lf lo p c ko9 vl9) → (∃ r, lf c = some r) → (rt c = none) → (c = p) → MW K yiJ4_deleteEntry d g 57 [some (.ref m), some (.ref c), none] [] Q) := by
  intro c ko9 vl9 g hc hF hT hD r9L hlc hcp
  refine mw_wf (fun hwf57 => ?_)
  have hL9 : L.Nodup := hI.1.1
  have mem9 : ∀ a, a ∈ L.erase c ↔ a ≠ c ∧ a ∈ L := fun a => hL9.mem_erase_iff
  have hw := hI.1.who hc
  have hcc := hF.2.2 c hc
  have hcp9 : c = p ∨ (c ≠ p ∧ lo c = key p) := hD.elim (fun h9 => Or.inl h9.1) (fun h9 => Or.inr ⟨h9.1, h9.2.2.1⟩)
  obtain ⟨r, hrc⟩ := r9L
  have hr9 := hI.1.2.2.2.2.1 c r hc hrc
  have hrL := hr9.1
  have bc := hI.1.bd hc
  have br := hI.1.bd hrL
  have hrn : r ≠ c := fun e => by { subst e; omega }
  have hrE : r ∈ L.erase c := (mem9 r).mpr ⟨hrn, hrL⟩
  obtain ⟨lo9, hi9, hIE⟩ : ∃ lo' hi' : Nat → Int, TmI (L.erase c) (keyE key p c) (dlA lf c (lf c)) (dlA rt c (lf c)) (dlP pa c (lf c)) lo' hi' (dlR root c (lf c)) LO HI := ⟨_, _, by { unfold keyE; rw [if_pos hcp]; exact hI.delR hc hlc }⟩
  rw [hrc] at hIE
  refine m_aload_n (y := yiJ4_deleteEntry) dJ4_deleteEntry_57 rfl ?_
  refine m_getfS (y := yiJ4_deleteEntry) kc_18 2 (by decide) dJ4_deleteEntry_58 q1770 (hF.2.1 c (by assumption)) rfl ?_
  refine mw_topv (v' := .ref r) (congrArg va_rf (hrc)) ?_
  refine m_ifnull (y := yiJ4_deleteEntry) (x := (some r)) 71 dJ4_deleteEntry_61 (by decide) (fun h9 => nomatch h9) (fun _ _ => ?_)
  refine m_aload_n (y := yiJ4_deleteEntry) dJ4_deleteEntry_64 rfl ?_
  refine m_getfS (y := yiJ4_deleteEntry) kc_18 2 (by decide) dJ4_deleteEntry_65 q1770 (hF.2.1 c (by assumption)) rfl ?_
  refine mw_topv (v' := .ref r) (congrArg va_rf (hrc)) ?_
  refine m_goto (y := yiJ4_deleteEntry) 75 dJ4_deleteEntry_68 (by decide) ?_
  refine m_astore_n (y := yiJ4_deleteEntry) dJ4_deleteEntry_75 (by decide) rfl ?_
  show MW K yiJ4_deleteEntry d g 76 [some (.ref m), some (.ref c), some (.ref r)] [] Q
  refine m_aload_n (y := yiJ4_deleteEntry) dJ4_deleteEntry_76 rfl ?_
  refine m_ifnull (y := yiJ4_deleteEntry) (x := (some r)) 164 dJ4_deleteEntry_77 (by decide) (fun h9 => nomatch h9) (fun _ _ => ?_)
  refine m_aload_n (y := yiJ4_deleteEntry) dJ4_deleteEntry_80 rfl ?_
  refine m_aload_n (y := yiJ4_deleteEntry) dJ4_deleteEntry_81 rfl ?_
  refine m_getfS (y := yiJ4_deleteEntry) kc_18 4 (by decide) dJ4_deleteEntry_82 q1773 (hF.2.1 c (by assumption)) rfl ?_
  refine m_putfS (y := yiJ4_deleteEntry) kc_18 4 (by decide) dJ4_deleteEntry_85 q1773 rfl (hF.2.1 r (by assumption)) (by cases pa c <;> rfl) (by cases pa c <;> rfl) (hp_put fun g1 g1H => ?_)
  have hFg1 := TmF.p4 (v := (pa c)) hF (by assumption) g1H
  have hTg1 := TFr.put hT (by assumption) g1H
  refine m_aload_n (y := yiJ4_deleteEntry) dJ4_deleteEntry_88 rfl ?_
  refine m_getfS (y := yiJ4_deleteEntry) kc_18 4 (by decide) dJ4_deleteEntry_89 q1773 (hFg1.2.1 c (by assumption)) rfl ?_
  refine m_ifnonnull (y := yiJ4_deleteEntry) 103 dJ4_deleteEntry_92 (by decide) (fun a92 c92 => ?_) (fun c92 => ?_)
  · have hpc9 : pa c = some a92 := (upo_ne hrn.symm).symm.trans c92
    have hg9 := hw.2.2 a92 hpc9
    have hgL := hg9.1
    have hrt9 : root ≠ some c := fun e9 => by { have y9 := (hI.1.2.2.1 c e9).2.1; rw [hpc9] at y9; cases y9 }
    refine m_aload_n (y := yiJ4_deleteEntry) dJ4_deleteEntry_103 rfl ?_
    refine m_aload_n (y := yiJ4_deleteEntry) dJ4_deleteEntry_104 rfl ?_
    refine m_getfS (y := yiJ4_deleteEntry) kc_18 4 (by decide) dJ4_deleteEntry_105 q1773 (hFg1.2.1 c (by assumption)) rfl ?_
    refine mw_topv (v' := .ref a92) (congrArg va_rf (c92)) ?_
    refine m_getfS (y := yiJ4_deleteEntry) kc_18 2 (by decide) dJ4_deleteEntry_108 q1770 (hFg1.2.1 a92 (by assumption)) rfl ?_
    refine m_acmp_ne (y := yiJ4_deleteEntry) (x := (some c)) (z := (lf a92)) 125 dJ4_deleteEntry_111 (by decide) (fun c111 => ?_) (fun c111 => ?_)
    · have hg8 := hg9.2.2.resolve_left (fun h9 => c111 h9.1.symm)
      have hu9 : ∀ a, a ∈ L → rt a = some c → a = a92 := fun a ha e9 => Option.some.inj ((hw.2.1 a ha e9).symm.trans hpc9)
      refine m_aload_n (y := yiJ4_deleteEntry) dJ4_deleteEntry_125 rfl ?_
      refine m_getfS (y := yiJ4_deleteEntry) kc_18 4 (by decide) dJ4_deleteEntry_126 q1773 (hFg1.2.1 c (by assumption)) rfl ?_
      refine mw_topv (v' := .ref a92) (congrArg va_rf (c92)) ?_
      refine m_aload_n (y := yiJ4_deleteEntry) dJ4_deleteEntry_129 rfl ?_
      refine m_putfS (y := yiJ4_deleteEntry) kc_18 3 (by decide) dJ4_deleteEntry_130 q1771 rfl (hFg1.2.1 a92 (by assumption)) rfl rfl (hp_put fun g2 g2H => ?_)
      have hFg2 := TmF.p3 (v := (some r)) hFg1 (by assumption) g2H
      have hTg2 := TFr.put hTg1 (by assumption) g2H
      refine m_aload_n (y := yiJ4_deleteEntry) dJ4_deleteEntry_133 rfl ?_
      refine m_aload_n (y := yiJ4_deleteEntry) dJ4_deleteEntry_134 rfl ?_
      refine m_aload_n (y := yiJ4_deleteEntry) dJ4_deleteEntry_135 rfl ?_
      refine m_null (y := yiJ4_deleteEntry) dJ4_deleteEntry_136 ?_
      refine m_dup_x1 (y := yiJ4_deleteEntry) dJ4_deleteEntry_137 rfl rfl ?_
      refine m_putfS (y := yiJ4_deleteEntry) kc_18 4 (by decide) dJ4_deleteEntry_138 q1773 rfl (hFg2.2.1 c (by assumption)) rfl rfl (hp_put fun g3 g3H => ?_)
      have hFg3 := TmF.p4 (v := none) hFg2 (by assumption) g3H
      have hTg3 := TFr.put hTg2 (by assumption) g3H
      refine m_dup_x1 (y := yiJ4_deleteEntry) dJ4_deleteEntry_141 rfl rfl ?_
      refine m_putfS (y := yiJ4_deleteEntry) kc_18 3 (by decide) dJ4_deleteEntry_142 q1771 rfl (hFg3.2.1 c (by assumption)) rfl rfl (hp_put fun g4 g4H => ?_)
      have hFg4 := TmF.p3 (v := none) hFg3 (by assumption) g4H
      have hTg4 := TFr.put hTg3 (by assumption) g4H
      refine m_putfS (y := yiJ4_deleteEntry) kc_18 2 (by decide) dJ4_deleteEntry_145 q1770 rfl (hFg4.2.1 c (by assumption)) rfl rfl (hp_put fun g5 g5H => ?_)
      have hFg5 := TmF.p2 (v := none) hFg4 (by assumption) g5H
      have hTg5 := TFr.put hTg4 (by assumption) g5H
      have hE9 : TmF g5 m (L.erase c) ko9 vl9 (dlA lf c (some r)) (dlA rt c (some r)) (dlP pa c (some r)) co (dlR root c (some r)) (sz - 1) (mc + 1) := TmF.ext hFg5 (fun a h9 => ((mem9 a).mp h9).2) (fun a h9 => dlA_q hg8.2.2 a ((mem9 a).mp h9).2 ((mem9 a).mp h9).1) (fun a h9 => dlA_p hu9 hg8.1 a ((mem9 a).mp h9).2 ((mem9 a).mp h9).1) (fun a h9 => dlP_p a ((mem9 a).mp h9).1) (by unfold dlR; rw [if_neg hrt9])
      refine m_aload_n (y := yiJ4_deleteEntry) dJ4_deleteEntry_148 rfl ?_
      refine m_getfS (y := yiJ4_deleteEntry) kc_18 5 (by decide) dJ4_deleteEntry_149 q1775 (hFg5.2.1 c (by assumption)) rfl ?_
      refine j_iconst (y := yiJ4_deleteEntry) dJ4_deleteEntry_152 ?_
      refine j_icmp_ne (y := yiJ4_deleteEntry) 245 dJ4_deleteEntry_153 (by decide) ⟨⟨by omega, by omega⟩, ⟨by omega, by omega⟩⟩ (fun c153 => ?_) (fun c153 => ?_)
      · subst hQ; exact j_vret (y := yiJ4_deleteEntry) dJ4_deleteEntry_245 rfl (DelQ.mk hL9 hp hc hD hTg5 hE9 hIE (fun r0 e9 => by { unfold dlR at e9; split at e9; { next e8 => exact absurd (hB c e8) c153 }; { exact hB r0 e9 } }))
      · have hB9 : ∀ r0, dlR root c (some r) = some r0 → co r0 = 1 ∨ r0 = r := fun r0 e9 => by { unfold dlR at e9; split at e9; { exact Or.inr (Option.some.inj e9).symm }; { exact Or.inl (hB r0 e9) } }
        refine m_aload_n (y := yiJ4_deleteEntry) dJ4_deleteEntry_156 rfl ?_
        refine m_aload_n (y := yiJ4_deleteEntry) dJ4_deleteEntry_157 rfl ?_
        refine m_invV (y := yiJ4_deleteEntry) (rB := (RJ4, TJ4, 9)) [(.ref r)] dJ4_deleteEntry_158 hFg5.1 rfl q1831 q1833 qs29 q128 q1834 rfl (c_J4_fixAfterDeletion (d := 1) r (fun _ => False) (by omega) hE9 hIE hrE hB9 (fun s h9 h8 => h8.elim)) pdJ4_fixAfterDeletion ⟨Nat.le_of_ble_eq_true rfl, by decide, by omega⟩ (kk_v fun h158 q158 => ?_) kx_v
        obtain ⟨hU158, lfX, rtX, paX, coX, loX, hiX, roX, hF158, hI158, hB158, -⟩ := q158
        refine mw_wf (fun hwf158 => ?_)
        refine m_goto (y := yiJ4_deleteEntry) 245 dJ4_deleteEntry_161 (by decide) ?_
        subst hQ; exact j_vret (y := yiJ4_deleteEntry) dJ4_deleteEntry_245 rfl (DelQ.mk hL9 hp hc hD (TFr.trans hTg5 ⟨hU158.1, hU158.2.1, fun b hb => hU158.2.2 b ⟨fun h9 => hb.1 ((mem9 b).mp h9).2, hb.2⟩⟩) hF158 hI158 hB158)
    · have hl9 : lf a92 = some c := c111.symm
      have hr8 : ∀ a, a ∈ L → rt a ≠ some c := (hg9.2.2.elim (fun h9 => h9.2) (fun h9 => absurd hl9 h9.2.1))
      have hu9 : ∀ a, a ∈ L → lf a = some c → a = a92 := fun a ha e9 => Option.some.inj ((hw.1 a ha e9).symm.trans hpc9)
      refine m_aload_n (y := yiJ4_deleteEntry) dJ4_deleteEntry_114 rfl ?_
      refine m_getfS (y := yiJ4_deleteEntry) kc_18 4 (by decide) dJ4_deleteEntry_115 q1773 (hFg1.2.1 c (by assumption)) rfl ?_
      refine mw_topv (v' := .ref a92) (congrArg va_rf (c92)) ?_
      refine m_aload_n (y := yiJ4_deleteEntry) dJ4_deleteEntry_118 rfl ?_
      refine m_putfS (y := yiJ4_deleteEntry) kc_18 2 (by decide) dJ4_deleteEntry_119 q1770 rfl (hFg1.2.1 a92 (by assumption)) rfl rfl (hp_put fun g6 g6H => ?_)
      have hFg6 := TmF.p2 (v := (some r)) hFg1 (by assumption) g6H
      have hTg6 := TFr.put hTg1 (by assumption) g6H
      refine m_goto (y := yiJ4_deleteEntry) 133 dJ4_deleteEntry_122 (by decide) ?_
      refine m_aload_n (y := yiJ4_deleteEntry) dJ4_deleteEntry_133 rfl ?_
      refine m_aload_n (y := yiJ4_deleteEntry) dJ4_deleteEntry_134 rfl ?_
      refine m_aload_n (y := yiJ4_deleteEntry) dJ4_deleteEntry_135 rfl ?_
      refine m_null (y := yiJ4_deleteEntry) dJ4_deleteEntry_136 ?_
      refine m_dup_x1 (y := yiJ4_deleteEntry) dJ4_deleteEntry_137 rfl rfl ?_
      refine m_putfS (y := yiJ4_deleteEntry) kc_18 4 (by decide) dJ4_deleteEntry_138 q1773 rfl (hFg6.2.1 c (by assumption)) rfl rfl (hp_put fun g7 g7H => ?_)
      have hFg7 := TmF.p4 (v := none) hFg6 (by assumption) g7H
      have hTg7 := TFr.put hTg6 (by assumption) g7H
      refine m_dup_x1 (y := yiJ4_deleteEntry) dJ4_deleteEntry_141 rfl rfl ?_
      refine m_putfS (y := yiJ4_deleteEntry) kc_18 3 (by decide) dJ4_deleteEntry_142 q1771 rfl (hFg7.2.1 c (by assumption)) rfl rfl (hp_put fun g8 g8H => ?_)
      have hFg8 := TmF.p3 (v := none) hFg7 (by assumption) g8H
      have hTg8 := TFr.put hTg7 (by assumption) g8H
      refine m_putfS (y := yiJ4_deleteEntry) kc_18 2 (by decide) dJ4_deleteEntry_145 q1770 rfl (hFg8.2.1 c (by assumption)) rfl rfl (hp_put fun g9 g9H => ?_)
      have hFg9 := TmF.p2 (v := none) hFg8 (by assumption) g9H
      have hTg9 := TFr.put hTg8 (by assumption) g9H
      have hE9 : TmF g9 m (L.erase c) ko9 vl9 (dlA lf c (some r)) (dlA rt c (some r)) (dlP pa c (some r)) co (dlR root c (some r)) (sz - 1) (mc + 1) := TmF.ext hFg9 (fun a h9 => ((mem9 a).mp h9).2) (fun a h9 => dlA_p hu9 hl9 a ((mem9 a).mp h9).2 ((mem9 a).mp h9).1) (fun a h9 => dlA_q hr8 a ((mem9 a).mp h9).2 ((mem9 a).mp h9).1) (fun a h9 => dlP_p a ((mem9 a).mp h9).1) (by unfold dlR; rw [if_neg hrt9])
      refine m_aload_n (y := yiJ4_deleteEntry) dJ4_deleteEntry_148 rfl ?_
      refine m_getfS (y := yiJ4_deleteEntry) kc_18 5 (by decide) dJ4_deleteEntry_149 q1775 (hFg9.2.1 c (by assumption)) rfl ?_
      refine j_iconst (y := yiJ4_deleteEntry) dJ4_deleteEntry_152 ?_
      refine j_icmp_ne (y := yiJ4_deleteEntry) 245 dJ4_deleteEntry_153 (by decide) ⟨⟨by omega, by omega⟩, ⟨by omega, by omega⟩⟩ (fun c153 => ?_) (fun c153 => ?_)
      · subst hQ; exact j_vret (y := yiJ4_deleteEntry) dJ4_deleteEntry_245 rfl (DelQ.mk hL9 hp hc hD hTg9 hE9 hIE (fun r0 e9 => by { unfold dlR at e9; split at e9; { next e8 => exact absurd (hB c e8) c153 }; { exact hB r0 e9 } }))
      · have hB9 : ∀ r0, dlR root c (some r) = some r0 → co r0 = 1 ∨ r0 = r := fun r0 e9 => by { unfold dlR at e9; split at e9; { exact Or.inr (Option.some.inj e9).symm }; { exact Or.inl (hB r0 e9) } }
        refine m_aload_n (y := yiJ4_deleteEntry) dJ4_deleteEntry_156 rfl ?_
        refine m_aload_n (y := yiJ4_deleteEntry) dJ4_deleteEntry_157 rfl ?_
        refine m_invV (y := yiJ4_deleteEntry) (rB := (RJ4, TJ4, 9)) [(.ref r)] dJ4_deleteEntry_158 hFg9.1 rfl q1831 q1833 qs29 q128 q1834 rfl (c_J4_fixAfterDeletion (d := 1) r (fun _ => False) (by omega) hE9 hIE hrE hB9 (fun s h9 h8 => h8.elim)) pdJ4_fixAfterDeletion ⟨Nat.le_of_ble_eq_true rfl, by decide, by omega⟩ (kk_v fun h158 q158 => ?_) kx_v
        obtain ⟨hU158, lfX, rtX, paX, coX, loX, hiX, roX, hF158, hI158, hB158, -⟩ := q158
        refine mw_wf (fun hwf158 => ?_)
        refine m_goto (y := yiJ4_deleteEntry) 245 dJ4_deleteEntry_161 (by decide) ?_
        subst hQ; exact j_vret (y := yiJ4_deleteEntry) dJ4_deleteEntry_245 rfl (DelQ.mk hL9 hp hc hD (TFr.trans hTg9 ⟨hU158.1, hU158.2.1, fun b hb => hU158.2.2 b ⟨fun h9 => hb.1 ((mem9 b).mp h9).2, hb.2⟩⟩) hF158 hI158 hB158)
  · have hpc9 : pa c = none := (upo_ne hrn.symm).symm.trans c92
    refine m_aload_n (y := yiJ4_deleteEntry) dJ4_deleteEntry_95 rfl ?_
    refine m_aload_n (y := yiJ4_deleteEntry) dJ4_deleteEntry_96 rfl ?_
    refine m_putfS (y := yiJ4_deleteEntry) kc_17 3 (by decide) dJ4_deleteEntry_97 q240 rfl hFg1.1 rfl rfl (hp_put fun g10 g10H => ?_)
    have hFg10 := TmF.m3 (v := (some r)) hFg1 g10H
    have hTg10 := TFr.putm hTg1 g10H
    refine m_goto (y := yiJ4_deleteEntry) 133 dJ4_deleteEntry_100 (by decide) ?_
    refine m_aload_n (y := yiJ4_deleteEntry) dJ4_deleteEntry_133 rfl ?_
    refine m_aload_n (y := yiJ4_deleteEntry) dJ4_deleteEntry_134 rfl ?_
    refine m_aload_n (y := yiJ4_deleteEntry) dJ4_deleteEntry_135 rfl ?_
    refine m_null (y := yiJ4_deleteEntry) dJ4_deleteEntry_136 ?_
    refine m_dup_x1 (y := yiJ4_deleteEntry) dJ4_deleteEntry_137 rfl rfl ?_
    refine m_putfS (y := yiJ4_deleteEntry) kc_18 4 (by decide) dJ4_deleteEntry_138 q1773 rfl (hFg10.2.1 c (by assumption)) rfl rfl (hp_put fun g11 g11H => ?_)
    have hFg11 := TmF.p4 (v := none) hFg10 (by assumption) g11H
    have hTg11 := TFr.put hTg10 (by assumption) g11H
    refine m_dup_x1 (y := yiJ4_deleteEntry) dJ4_deleteEntry_141 rfl rfl ?_
    refine m_putfS (y := yiJ4_deleteEntry) kc_18 3 (by decide) dJ4_deleteEntry_142 q1771 rfl (hFg11.2.1 c (by assumption)) rfl rfl (hp_put fun g12 g12H => ?_)
    have hFg12 := TmF.p3 (v := none) hFg11 (by assumption) g12H
    have hTg12 := TFr.put hTg11 (by assumption) g12H
    refine m_putfS (y := yiJ4_deleteEntry) kc_18 2 (by decide) dJ4_deleteEntry_145 q1770 rfl (hFg12.2.1 c (by assumption)) rfl rfl (hp_put fun g13 g13H => ?_)
    have hFg13 := TmF.p2 (v := none) hFg12 (by assumption) g13H
    have hTg13 := TFr.put hTg12 (by assumption) g13H
    have hE9 : TmF g13 m (L.erase c) ko9 vl9 (dlA lf c (some r)) (dlA rt c (some r)) (dlP pa c (some r)) co (dlR root c (some r)) (sz - 1) (mc + 1) := TmF.ext hFg13 (fun a h9 => ((mem9 a).mp h9).2) (fun a h9 => dlA_q (fun b hb e9 => by { have y9 := hw.1 b hb e9; rw [hpc9] at y9; cases y9 }) a ((mem9 a).mp h9).2 ((mem9 a).mp h9).1) (fun a h9 => dlA_q (fun b hb e9 => by { have y9 := hw.2.1 b hb e9; rw [hpc9] at y9; cases y9 }) a ((mem9 a).mp h9).2 ((mem9 a).mp h9).1) (fun a h9 => dlP_p a ((mem9 a).mp h9).1) (by unfold dlR; rw [if_pos (hI.1.2.2.2.2.2.2.2.1 c hc hpc9)])
    refine m_aload_n (y := yiJ4_deleteEntry) dJ4_deleteEntry_148 rfl ?_
    refine m_getfS (y := yiJ4_deleteEntry) kc_18 5 (by decide) dJ4_deleteEntry_149 q1775 (hFg13.2.1 c (by assumption)) rfl ?_
    refine j_iconst (y := yiJ4_deleteEntry) dJ4_deleteEntry_152 ?_
    refine j_icmp_ne (y := yiJ4_deleteEntry) 245 dJ4_deleteEntry_153 (by decide) ⟨⟨by omega, by omega⟩, ⟨by omega, by omega⟩⟩ (fun c153 => ?_) (fun c153 => ?_)
    · subst hQ; exact j_vret (y := yiJ4_deleteEntry) dJ4_deleteEntry_245 rfl (DelQ.mk hL9 hp hc hD hTg13 hE9 hIE (fun r0 e9 => by { unfold dlR at e9; split at e9; { next e8 => exact absurd (hB c e8) c153 }; { exact hB r0 e9 } }))
    · have hB9 : ∀ r0, dlR root c (some r) = some r0 → co r0 = 1 ∨ r0 = r := fun r0 e9 => by { unfold dlR at e9; split at e9; { exact Or.inr (Option.some.inj e9).symm }; { exact Or.inl (hB r0 e9) } }
      refine m_aload_n (y := yiJ4_deleteEntry) dJ4_deleteEntry_156 rfl ?_
      refine m_aload_n (y := yiJ4_deleteEntry) dJ4_deleteEntry_157 rfl ?_
      refine m_invV (y := yiJ4_deleteEntry) (rB := (RJ4, TJ4, 9)) [(.ref r)] dJ4_deleteEntry_158 hFg13.1 rfl q1831 q1833 qs29 q128 q1834 rfl (c_J4_fixAfterDeletion (d := 1) r (fun _ => False) (by omega) hE9 hIE hrE hB9 (fun s h9 h8 => h8.elim)) pdJ4_fixAfterDeletion ⟨Nat.le_of_ble_eq_true rfl, by decide, by omega⟩ (kk_v fun h158 q158 => ?_) kx_v
      obtain ⟨hU158, lfX, rtX, paX, coX, loX, hiX, roX, hF158, hI158, hB158, -⟩ := q158
      refine mw_wf (fun hwf158 => ?_)
      refine m_goto (y := yiJ4_deleteEntry) 245 dJ4_deleteEntry_161 (by decide) ?_
      subst hQ; exact j_vret (y := yiJ4_deleteEntry) dJ4_deleteEntry_245 rfl (DelQ.mk hL9 hp hc hD (TFr.trans hTg13 ⟨hU158.1, hU158.2.1, fun b hb => hU158.2.2 b ⟨fun h9 => hb.1 ((mem9 b).mp h9).2, hb.2⟩⟩) hF158 hI158 hB158)
theorem dlA_p' {c g : Nat} {rep : Option Nat} (H : ∀ a, a ∈ L → lf a = some c → a = g) (hg : lf g = some c) : ∀ a, a ∈ L → dlA lf c rep a = upo lf g rep a := fun a ha => by
  by_cases e : a = g
  · rw [e, upo_at, dlA_y hg]
  · rw [upo_ne e, dlA_n (fun e9 => e (H a ha e9))]
theorem c_delA {p : Nat} (Q : OT → MH → Prop) (hd : 2 ≤ d) (hI : TmI L key lf rt pa lo hi root LO HI) (hp : p ∈ L) (hB : TmB co root) (hQ : (Rv fun h' => DelQ h h' m L key ko vl sz mc LO HI p) = Q) : (∀ (c : Nat) (ko9 : Nat → Nat) (vl9 : Nat → Option Nat) (g : MH), (c ∈ L) → (TmF g m L ko9 vl9 lf rt pa co root (sz - 1) (mc + 1)) → (TFr L m h g) → (DlC L key ko vl lf lo p c ko9 vl9) → (lf c = none) → (rt c = none) → MW K yiJ4_deleteEntry d g 57 [some (.ref m), some (.ref c), none] [] Q) := by
  intro c ko9 vl9 g hc hF hT hD hlc hrc
  refine mw_wf (fun hwf57 => ?_)
  have hL9 : L.Nodup := hI.1.1
  have mem9 : ∀ a, a ∈ L.erase c ↔ a ≠ c ∧ a ∈ L := fun a => hL9.mem_erase_iff
  have hw := hI.1.who hc
  have hcc := hF.2.2 c hc
  have hcp9 : c = p ∨ (c ≠ p ∧ lo c = key p) := hD.elim (fun h9 => Or.inl h9.1) (fun h9 => Or.inr ⟨h9.1, h9.2.2.1⟩)
  obtain ⟨lo9, hi9, hIE⟩ := hI.delE hp hc hlc hcp9
  refine m_aload_n (y := yiJ4_deleteEntry) dJ4_deleteEntry_57 rfl ?_
  refine m_getfS (y := yiJ4_deleteEntry) kc_18 2 (by decide) dJ4_deleteEntry_58 q1770 (hF.2.1 c (by assumption)) rfl ?_
  refine mw_topv (v' := .null) (congrArg va_rf (hlc)) ?_
  refine m_ifnull (y := yiJ4_deleteEntry) (x := none) 71 dJ4_deleteEntry_61 (by decide) (fun _ => ?_) (fun _ h9 => nomatch h9)
  refine m_aload_n (y := yiJ4_deleteEntry) dJ4_deleteEntry_71 rfl ?_
  refine m_getfS (y := yiJ4_deleteEntry) kc_18 3 (by decide) dJ4_deleteEntry_72 q1771 (hF.2.1 c (by assumption)) rfl ?_
  refine mw_topv (v' := .null) (congrArg va_rf (hrc)) ?_
  refine m_astore_nN (y := yiJ4_deleteEntry) dJ4_deleteEntry_75 (by decide) rfl ?_
  show MW K yiJ4_deleteEntry d g 76 [some (.ref m), some (.ref c), some .null] [] Q
  refine m_aload_nN (y := yiJ4_deleteEntry) dJ4_deleteEntry_76 rfl ?_
  refine m_ifnull (y := yiJ4_deleteEntry) (x := none) 164 dJ4_deleteEntry_77 (by decide) (fun _ => ?_) (fun _ h9 => nomatch h9)
  refine m_aload_n (y := yiJ4_deleteEntry) dJ4_deleteEntry_164 rfl ?_
  refine m_getfS (y := yiJ4_deleteEntry) kc_18 4 (by decide) dJ4_deleteEntry_165 q1773 (hF.2.1 c (by assumption)) rfl ?_
  refine m_ifnonnull (y := yiJ4_deleteEntry) 179 dJ4_deleteEntry_168 (by decide) (fun a168 c168 => ?_) (fun c168 => ?_)
  · have hpg := hw.2.2 a168 c168
    have hnr : root ≠ some c := fun e9 => by { have y9 := (hI.1.2.2.1 c e9).2.1; rw [c168] at y9; cases y9 }
    refine m_aload_n (y := yiJ4_deleteEntry) dJ4_deleteEntry_179 rfl ?_
    refine m_getfS (y := yiJ4_deleteEntry) kc_18 5 (by decide) dJ4_deleteEntry_180 q1775 (hF.2.1 c (by assumption)) rfl ?_
    refine j_iconst (y := yiJ4_deleteEntry) dJ4_deleteEntry_183 ?_
    refine j_icmp_ne (y := yiJ4_deleteEntry) 192 dJ4_deleteEntry_184 (by decide) ⟨⟨by omega, by omega⟩, ⟨by omega, by omega⟩⟩ (fun c184 => ?_) (fun c184 => ?_)
    · have hnr9 : ∀ q, root = some q → q ≠ c := fun q h9 h8 => by { subst h8; exact hpg.2.1 (hI.1.leafroot h9 hlc hrc a168 hpg.1) }
      obtain ⟨a196, c196⟩ := hI.1.noroot hc (fun e9 => hnr9 c e9 rfl)
      refine m_aload_n (y := yiJ4_deleteEntry) dJ4_deleteEntry_192 rfl ?_
      refine m_getfS (y := yiJ4_deleteEntry) kc_18 4 (by decide) dJ4_deleteEntry_193 q1773 (hF.2.1 c (by assumption)) rfl ?_
      refine mw_topv (v' := .ref a196) (congrArg va_rf (c196)) ?_
      refine m_ifnull (y := yiJ4_deleteEntry) (x := (some a196)) 245 dJ4_deleteEntry_196 (by decide) (fun h9 => nomatch h9) (fun _ _ => ?_)
      have hw9 := hI.1.who hc
      have hg9 := hw9.2.2 a196 c196
      have hgL := hg9.1
      obtain ⟨lo8, hi8, hIF⟩ := hI.delE hp hc hlc (hcp9.elim Or.inl (fun h9 => Or.inr ⟨h9.1, (rfl).trans h9.2⟩))
      refine m_aload_n (y := yiJ4_deleteEntry) dJ4_deleteEntry_199 rfl ?_
      refine m_aload_n (y := yiJ4_deleteEntry) dJ4_deleteEntry_200 rfl ?_
      refine m_getfS (y := yiJ4_deleteEntry) kc_18 4 (by decide) dJ4_deleteEntry_201 q1773 (hF.2.1 c (by assumption)) rfl ?_
      refine mw_topv (v' := .ref a196) (congrArg va_rf (c196)) ?_
      refine m_getfS (y := yiJ4_deleteEntry) kc_18 2 (by decide) dJ4_deleteEntry_204 q1770 (hF.2.1 a196 (by assumption)) rfl ?_
      refine m_acmp_ne (y := yiJ4_deleteEntry) (x := (some c)) (z := (lf a196)) 221 dJ4_deleteEntry_207 (by decide) (fun c207 => ?_) (fun c207 => ?_)
      · have hg8 := hg9.2.2.resolve_left (fun h9 => c207 h9.1.symm)
        refine m_aload_n (y := yiJ4_deleteEntry) dJ4_deleteEntry_221 rfl ?_
        refine m_aload_n (y := yiJ4_deleteEntry) dJ4_deleteEntry_222 rfl ?_
        refine m_getfS (y := yiJ4_deleteEntry) kc_18 4 (by decide) dJ4_deleteEntry_223 q1773 (hF.2.1 c (by assumption)) rfl ?_
        refine mw_topv (v' := .ref a196) (congrArg va_rf (c196)) ?_
        refine m_getfS (y := yiJ4_deleteEntry) kc_18 3 (by decide) dJ4_deleteEntry_226 q1771 (hF.2.1 a196 (by assumption)) rfl ?_
        refine m_acmp_ne (y := yiJ4_deleteEntry) (x := (some c)) (z := (rt a196)) 240 dJ4_deleteEntry_229 (by decide) (fun c => False.elim (by exact c hg8.1.symm)) (fun _ => ?_)
        have hu9 : ∀ a, a ∈ L → rt a = some c → a = a196 := fun a ha e9 => Option.some.inj ((hw9.2.1 a ha e9).symm.trans c196)
        refine m_aload_n (y := yiJ4_deleteEntry) dJ4_deleteEntry_232 rfl ?_
        refine m_getfS (y := yiJ4_deleteEntry) kc_18 4 (by decide) dJ4_deleteEntry_233 q1773 (hF.2.1 c (by assumption)) rfl ?_
        refine mw_topv (v' := .ref a196) (congrArg va_rf (c196)) ?_
        refine m_null (y := yiJ4_deleteEntry) dJ4_deleteEntry_236 ?_
        refine m_putfS (y := yiJ4_deleteEntry) kc_18 3 (by decide) dJ4_deleteEntry_237 q1771 rfl (hF.2.1 a196 (by assumption)) rfl rfl (hp_put fun g1 g1H => ?_)
        have hFg1 := TmF.p3 (v := none) hF (by assumption) g1H
        have hTg1 := TFr.put hT (by assumption) g1H
        refine m_aload_n (y := yiJ4_deleteEntry) dJ4_deleteEntry_240 rfl ?_
        refine m_null (y := yiJ4_deleteEntry) dJ4_deleteEntry_241 ?_
        refine m_putfS (y := yiJ4_deleteEntry) kc_18 4 (by decide) dJ4_deleteEntry_242 q1773 rfl (hFg1.2.1 c (by assumption)) rfl rfl (hp_put fun g2 g2H => ?_)
        have hFg2 := TmF.p4 (v := none) hFg1 (by assumption) g2H
        have hTg2 := TFr.put hTg1 (by assumption) g2H
        subst hQ; exact j_vret (y := yiJ4_deleteEntry) dJ4_deleteEntry_245 rfl (DelQ.mk hL9 hp hc hD hTg2 (TmF.ext hFg2 (fun a h9 => ((mem9 a).mp h9).2) (fun a h9 => (by rw [hrc]; exact dlA_n (hg8.2.2 a ((mem9 a).mp h9).2))) (fun a h9 => (by rw [hrc]; exact dlA_p' hu9 hg8.1 a ((mem9 a).mp h9).2)) (fun a h9 => (by rw [hrc]; exact dlP_o a ((mem9 a).mp h9).1)) (by unfold dlR; rw [if_neg (fun h9 => hnr9 c h9 rfl)])) hIF (fun r0 e9 => by { unfold dlR at e9; rw [if_neg (fun h9 => hnr9 c h9 rfl)] at e9; exact hB r0 e9 }))
      · have hl9 : lf a196 = some c := c207.symm
        have hr8 : ∀ a, a ∈ L → rt a ≠ some c := (hg9.2.2.elim (fun h9 => h9.2) (fun h9 => absurd hl9 h9.2.1))
        have hu9 : ∀ a, a ∈ L → lf a = some c → a = a196 := fun a ha e9 => Option.some.inj ((hw9.1 a ha e9).symm.trans c196)
        refine m_aload_n (y := yiJ4_deleteEntry) dJ4_deleteEntry_210 rfl ?_
        refine m_getfS (y := yiJ4_deleteEntry) kc_18 4 (by decide) dJ4_deleteEntry_211 q1773 (hF.2.1 c (by assumption)) rfl ?_
        refine mw_topv (v' := .ref a196) (congrArg va_rf (c196)) ?_
        refine m_null (y := yiJ4_deleteEntry) dJ4_deleteEntry_214 ?_
        refine m_putfS (y := yiJ4_deleteEntry) kc_18 2 (by decide) dJ4_deleteEntry_215 q1770 rfl (hF.2.1 a196 (by assumption)) rfl rfl (hp_put fun g3 g3H => ?_)
        have hFg3 := TmF.p2 (v := none) hF (by assumption) g3H
        have hTg3 := TFr.put hT (by assumption) g3H
        refine m_goto (y := yiJ4_deleteEntry) 240 dJ4_deleteEntry_218 (by decide) ?_
        refine m_aload_n (y := yiJ4_deleteEntry) dJ4_deleteEntry_240 rfl ?_
        refine m_null (y := yiJ4_deleteEntry) dJ4_deleteEntry_241 ?_
        refine m_putfS (y := yiJ4_deleteEntry) kc_18 4 (by decide) dJ4_deleteEntry_242 q1773 rfl (hFg3.2.1 c (by assumption)) rfl rfl (hp_put fun g4 g4H => ?_)
        have hFg4 := TmF.p4 (v := none) hFg3 (by assumption) g4H
        have hTg4 := TFr.put hTg3 (by assumption) g4H
        subst hQ; exact j_vret (y := yiJ4_deleteEntry) dJ4_deleteEntry_245 rfl (DelQ.mk hL9 hp hc hD hTg4 (TmF.ext hFg4 (fun a h9 => ((mem9 a).mp h9).2) (fun a h9 => (by rw [hrc]; exact dlA_p' hu9 hl9 a ((mem9 a).mp h9).2)) (fun a h9 => (by rw [hrc]; exact dlA_n (hr8 a ((mem9 a).mp h9).2))) (fun a h9 => (by rw [hrc]; exact dlP_o a ((mem9 a).mp h9).1)) (by unfold dlR; rw [if_neg (fun h9 => hnr9 c h9 rfl)])) hIF (fun r0 e9 => by { unfold dlR at e9; rw [if_neg (fun h9 => hnr9 c h9 rfl)] at e9; exact hB r0 e9 }))
    · have hk9 : ∀ s, s ∈ L → s = c → PrS key lf rt lo hi c s := fun s h9 h8 => by { subst h8; have b9 := hI.1.bd h9; exact ⟨⟨b9.1, b9.2.1⟩, hlc, hrc⟩ }
      refine m_aload_n (y := yiJ4_deleteEntry) dJ4_deleteEntry_187 rfl ?_
      refine m_aload_n (y := yiJ4_deleteEntry) dJ4_deleteEntry_188 rfl ?_
      refine m_invV (y := yiJ4_deleteEntry) (rB := (RJ4, TJ4, 9)) [(.ref c)] dJ4_deleteEntry_189 hF.1 rfl q1831 q1833 qs29 q128 q1834 rfl (c_J4_fixAfterDeletion (d := 1) c (fun s => s = c) (by omega) hF hI hc (fun r0 e9 => Or.inl (hB r0 e9)) hk9) pdJ4_fixAfterDeletion ⟨Nat.le_of_ble_eq_true rfl, by decide, by omega⟩ (kk_v fun h189 q189 => ?_) kx_v
      obtain ⟨hU189, lfX, rtX, paX, coX, loX, hiX, roX, hF189, hI189, hB189, hS189⟩ := q189
      have hT189 := TFr.trans hT hU189
      obtain ⟨hS1, hS2, hS3⟩ := hS189 c hc rfl
      refine mw_wf (fun hwf189 => ?_)
      have hnr9 : ∀ q, roX = some q → q ≠ c := fun q h9 h8 => by { subst h8; exact hpg.2.1 (hI189.1.leafroot h9 hS1 hS2 a168 hpg.1) }
      obtain ⟨a196, c196⟩ := hI189.1.noroot hc (fun e9 => hnr9 c e9 rfl)
      refine m_aload_n (y := yiJ4_deleteEntry) dJ4_deleteEntry_192 rfl ?_
      refine m_getfS (y := yiJ4_deleteEntry) kc_18 4 (by decide) dJ4_deleteEntry_193 q1773 (hF189.2.1 c (by assumption)) rfl ?_
      refine mw_topv (v' := .ref a196) (congrArg va_rf (c196)) ?_
      refine m_ifnull (y := yiJ4_deleteEntry) (x := (some a196)) 245 dJ4_deleteEntry_196 (by decide) (fun h9 => nomatch h9) (fun _ _ => ?_)
      have hw9 := hI189.1.who hc
      have hg9 := hw9.2.2 a196 c196
      have hgL := hg9.1
      obtain ⟨lo8, hi8, hIF⟩ := hI189.delE hp hc hS1 (hcp9.elim Or.inl (fun h9 => Or.inr ⟨h9.1, (hS3).trans h9.2⟩))
      refine m_aload_n (y := yiJ4_deleteEntry) dJ4_deleteEntry_199 rfl ?_
      refine m_aload_n (y := yiJ4_deleteEntry) dJ4_deleteEntry_200 rfl ?_
      refine m_getfS (y := yiJ4_deleteEntry) kc_18 4 (by decide) dJ4_deleteEntry_201 q1773 (hF189.2.1 c (by assumption)) rfl ?_
      refine mw_topv (v' := .ref a196) (congrArg va_rf (c196)) ?_
      refine m_getfS (y := yiJ4_deleteEntry) kc_18 2 (by decide) dJ4_deleteEntry_204 q1770 (hF189.2.1 a196 (by assumption)) rfl ?_
      refine m_acmp_ne (y := yiJ4_deleteEntry) (x := (some c)) (z := (lfX a196)) 221 dJ4_deleteEntry_207 (by decide) (fun c207 => ?_) (fun c207 => ?_)
      · have hg8 := hg9.2.2.resolve_left (fun h9 => c207 h9.1.symm)
        refine m_aload_n (y := yiJ4_deleteEntry) dJ4_deleteEntry_221 rfl ?_
        refine m_aload_n (y := yiJ4_deleteEntry) dJ4_deleteEntry_222 rfl ?_
        refine m_getfS (y := yiJ4_deleteEntry) kc_18 4 (by decide) dJ4_deleteEntry_223 q1773 (hF189.2.1 c (by assumption)) rfl ?_
        refine mw_topv (v' := .ref a196) (congrArg va_rf (c196)) ?_
        refine m_getfS (y := yiJ4_deleteEntry) kc_18 3 (by decide) dJ4_deleteEntry_226 q1771 (hF189.2.1 a196 (by assumption)) rfl ?_
        refine m_acmp_ne (y := yiJ4_deleteEntry) (x := (some c)) (z := (rtX a196)) 240 dJ4_deleteEntry_229 (by decide) (fun c => False.elim (by exact c hg8.1.symm)) (fun _ => ?_)
        have hu9 : ∀ a, a ∈ L → rtX a = some c → a = a196 := fun a ha e9 => Option.some.inj ((hw9.2.1 a ha e9).symm.trans c196)
        refine m_aload_n (y := yiJ4_deleteEntry) dJ4_deleteEntry_232 rfl ?_
        refine m_getfS (y := yiJ4_deleteEntry) kc_18 4 (by decide) dJ4_deleteEntry_233 q1773 (hF189.2.1 c (by assumption)) rfl ?_
        refine mw_topv (v' := .ref a196) (congrArg va_rf (c196)) ?_
        refine m_null (y := yiJ4_deleteEntry) dJ4_deleteEntry_236 ?_
        refine m_putfS (y := yiJ4_deleteEntry) kc_18 3 (by decide) dJ4_deleteEntry_237 q1771 rfl (hF189.2.1 a196 (by assumption)) rfl rfl (hp_put fun g5 g5H => ?_)
        have hFg5 := TmF.p3 (v := none) hF189 (by assumption) g5H
        have hTg5 := TFr.put hT189 (by assumption) g5H
        refine m_aload_n (y := yiJ4_deleteEntry) dJ4_deleteEntry_240 rfl ?_
        refine m_null (y := yiJ4_deleteEntry) dJ4_deleteEntry_241 ?_
        refine m_putfS (y := yiJ4_deleteEntry) kc_18 4 (by decide) dJ4_deleteEntry_242 q1773 rfl (hFg5.2.1 c (by assumption)) rfl rfl (hp_put fun g6 g6H => ?_)
        have hFg6 := TmF.p4 (v := none) hFg5 (by assumption) g6H
        have hTg6 := TFr.put hTg5 (by assumption) g6H
        subst hQ; exact j_vret (y := yiJ4_deleteEntry) dJ4_deleteEntry_245 rfl (DelQ.mk hL9 hp hc hD hTg6 (TmF.ext hFg6 (fun a h9 => ((mem9 a).mp h9).2) (fun a h9 => (by rw [hS2]; exact dlA_n (hg8.2.2 a ((mem9 a).mp h9).2))) (fun a h9 => (by rw [hS2]; exact dlA_p' hu9 hg8.1 a ((mem9 a).mp h9).2)) (fun a h9 => (by rw [hS2]; exact dlP_o a ((mem9 a).mp h9).1)) (by unfold dlR; rw [if_neg (fun h9 => hnr9 c h9 rfl)])) hIF (fun r0 e9 => by { unfold dlR at e9; rw [if_neg (fun h9 => hnr9 c h9 rfl)] at e9; exact hB189 r0 e9 }))
      · have hl9 : lfX a196 = some c := c207.symm
        have hr8 : ∀ a, a ∈ L → rtX a ≠ some c := (hg9.2.2.elim (fun h9 => h9.2) (fun h9 => absurd hl9 h9.2.1))
        have hu9 : ∀ a, a ∈ L → lfX a = some c → a = a196 := fun a ha e9 => Option.some.inj ((hw9.1 a ha e9).symm.trans c196)
        refine m_aload_n (y := yiJ4_deleteEntry) dJ4_deleteEntry_210 rfl ?_
        refine m_getfS (y := yiJ4_deleteEntry) kc_18 4 (by decide) dJ4_deleteEntry_211 q1773 (hF189.2.1 c (by assumption)) rfl ?_
        refine mw_topv (v' := .ref a196) (congrArg va_rf (c196)) ?_
        refine m_null (y := yiJ4_deleteEntry) dJ4_deleteEntry_214 ?_
        refine m_putfS (y := yiJ4_deleteEntry) kc_18 2 (by decide) dJ4_deleteEntry_215 q1770 rfl (hF189.2.1 a196 (by assumption)) rfl rfl (hp_put fun g7 g7H => ?_)
        have hFg7 := TmF.p2 (v := none) hF189 (by assumption) g7H
        have hTg7 := TFr.put hT189 (by assumption) g7H
        refine m_goto (y := yiJ4_deleteEntry) 240 dJ4_deleteEntry_218 (by decide) ?_
        refine m_aload_n (y := yiJ4_deleteEntry) dJ4_deleteEntry_240 rfl ?_
        refine m_null (y := yiJ4_deleteEntry) dJ4_deleteEntry_241 ?_
        refine m_putfS (y := yiJ4_deleteEntry) kc_18 4 (by decide) dJ4_deleteEntry_242 q1773 rfl (hFg7.2.1 c (by assumption)) rfl rfl (hp_put fun g8 g8H => ?_)
        have hFg8 := TmF.p4 (v := none) hFg7 (by assumption) g8H
        have hTg8 := TFr.put hTg7 (by assumption) g8H
        subst hQ; exact j_vret (y := yiJ4_deleteEntry) dJ4_deleteEntry_245 rfl (DelQ.mk hL9 hp hc hD hTg8 (TmF.ext hFg8 (fun a h9 => ((mem9 a).mp h9).2) (fun a h9 => (by rw [hS2]; exact dlA_p' hu9 hl9 a ((mem9 a).mp h9).2)) (fun a h9 => (by rw [hS2]; exact dlA_n (hr8 a ((mem9 a).mp h9).2))) (fun a h9 => (by rw [hS2]; exact dlP_o a ((mem9 a).mp h9).1)) (by unfold dlR; rw [if_neg (fun h9 => hnr9 c h9 rfl)])) hIF (fun r0 e9 => by { unfold dlR at e9; rw [if_neg (fun h9 => hnr9 c h9 rfl)] at e9; exact hB189 r0 e9 }))
  · have hro : root = some c := hI.1.2.2.2.2.2.2.2.1 c hc c168
    refine m_aload_n (y := yiJ4_deleteEntry) dJ4_deleteEntry_171 rfl ?_
    refine m_null (y := yiJ4_deleteEntry) dJ4_deleteEntry_172 ?_
    refine m_putfS (y := yiJ4_deleteEntry) kc_17 3 (by decide) dJ4_deleteEntry_173 q240 rfl hF.1 rfl rfl (hp_put fun g9 g9H => ?_)
    have hFg9 := TmF.m3 (v := none) hF g9H
    have hTg9 := TFr.putm hT g9H
    have hE9 : TmF g9 m (L.erase c) ko9 vl9 (dlA lf c (rt c)) (dlA rt c (rt c)) (dlP pa c (rt c)) co (dlR root c (rt c)) (sz - 1) (mc + 1) := TmF.ext hFg9 (fun a h9 => ((mem9 a).mp h9).2) (fun a h9 => absurd (hI.1.leafroot hro hlc hrc a ((mem9 a).mp h9).2) ((mem9 a).mp h9).1) (fun a h9 => absurd (hI.1.leafroot hro hlc hrc a ((mem9 a).mp h9).2) ((mem9 a).mp h9).1) (fun a h9 => absurd (hI.1.leafroot hro hlc hrc a ((mem9 a).mp h9).2) ((mem9 a).mp h9).1) (by unfold dlR; rw [if_pos hro]; exact hrc)
    refine m_goto (y := yiJ4_deleteEntry) 245 dJ4_deleteEntry_176 (by decide) ?_
    subst hQ; exact j_vret (y := yiJ4_deleteEntry) dJ4_deleteEntry_245 rfl (DelQ.mk hL9 hp hc hD hTg9 hE9 hIE (fun r0 e9 => by { unfold dlR at e9; rw [if_pos hro, hrc] at e9; cases e9 }))
end TREE
section TREE
variable {K : KT} {d : Nat} {h : MH} {m : Nat} {L : List Nat} {key : Nat → Int} {ko : Nat → Nat} {vl lf rt pa : Nat → Option Nat} {co lo hi : Nat → Int} {root : Option Nat} {sz mc LO HI : Int}
theorem c_del57 {p c : Nat} {g : MH} {ko9 : Nat → Nat} {vl9 : Nat → Option Nat} (Q : OT → MH → Prop) (hd : 2 ≤ d) (hI : TmI L key lf rt pa lo hi root LO HI) (hp : p ∈ L) (hB : TmB co root) (hQ : (Rv fun h' => DelQ h h' m L key ko vl sz mc LO HI p) = Q) (hc : c ∈ L) (hF : TmF g m L ko9 vl9 lf rt pa co root (sz - 1) (mc + 1)) (hT : TFr L m h g) (hD : DlC L key ko vl lf lo p c ko9 vl9) (h1 : lf c = none ∨ (rt c = none ∧ c = p)) : MW K yiJ4_deleteEntry d g 57 [some (.ref m), some (.ref c), none] [] Q := by
  cases e1 : lf c with
  | none =>
    cases e2 : rt c with
    | none => exact c_delA Q hd hI hp hB hQ c ko9 vl9 g hc hF hT hD e1 e2
    | some r => exact c_delB Q hd hI hp hB hQ c ko9 vl9 g hc hF hT hD ⟨r, e2⟩ e1
  | some r =>
    have z := h1.resolve_left (by rw [e1]; intro h9; cases h9)
    exact c_delC Q hd hI hp hB hQ c ko9 vl9 g hc hF hT hD ⟨r, e1⟩ z.1 z.2
theorem c_J4_deleteEntry {p : Nat} (hd : 2 ≤ d) (hF : TmF h m L ko vl lf rt pa co root sz mc) (hI : TmI L key lf rt pa lo hi root LO HI) (hp : p ∈ L) (hB : TmB co root) : Mt K yiJ4_deleteEntry d [.ref m, .ref p] h (Rv fun h' => DelQ h h' m L key ko vl sz mc LO HI p) := by
  have hT : TFr L m h h := TFr.refl
  refine mt_ofQ (by decide) (Nat.le_of_ble_eq_true rfl) (fun Q hQ => ?_)
  show MW K yiJ4_deleteEntry d h 0 [some (.ref m), some (.ref p), none] [] Q
  refine mw_wf (fun hwf => ?_)
  refine m_aload_n (y := yiJ4_deleteEntry) dJ4_deleteEntry_0 rfl ?_
  refine m_dup (y := yiJ4_deleteEntry) dJ4_deleteEntry_1 rfl ?_
  refine m_getfS (y := yiJ4_deleteEntry) kc_17 5 (by decide) dJ4_deleteEntry_2 q242 hF.1 rfl ?_
  refine j_iconst (y := yiJ4_deleteEntry) dJ4_deleteEntry_5 ?_
  refine j_iadd (y := yiJ4_deleteEntry) dJ4_deleteEntry_6 ?_
  refine m_putfS (y := yiJ4_deleteEntry) kc_17 5 (by decide) dJ4_deleteEntry_7 q242 rfl hF.1 rfl rfl (hp_put fun g1 g1H => ?_)
  have hFg1 := TmF.m5 hF g1H
  have hTg1 := TFr.putm hT g1H
  refine m_aload_n (y := yiJ4_deleteEntry) dJ4_deleteEntry_10 rfl ?_
  refine m_dup (y := yiJ4_deleteEntry) dJ4_deleteEntry_11 rfl ?_
  refine m_getfS (y := yiJ4_deleteEntry) kc_17 4 (by decide) dJ4_deleteEntry_12 q241 hFg1.1 rfl ?_
  refine j_iconst (y := yiJ4_deleteEntry) dJ4_deleteEntry_15 ?_
  refine j_isub (y := yiJ4_deleteEntry) dJ4_deleteEntry_16 ?_
  refine m_putfS (y := yiJ4_deleteEntry) kc_17 4 (by decide) dJ4_deleteEntry_17 q241 rfl hFg1.1 rfl rfl (hp_put fun g2 g2H => ?_)
  have hFg2 := TmF.m4 hFg1 g2H
  have hTg2 := TFr.putm hTg1 g2H
  refine m_aload_n (y := yiJ4_deleteEntry) dJ4_deleteEntry_20 rfl ?_
  refine m_getfS (y := yiJ4_deleteEntry) kc_18 2 (by decide) dJ4_deleteEntry_21 q1770 (hFg2.2.1 p (by assumption)) rfl ?_
  refine m_ifnull (y := yiJ4_deleteEntry) 57 dJ4_deleteEntry_24 (by decide) (fun c24 => ?_) (fun a24 c24 => ?_)
  · refine mw_forget 2 ?_
    exact c_del57 Q hd hI hp hB hQ hp hFg2 hTg2 (Or.inl ⟨rfl, rfl, rfl⟩) (by first | exact Or.inl c24 | exact Or.inr ⟨c31, rfl⟩)
  · refine m_aload_n (y := yiJ4_deleteEntry) dJ4_deleteEntry_27 rfl ?_
    refine m_getfS (y := yiJ4_deleteEntry) kc_18 3 (by decide) dJ4_deleteEntry_28 q1771 (hFg2.2.1 p (by assumption)) rfl ?_
    refine m_ifnull (y := yiJ4_deleteEntry) 57 dJ4_deleteEntry_31 (by decide) (fun c31 => ?_) (fun a31 c31 => ?_)
    · refine mw_forget 2 ?_
      exact c_del57 Q hd hI hp hB hQ hp hFg2 hTg2 (Or.inl ⟨rfl, rfl, rfl⟩) (by first | exact Or.inl c24 | exact Or.inr ⟨c31, rfl⟩)
    · refine m_aload_n (y := yiJ4_deleteEntry) dJ4_deleteEntry_34 rfl ?_
      refine m_invS (y := yiJ4_deleteEntry) [(.ref p)] dJ4_deleteEntry_35 q1828 q1829 q128 q1830 (c_J4_successor hFg2 hI hp c31) pdJ4_successor ⟨Nat.le_of_ble_eq_true rfl, by decide, by omega⟩ (kk_r fun r35 h35 q35 => ?_) kx_r
      obtain ⟨rfl, ⟨hsL, hsn⟩, hsl, hso⟩ := q35
      refine m_astore_n (y := yiJ4_deleteEntry) dJ4_deleteEntry_38 (by decide) rfl ?_
      show MW K yiJ4_deleteEntry d g2 39 [some (.ref m), some (.ref p), some (.ref r35)] [] Q
      refine m_aload_n (y := yiJ4_deleteEntry) dJ4_deleteEntry_39 rfl ?_
      refine m_aload_n (y := yiJ4_deleteEntry) dJ4_deleteEntry_40 rfl ?_
      refine m_getfS (y := yiJ4_deleteEntry) kc_18 0 (by decide) dJ4_deleteEntry_41 q1767 (hFg2.2.1 r35 (by assumption)) rfl ?_
      refine m_putfS (y := yiJ4_deleteEntry) kc_18 0 (by decide) dJ4_deleteEntry_44 q1767 rfl (hFg2.2.1 p (by assumption)) rfl rfl (hp_put fun g3 g3H => ?_)
      have hFg3 := TmF.p0 hFg2 (by assumption) g3H
      have hTg3 := TFr.put hTg2 (by assumption) g3H
      refine m_aload_n (y := yiJ4_deleteEntry) dJ4_deleteEntry_47 rfl ?_
      refine m_aload_n (y := yiJ4_deleteEntry) dJ4_deleteEntry_48 rfl ?_
      refine m_getfS (y := yiJ4_deleteEntry) kc_18 1 (by decide) dJ4_deleteEntry_49 q1769 (hFg3.2.1 r35 (by assumption)) rfl ?_
      refine m_putfS (y := yiJ4_deleteEntry) kc_18 1 (by decide) dJ4_deleteEntry_52 q1769 rfl (hFg3.2.1 p (by assumption)) (by cases vl r35 <;> rfl) (by cases vl r35 <;> rfl) (hp_put fun g4 g4H => ?_)
      have hFg4 := TmF.p1 (v := (vl r35)) hFg3 (by assumption) g4H
      have hTg4 := TFr.put hTg3 (by assumption) g4H
      refine m_aload_n (y := yiJ4_deleteEntry) dJ4_deleteEntry_55 rfl ?_
      refine m_astore_n (y := yiJ4_deleteEntry) dJ4_deleteEntry_56 (by decide) rfl ?_
      show MW K yiJ4_deleteEntry d g4 57 [some (.ref m), some (.ref r35), some (.ref r35)] [] Q
      refine mw_forget 2 ?_
      exact c_del57 Q hd hI hp hB hQ hsL hFg4 hTg4 (Or.inr ⟨hsn, hsl, hso, rfl, rfl⟩) (Or.inl hsl)
end TREE
