/-! sorting rides: plain words, and what the small methods of the sort do -/
/-- q is a ride of rank rk q -/
def RdS (h : MH) (rk : Nat → Int) (q : Nat) : Prop := ∃ k u c, RdC h k u c q ∧ (-10000 ≤ k ∧ k ≤ 10000) ∧ (0 ≤ u ∧ u < 100) ∧ (0 ≤ c ∧ c < 10) ∧ rk q = rk3 k u c
theorem RdC.up {h h' : MH} {k u c : Int} {q : Nat} (L : RdC h k u c q) (e1 : ∀ b w ci fs, ci ≠ 26 → h.2.2 b = some (w, .inr (ci, fs)) → h'.2.2 b = h.2.2 b) : RdC h' k u c q := by
  obtain ⟨ru, tr, sh, sa, aa, da, h1, h2⟩ := L
  exact ⟨ru, tr, sh, sa, aa, da, (e1 _ _ _ _ (by decide) h1).trans h1, (e1 _ _ _ _ (by decide) h2).trans h2⟩
theorem RdS.up {h h' : MH} {rk : Nat → Int} {q : Nat} (L : RdS h rk q) (e1 : ∀ b w ci fs, ci ≠ 26 → h.2.2 b = some (w, .inr (ci, fs)) → h'.2.2 b = h.2.2 b) : RdS h' rk q := by
  obtain ⟨k, u, c, h1, h2⟩ := L
  exact ⟨k, u, c, h1.up e1, h2⟩
theorem RdS.cell {h : MH} {rk : Nat → Int} {q : Nat} (L : RdS h rk q) : ∃ (ru : Nat) (c k : Int), h.2.2 q = some (true, .inr (8, [.ref ru, vi c, vi k])) := by
  obtain ⟨k, u, c, ⟨ru, tr, sh, sa, aa, da, h1, -⟩, -⟩ := L
  exact ⟨ru, c, k, h1⟩
theorem RdS.iso {h : MH} {rk : Nat → Int} {q : Nat} (L : RdS h rk q) : IsO h q := by
  obtain ⟨ru, c, k, h1⟩ := L.cell
  exact iso_of h1 rfl
theorem c_cmp (K : KT) (d : Nat) (h : MH) (rk : Nat → Int) (q q' : Nat) (hd : 1 ≤ d) (hq : RdS h rk q) (hq' : RdS h rk q') : Mt K yiX9_compareTo d [.ref q, .ref q'] h (Rz fun v h' => h = h' ∧ sgn (rk q) (rk q') v) := by
  obtain ⟨k, u, c, h1, h2, h3, h4, h5⟩ := hq
  obtain ⟨k', u', c', h1', h2', h3', h4', h5'⟩ := hq'
  rw [h5, h5']
  exact c_X9_compareTo K d h q q' k u c k' u' c' hd h1 h1' ⟨h2, h2'⟩ ⟨h3, h3'⟩ ⟨h4, h4'⟩
/-- ascending on a stretch -/
def Asc (rk : Nat → Int) (p : Int → Nat) (a b : Int) : Prop := ∀ i j, a ≤ i → i < j → j < b → rk (p i) < rk (p j)
def Dsc (rk : Nat → Int) (p : Int → Nat) (a b : Int) : Prop := ∀ i j, a ≤ i → i < j → j < b → rk (p j) < rk (p i)
def Inj (rk : Nat → Int) (p : Int → Nat) (a b : Int) : Prop := ∀ i j, a ≤ i → i < j → j < b → rk (p i) ≠ rk (p j)
/-- the same elements on a stretch, and no others elsewhere changed -/
def Sms (p p' : Int → Nat) (a b : Int) : Prop := (∀ i, a ≤ i → i < b → ∃ j, a ≤ j ∧ j < b ∧ p' i = p j) ∧ (∀ i, a ≤ i → i < b → ∃ j, a ≤ j ∧ j < b ∧ p i = p' j) ∧ ∀ i, i < a ∨ b ≤ i → p' i = p i
theorem Sms.rfl' {p : Int → Nat} {a b : Int} : Sms p p a b := ⟨fun i h1 h2 => ⟨i, h1, h2, rfl⟩, fun i h1 h2 => ⟨i, h1, h2, rfl⟩, fun _ _ => rfl⟩
theorem Sms.tr {p q r : Int → Nat} {a b : Int} (h1 : Sms p q a b) (h2 : Sms q r a b) : Sms p r a b := by
  refine ⟨fun i a1 a2 => ?_, fun i a1 a2 => ?_, fun i h => (h2.2.2 i h).trans (h1.2.2 i h)⟩
  · obtain ⟨j, b1, b2, b3⟩ := h2.1 i a1 a2
    obtain ⟨k, c1, c2, c3⟩ := h1.1 j b1 b2
    exact ⟨k, c1, c2, b3.trans c3⟩
  · obtain ⟨j, b1, b2, b3⟩ := h1.2.1 i a1 a2
    obtain ⟨k, c1, c2, c3⟩ := h2.2.1 j b1 b2
    exact ⟨k, c1, c2, b3.trans c3⟩
/-- a change on a smaller stretch is one on a larger -/
theorem Sms.wide {p q : Int → Nat} {a b a' b' : Int} (h1 : Sms p q a b) (h : a' ≤ a ∧ b ≤ b') : Sms p q a' b' := by
  refine ⟨fun i a1 a2 => ?_, fun i a1 a2 => ?_, fun i h => h1.2.2 i (by omega)⟩
  · by_cases e : a ≤ i ∧ i < b
    · obtain ⟨j, b1, b2, b3⟩ := h1.1 i e.1 e.2
      exact ⟨j, by omega, by omega, b3⟩
    · exact ⟨i, a1, a2, h1.2.2 i (by omega)⟩
  · by_cases e : a ≤ i ∧ i < b
    · obtain ⟨j, b1, b2, b3⟩ := h1.2.1 i e.1 e.2
      exact ⟨j, by omega, by omega, b3⟩
    · exact ⟨i, a1, a2, (h1.2.2 i (by omega)).symm⟩
/-- a place taken out and put in at l -/
def insP (p : Int → Nat) (l s : Int) : Int → Nat := fun i => if i = l then p s else if l < i ∧ i ≤ s then p (i - 1) else p i
theorem insP_sms {p : Int → Nat} {a l s b : Int} (h : a ≤ l ∧ l ≤ s ∧ s < b) : Sms p (insP p l s) a b := by
  refine ⟨fun i a1 a2 => ?_, fun i a1 a2 => ?_, fun i h9 => ?_⟩
  · unfold insP
    by_cases e : i = l
    · rw [if_pos e]; exact ⟨s, by omega, by omega, rfl⟩
    · rw [if_neg e]
      by_cases e2 : l < i ∧ i ≤ s
      · rw [if_pos e2]; exact ⟨i - 1, by omega, by omega, rfl⟩
      · rw [if_neg e2]; exact ⟨i, a1, a2, rfl⟩
  · by_cases e : i = s
    · exact ⟨l, by omega, by omega, by unfold insP; rw [if_pos rfl, e]⟩
    · by_cases e2 : l ≤ i ∧ i < s
      · exact ⟨i + 1, by omega, by omega, by unfold insP; rw [if_neg (by omega), if_pos (by omega), show i + 1 - 1 = i by omega]⟩
      · exact ⟨i, a1, a2, by unfold insP; rw [if_neg (by omega), if_neg (by omega)]⟩
  · unfold insP; rw [if_neg (by omega), if_neg (by omega)]
theorem insP_asc {rk : Nat → Int} {p : Int → Nat} {a l s : Int} (h : a ≤ l ∧ l ≤ s) (hA : Asc rk p a s) (h1 : ∀ i, a ≤ i → i < l → rk (p i) < rk (p s)) (h2 : ∀ i, l ≤ i → i < s → rk (p s) < rk (p i)) : Asc rk (insP p l s) a (s + 1) := by
  intro i j a1 a2 a3
  unfold insP
  by_cases ei : i = l
  · rw [if_pos ei, if_neg (by omega), if_pos (by omega)]
    exact h2 _ (by omega) (by omega)
  · rw [if_neg ei]
    by_cases ej : j = l
    · rw [if_pos ej, if_neg (by omega)]
      exact h1 _ a1 (by omega)
    · rw [if_neg ej]
      by_cases e1 : l < i ∧ i ≤ s
      · rw [if_pos e1, if_pos (by omega)]; exact hA _ _ (by omega) (by omega) (by omega)
      · rw [if_neg e1]
        by_cases e2 : l < j ∧ j ≤ s
        · rw [if_pos e2]; exact hA _ _ (by omega) (by omega) (by omega)
        · rw [if_neg e2]; exact hA _ _ (by omega) (by omega) (by omega)
theorem insP_inj {rk : Nat → Int} {p : Int → Nat} {a l s b : Int} (h : a ≤ l ∧ l ≤ s ∧ s < b) (hI : Inj rk p a b) : Inj rk (insP p l s) a b := by
  intro i j a1 a2 a3
  have hs : ∀ x y, a ≤ x → x < b → a ≤ y → y < b → x ≠ y → rk (p x) ≠ rk (p y) := fun x y x1 x2 y1 y2 hne => by
    by_cases e : x < y
    · exact hI x y x1 e y2
    · exact fun e9 => hI y x y1 (by omega) x2 e9.symm
  unfold insP
  by_cases ei : i = l
  · rw [if_pos ei, if_neg (by omega)]
    by_cases e2 : l < j ∧ j ≤ s
    · rw [if_pos e2]; exact hs _ _ (by omega) (by omega) (by omega) (by omega) (by omega)
    · rw [if_neg e2]; exact hs _ _ (by omega) (by omega) (by omega) (by omega) (by omega)
  · rw [if_neg ei]
    by_cases ej : j = l
    · rw [if_pos ej, if_neg (by omega)]; exact hs _ _ (by omega) (by omega) (by omega) (by omega) (by omega)
    · rw [if_neg ej]
      by_cases e1 : l < i ∧ i ≤ s
      · rw [if_pos e1]
        by_cases e2 : l < j ∧ j ≤ s
        · rw [if_pos e2]; exact hs _ _ (by omega) (by omega) (by omega) (by omega) (by omega)
        · rw [if_neg e2]; exact hs _ _ (by omega) (by omega) (by omega) (by omega) (by omega)
      · rw [if_neg e1]
        by_cases e2 : l < j ∧ j ≤ s
        · rw [if_pos e2]; exact hs _ _ (by omega) (by omega) (by omega) (by omega) (by omega)
        · rw [if_neg e2]; exact hs _ _ (by omega) (by omega) (by omega) (by omega) (by omega)
/-- the array of rides at e: places a .. b hold p, the others f0 -/
def ArS (h : MH) (rk : Nat → Int) (e : Nat) (a b : Int) (f f0 : Int → Option Nat) (p : Int → Nat) : Prop := (∀ i, a ≤ i → i < b → f i = some (p i) ∧ RdS h rk (p i)) ∧ ∀ i, i < a ∨ b ≤ i → f i = f0 i
theorem ArS.up {h h' : MH} {rk : Nat → Int} {e : Nat} {a b : Int} {f f0 : Int → Option Nat} {p : Int → Nat} (L : ArS h rk e a b f f0 p) (e1 : ∀ b w ci fs, ci ≠ 26 → h.2.2 b = some (w, .inr (ci, fs)) → h'.2.2 b = h.2.2 b) : ArS h' rk e a b f f0 p := ⟨fun i a1 a2 => ⟨(L.1 i a1 a2).1, (L.1 i a1 a2).2.up e1⟩, L.2⟩
theorem ArS.ins {h : MH} {rk : Nat → Int} {e : Nat} {a b l s : Int} {f f0 g : Int → Option Nat} {p : Int → Nat} (L : ArS h rk e a b f f0 p) (h1 : a ≤ l ∧ l ≤ s ∧ s < b) (hg : ∀ i, g i = if i = l then some (p s) else if l < i ∧ i ≤ s then f (i - 1) else f i) : ArS h rk e a b g f0 (insP p l s) := by
  refine ⟨fun i a1 a2 => ?_, fun i h9 => ?_⟩
  · rw [hg]
    unfold insP
    by_cases ei : i = l
    · rw [if_pos ei, if_pos ei]; exact ⟨rfl, (L.1 s (by omega) (by omega)).2⟩
    · rw [if_neg ei, if_neg ei]
      by_cases e1 : l < i ∧ i ≤ s
      · rw [if_pos e1, if_pos e1]; exact L.1 _ (by omega) (by omega)
      · rw [if_neg e1, if_neg e1]; exact L.1 _ a1 a2
  · rw [hg, if_neg (by omega), if_neg (by omega)]; exact L.2 i h9
theorem insf1 {f : Int → Option Nat} {l s : Int} {v w : Option Nat} (hs : s - l = 1) (h1 : f l = w) : ∀ i, upq (upq f (l + 1) w) l v i = if i = l then v else if l < i ∧ i ≤ s then f (i - 1) else f i := by
  intro i
  unfold upq
  by_cases e : i = l
  · rw [if_pos e, if_pos e]
  · rw [if_neg e, if_neg e]
    by_cases e1 : i = l + 1
    · rw [if_pos e1, if_pos (by omega), ← h1, e1]; congr 1; omega
    · rw [if_neg e1, if_neg (by omega)]
theorem insf2 {f : Int → Option Nat} {l s : Int} {v w1 w2 : Option Nat} (hs : s - l = 2) (h1 : f l = w1) (h2 : f (l + 1) = w2) : ∀ i, upq (upq (upq f (l + 2) w2) (l + 1) w1) l v i = if i = l then v else if l < i ∧ i ≤ s then f (i - 1) else f i := by
  intro i
  unfold upq
  by_cases e : i = l
  · rw [if_pos e, if_pos e]
  · rw [if_neg e, if_neg e]
    by_cases e1 : i = l + 1
    · rw [if_pos e1, if_pos (by omega), ← h1, e1]; congr 1; omega
    · rw [if_neg e1]
      by_cases e2 : i = l + 2
      · rw [if_pos e2, if_pos (by omega), ← h2, e2]; congr 1; omega
      · rw [if_neg e2, if_neg (by omega)]
theorem insf3 {f : Int → Option Nat} {l s : Int} {v : Option Nat} (hs : l ≤ s) : ∀ i, upq (cpq f f l (l + 1) (s - l)) l v i = if i = l then v else if l < i ∧ i ≤ s then f (i - 1) else f i := by
  intro i
  unfold upq cpq
  by_cases e : i = l
  · rw [if_pos e, if_pos e]
  · rw [if_neg e, if_neg e]
    by_cases e1 : l < i ∧ i ≤ s
    · rw [if_pos (by omega), if_pos e1]; congr 1; omega
    · rw [if_neg (by omega), if_neg e1]
theorem c_J35_binarySort (K : KT) (d : Nat) (h : MH) (rk : Nat → Int) (e cap : Nat) (a b s0 : Int) (f0 : Int → Option Nat) (p0 : Int → Nat) (hd : 3 ≤ d) (hB : kV K 12 = vi 1) (he : h.2.2 e = some (true, oaE K cap f0)) (hA : ArS h rk e a b f0 f0 p0) (hb : (0 ≤ a ∧ a < s0) ∧ s0 ≤ b ∧ b ≤ (cap : Int) ∧ cap ≤ 60000) (hS : Asc rk p0 a s0) (hI : Inj rk p0 a b) : Mt K yiJ35_binarySort d [.ref e, vi a, vi b, vi s0] h (Rv fun h' => ∃ f p, (h.1 = h'.1 ∧ h.2.1 = h'.2.1) ∧ h'.2.2 e = some (true, oaE K cap f) ∧ ArS h' rk e a b f f0 p ∧ Asc rk p a b ∧ Sms p0 p a b ∧ ∀ q, q ≠ e → h'.2.2 q = h.2.2 q) := by
  refine mt_ofQ (by decide) (Nat.le_of_ble_eq_true rfl) (fun Q hQ => ?_)
  show MW K yiJ35_binarySort d h 0 [some (.ref e), some (vi a), some (vi b), some (vi s0), none, none, none, none] [] Q
  refine mw_wf (fun hwf => ?_)
  have l_he := hwf _ _ he
  have fR : ∀ b, (b ≠ e) → h.2.2 b = h.2.2 b := fun _ _ => rfl
  refine m_gets (y := yiJ35_binarySort) (ref := "") 12 rfl dJ35_binarySort_0 q1989 hB ?_
  refine j_if_ne (y := yiJ35_binarySort) 24 dJ35_binarySort_3 (by decide) ⟨by decide, by decide⟩ (fun _ => ?_) (fun c => absurd c (by decide))
  refine j_iload_n (y := yiJ35_binarySort) dJ35_binarySort_24 rfl ?_
  refine j_iload_n (y := yiJ35_binarySort) dJ35_binarySort_25 rfl ?_
  refine j_icmp_ne (y := yiJ35_binarySort) 32 dJ35_binarySort_26 (by decide) ⟨⟨by omega, by omega⟩, ⟨by omega, by omega⟩⟩ (fun c26 => ?_) (fun c26 => False.elim (by omega))
  have L32 : ∀ (N : Nat) (s : Int) (f : Int → Option Nat) (p : Int → Nat) (g : MH), (b - s).toNat = N → (g.2.2 e = some (true, oaE K cap f)) → (∀ b, (b ≠ e) → g.2.2 b = h.2.2 b) → (s0 ≤ s ∧ s ≤ b) → (h.1 = g.1 ∧ h.2.1 = g.2.1) → (ArS g rk e a b f f0 p) → (Asc rk p a s) → (Inj rk p a b) → (Sms p0 p a b) → MW K yiJ35_binarySort d g 32 [some (.ref e), some (vi a), some (vi b), some (vi s), none, none, none, none] [] Q := by
    intro N
    induction N using Nat.strongRecOn with
    | _ N ih32 =>
    intro s f p g hN32 he fR hs hz hL hs2 hi2 hm2
    refine mw_wf (fun hwf32 => ?_)
    have l_he32 := hwf32 _ _ he
    refine j_iload_n (y := yiJ35_binarySort) dJ35_binarySort_32 rfl ?_
    refine j_iload_n (y := yiJ35_binarySort) dJ35_binarySort_33 rfl ?_
    refine j_icmp_ge (y := yiJ35_binarySort) 222 dJ35_binarySort_34 (by decide) ⟨⟨by omega, by omega⟩, ⟨by omega, by omega⟩⟩ (fun c34 => ?_) (fun c34 => ?_)
    · subst hQ; exact j_vret (y := yiJ35_binarySort) dJ35_binarySort_222 rfl (⟨_, _, hz, he, hL, (by { have e9 : s = b := (by omega); rw [← e9]; exact hs2 }), hm2, fR⟩)
    · refine m_aload_n (y := yiJ35_binarySort) dJ35_binarySort_37 rfl ?_
      refine j_iload_n (y := yiJ35_binarySort) dJ35_binarySort_38 rfl ?_
      refine h_aald5 (y := yiJ35_binarySort) dJ35_binarySort_39 he ⟨by omega, by omega⟩ (by omega) ?_
      rw [(hL.1 s (by omega) (by omega)).1]
      show MW K yiJ35_binarySort d g 40 [some (.ref e), some (vi a), some (vi b), some (vi s), none, none, none, none] [(.ref (p s))] Q
      obtain ⟨ru, cs, ks, hps⟩ := (hL.1 s (by omega) (by omega)).2.cell
      have he0 := he
      have fR0 := fR
      have hne : ∀ i, a ≤ i → i < b → p i ≠ e := fun i a1 a2 => by { obtain ⟨r1, r2, r3, r4⟩ := (hL.1 i a1 a2).2.cell; exact ne_oa r4 he0 }
      have hnps := hne s (by omega) (by omega)
      have his : ∀ i, a ≤ i → i < b → IsO g (p i) := fun i a1 a2 => (hL.1 i a1 a2).2.iso
      have hps : g.2.2 (p s) = some (true, .inr (8, [(.ref ru), (vi cs), (vi ks)])) := hps
      have l_hps := hwf32 _ _ hps
      refine m_cast (y := yiJ35_binarySort) dJ35_binarySort_40 hps rfl q1994 (Or.inr q1534) ?_
      refine m_astore (y := yiJ35_binarySort) dJ35_binarySort_43 (by decide) rfl ?_
      show MW K yiJ35_binarySort d g 45 [some (.ref e), some (vi a), some (vi b), some (vi s), some (.ref (p s)), none, none, none] [] Q
      refine j_iload_n (y := yiJ35_binarySort) dJ35_binarySort_45 rfl ?_
      refine j_istore (y := yiJ35_binarySort) [some (.ref e), some (vi a), some (vi b), some (vi s), some (.ref (p s)), some (vi a), none, none] dJ35_binarySort_46 (by decide) rfl rfl ?_
      refine j_iload_n (y := yiJ35_binarySort) dJ35_binarySort_48 rfl ?_
      refine j_istore (y := yiJ35_binarySort) [some (.ref e), some (vi a), some (vi b), some (vi s), some (.ref (p s)), some (vi a), some (vi s), none] dJ35_binarySort_49 (by decide) rfl rfl ?_
      refine m_gets (y := yiJ35_binarySort) (ref := "") 12 rfl dJ35_binarySort_51 q1989 hB ?_
      refine j_if_ne (y := yiJ35_binarySort) 72 dJ35_binarySort_54 (by decide) ⟨by decide, by decide⟩ (fun _ => ?_) (fun c => absurd c (by decide))
      have L72 : ∀ (N : Nat) (l r : Int), (r - l).toNat = N → (a ≤ l ∧ l ≤ r ∧ r ≤ s) → (∀ i, a ≤ i → i < l → rk (p i) < rk (p s)) → (∀ i, r ≤ i → i < s → rk (p s) < rk (p i)) → MW K yiJ35_binarySort d g 72 [some (.ref e), some (vi a), some (vi b), some (vi s), some (.ref (p s)), some (vi l), some (vi r), none] [] Q := by
        intro N
        induction N using Nat.strongRecOn with
        | _ N ih72 =>
        intro l r hN72 hl hl1 hl2
        refine j_iload (y := yiJ35_binarySort) dJ35_binarySort_72 rfl ?_
        refine j_iload (y := yiJ35_binarySort) dJ35_binarySort_74 rfl ?_
        refine j_icmp_ge (y := yiJ35_binarySort) 118 dJ35_binarySort_76 (by decide) ⟨⟨by omega, by omega⟩, ⟨by omega, by omega⟩⟩ (fun c76 => ?_) (fun c76 => ?_)
        · refine m_gets (y := yiJ35_binarySort) (ref := "") 12 rfl dJ35_binarySort_118 q1989 hB ?_
          refine j_if_ne (y := yiJ35_binarySort) 139 dJ35_binarySort_121 (by decide) ⟨by decide, by decide⟩ (fun _ => ?_) (fun c => absurd c (by decide))
          refine j_iload_n (y := yiJ35_binarySort) dJ35_binarySort_139 rfl ?_
          refine j_iload (y := yiJ35_binarySort) dJ35_binarySort_140 rfl ?_
          refine j_isub (y := yiJ35_binarySort) dJ35_binarySort_142 ?_
          refine j_istore (y := yiJ35_binarySort) [some (.ref e), some (vi a), some (vi b), some (vi s), some (.ref (p s)), some (vi l), some (vi r), some (vi (s - l))] dJ35_binarySort_143 (by decide) rfl rfl ?_
          refine j_iload (y := yiJ35_binarySort) dJ35_binarySort_145 rfl ?_
          refine j_lsw2 (y := yiJ35_binarySort) 184 172 197 dJ35_binarySort_147 (by decide) (by decide) (by decide) (by decide) ⟨by omega, by omega⟩ (fun c147 => ?_) (fun c147 => ?_) (fun c147 d147 => ?_)
          · refine m_aload_n (y := yiJ35_binarySort) dJ35_binarySort_184 rfl ?_
            refine j_iload (y := yiJ35_binarySort) dJ35_binarySort_185 rfl ?_
            refine j_iconst (y := yiJ35_binarySort) dJ35_binarySort_187 ?_
            refine j_iadd (y := yiJ35_binarySort) dJ35_binarySort_188 ?_
            refine m_aload_n (y := yiJ35_binarySort) dJ35_binarySort_189 rfl ?_
            refine j_iload (y := yiJ35_binarySort) dJ35_binarySort_190 rfl ?_
            refine h_aald5 (y := yiJ35_binarySort) dJ35_binarySort_192 he ⟨by omega, by omega⟩ (by omega) ?_
            try rw [show upq f (l + 2) (some (p (l + 1))) l = f l from if_neg (by omega)]
            rw [(hL.1 l (by omega) (by omega)).1]
            show MW K yiJ35_binarySort d g 193 [some (.ref e), some (vi a), some (vi b), some (vi s), some (.ref (p s)), some (vi l), some (vi r), some (vi (s - l))] [(.ref (p l)), (vi (l + 1)), (.ref e)] Q
            have i193 : IsO g (p l) := (his _ (by omega) (by omega)).mono' ((fR _ (hne _ (by omega) (by omega))).trans (fR0 _ (hne _ (by omega) (by omega))).symm)
            refine h_aast (y := yiJ35_binarySort) dJ35_binarySort_193 he (by assumption) ⟨by omega, by omega⟩ (by omega) (hp_put fun g1 g1H => ?_)
            have hps : g1.2.2 (p s) = some (true, .inr (8, [(.ref ru), (vi cs), (vi ks)])) := (g1H.2.2.2 _ (by omega)).trans hps
            have fR : ∀ b, (b ≠ e) → g1.2.2 b = h.2.2 b := fun b hb => (g1H.2.2.2 b (by omega)).trans (fR b hb)
            have he : g1.2.2 e = some (true, oaE K cap (upq f (l + 1) (some (p l)))) := g1H.2.2.1
            have g11 := g1H.1
            have g12 := g1H.2.1
            refine m_goto (y := yiJ35_binarySort) 210 dJ35_binarySort_194 (by decide) ?_
            refine m_aload_n (y := yiJ35_binarySort) dJ35_binarySort_210 rfl ?_
            refine j_iload (y := yiJ35_binarySort) dJ35_binarySort_211 rfl ?_
            refine m_aload (y := yiJ35_binarySort) dJ35_binarySort_213 rfl ?_
            have i215 : IsO g1 (p s) := (his _ (by omega) (by omega)).mono' ((fR _ (hne _ (by omega) (by omega))).trans (fR0 _ (hne _ (by omega) (by omega))).symm)
            refine h_aast (y := yiJ35_binarySort) dJ35_binarySort_215 he ⟨_, _, _, _, hps, rfl, kObj 8 _ rfl⟩ ⟨by omega, by omega⟩ (by omega) (hp_put fun g2 g2H => ?_)
            have hps : g2.2.2 (p s) = some (true, .inr (8, [(.ref ru), (vi cs), (vi ks)])) := (g2H.2.2.2 _ (by omega)).trans hps
            have fR : ∀ b, (b ≠ e) → g2.2.2 b = h.2.2 b := fun b hb => (g2H.2.2.2 b (by omega)).trans (fR b hb)
            have he : g2.2.2 e = some (true, oaE K cap (upq (upq f (l + 1) (some (p l))) l (some (p s)))) := g2H.2.2.1
            have g21 := g2H.1
            have g22 := g2H.2.1
            refine j_iinc (y := yiJ35_binarySort) [some (.ref e), some (vi a), some (vi b), some (vi (s + 1)), some (.ref (p s)), some (vi l), some (vi r), some (vi (s - l))] dJ35_binarySort_216 rfl (by decide) rfl rfl ?_
            refine m_goto (y := yiJ35_binarySort) 32 dJ35_binarySort_219 (by decide) ?_
            refine mw_forget 4 ?_
            refine mw_forget 5 ?_
            refine mw_forget 6 ?_
            refine mw_forget 7 ?_
            exact ih32 _ (by omega) _ _ _ _ rfl he fR (by omega) (by omega) ((hL.up (fun b9 w9 c9 f9 _ hb9 => (fR b9 (ne_oa hb9 he0)).trans (fR0 b9 (ne_oa hb9 he0)).symm)).ins ⟨by omega, by omega, by omega⟩ (by first | exact insf1 c147 (hL.1 l (by omega) (by omega)).1 | exact insf2 c147 (hL.1 l (by omega) (by omega)).1 (hL.1 (l + 1) (by omega) (by omega)).1 | exact insf3 (by omega))) (insP_asc ⟨by omega, by omega⟩ hs2 hl1 (fun i a1 a2 => hl2 i (by omega) a2)) (insP_inj ⟨by omega, by omega, by omega⟩ hi2) (hm2.tr (insP_sms ⟨by omega, by omega, by omega⟩))
          · refine m_aload_n (y := yiJ35_binarySort) dJ35_binarySort_172 rfl ?_
            refine j_iload (y := yiJ35_binarySort) dJ35_binarySort_173 rfl ?_
            refine j_iconst (y := yiJ35_binarySort) dJ35_binarySort_175 ?_
            refine j_iadd (y := yiJ35_binarySort) dJ35_binarySort_176 ?_
            refine m_aload_n (y := yiJ35_binarySort) dJ35_binarySort_177 rfl ?_
            refine j_iload (y := yiJ35_binarySort) dJ35_binarySort_178 rfl ?_
            refine j_iconst (y := yiJ35_binarySort) dJ35_binarySort_180 ?_
            refine j_iadd (y := yiJ35_binarySort) dJ35_binarySort_181 ?_
            refine h_aald5 (y := yiJ35_binarySort) dJ35_binarySort_182 he ⟨by omega, by omega⟩ (by omega) ?_
            rw [(hL.1 (l + 1) (by omega) (by omega)).1]
            show MW K yiJ35_binarySort d g 183 [some (.ref e), some (vi a), some (vi b), some (vi s), some (.ref (p s)), some (vi l), some (vi r), some (vi (s - l))] [(.ref (p (l + 1))), (vi (l + 2)), (.ref e)] Q
            have i183 : IsO g (p (l + 1)) := his _ (by omega) (by omega)
            refine h_aast (y := yiJ35_binarySort) dJ35_binarySort_183 he (by assumption) ⟨by omega, by omega⟩ (by omega) (hp_put fun g3 g3H => ?_)
            have hps : g3.2.2 (p s) = some (true, .inr (8, [(.ref ru), (vi cs), (vi ks)])) := (g3H.2.2.2 _ (by omega)).trans hps
            have fR : ∀ b, (b ≠ e) → g3.2.2 b = h.2.2 b := fun b hb => (g3H.2.2.2 b (by omega)).trans (fR b hb)
            have he : g3.2.2 e = some (true, oaE K cap (upq f (l + 2) (some (p (l + 1))))) := g3H.2.2.1
            have g31 := g3H.1
            have g32 := g3H.2.1
            refine m_aload_n (y := yiJ35_binarySort) dJ35_binarySort_184 rfl ?_
            refine j_iload (y := yiJ35_binarySort) dJ35_binarySort_185 rfl ?_
            refine j_iconst (y := yiJ35_binarySort) dJ35_binarySort_187 ?_
            refine j_iadd (y := yiJ35_binarySort) dJ35_binarySort_188 ?_
            refine m_aload_n (y := yiJ35_binarySort) dJ35_binarySort_189 rfl ?_
            refine j_iload (y := yiJ35_binarySort) dJ35_binarySort_190 rfl ?_
            refine h_aald5 (y := yiJ35_binarySort) dJ35_binarySort_192 he ⟨by omega, by omega⟩ (by omega) ?_
            try rw [show upq f (l + 2) (some (p (l + 1))) l = f l from if_neg (by omega)]
            rw [(hL.1 l (by omega) (by omega)).1]
            show MW K yiJ35_binarySort d g3 193 [some (.ref e), some (vi a), some (vi b), some (vi s), some (.ref (p s)), some (vi l), some (vi r), some (vi (s - l))] [(.ref (p l)), (vi (l + 1)), (.ref e)] Q
            have i193 : IsO g3 (p l) := (his _ (by omega) (by omega)).mono' ((fR _ (hne _ (by omega) (by omega))).trans (fR0 _ (hne _ (by omega) (by omega))).symm)
            refine h_aast (y := yiJ35_binarySort) dJ35_binarySort_193 he (by assumption) ⟨by omega, by omega⟩ (by omega) (hp_put fun g4 g4H => ?_)
            have hps : g4.2.2 (p s) = some (true, .inr (8, [(.ref ru), (vi cs), (vi ks)])) := (g4H.2.2.2 _ (by omega)).trans hps
            have fR : ∀ b, (b ≠ e) → g4.2.2 b = h.2.2 b := fun b hb => (g4H.2.2.2 b (by omega)).trans (fR b hb)
            have he : g4.2.2 e = some (true, oaE K cap (upq (upq f (l + 2) (some (p (l + 1)))) (l + 1) (some (p l)))) := g4H.2.2.1
            have g41 := g4H.1
            have g42 := g4H.2.1
            refine m_goto (y := yiJ35_binarySort) 210 dJ35_binarySort_194 (by decide) ?_
            refine m_aload_n (y := yiJ35_binarySort) dJ35_binarySort_210 rfl ?_
            refine j_iload (y := yiJ35_binarySort) dJ35_binarySort_211 rfl ?_
            refine m_aload (y := yiJ35_binarySort) dJ35_binarySort_213 rfl ?_
            have i215 : IsO g4 (p s) := (his _ (by omega) (by omega)).mono' ((fR _ (hne _ (by omega) (by omega))).trans (fR0 _ (hne _ (by omega) (by omega))).symm)
            refine h_aast (y := yiJ35_binarySort) dJ35_binarySort_215 he ⟨_, _, _, _, hps, rfl, kObj 8 _ rfl⟩ ⟨by omega, by omega⟩ (by omega) (hp_put fun g5 g5H => ?_)
            have hps : g5.2.2 (p s) = some (true, .inr (8, [(.ref ru), (vi cs), (vi ks)])) := (g5H.2.2.2 _ (by omega)).trans hps
            have fR : ∀ b, (b ≠ e) → g5.2.2 b = h.2.2 b := fun b hb => (g5H.2.2.2 b (by omega)).trans (fR b hb)
            have he : g5.2.2 e = some (true, oaE K cap (upq (upq (upq f (l + 2) (some (p (l + 1)))) (l + 1) (some (p l))) l (some (p s)))) := g5H.2.2.1
            have g51 := g5H.1
            have g52 := g5H.2.1
            refine j_iinc (y := yiJ35_binarySort) [some (.ref e), some (vi a), some (vi b), some (vi (s + 1)), some (.ref (p s)), some (vi l), some (vi r), some (vi (s - l))] dJ35_binarySort_216 rfl (by decide) rfl rfl ?_
            refine m_goto (y := yiJ35_binarySort) 32 dJ35_binarySort_219 (by decide) ?_
            refine mw_forget 4 ?_
            refine mw_forget 5 ?_
            refine mw_forget 6 ?_
            refine mw_forget 7 ?_
            exact ih32 _ (by omega) _ _ _ _ rfl he fR (by omega) (by omega) ((hL.up (fun b9 w9 c9 f9 _ hb9 => (fR b9 (ne_oa hb9 he0)).trans (fR0 b9 (ne_oa hb9 he0)).symm)).ins ⟨by omega, by omega, by omega⟩ (by first | exact insf1 c147 (hL.1 l (by omega) (by omega)).1 | exact insf2 c147 (hL.1 l (by omega) (by omega)).1 (hL.1 (l + 1) (by omega) (by omega)).1 | exact insf3 (by omega))) (insP_asc ⟨by omega, by omega⟩ hs2 hl1 (fun i a1 a2 => hl2 i (by omega) a2)) (insP_inj ⟨by omega, by omega, by omega⟩ hi2) (hm2.tr (insP_sms ⟨by omega, by omega, by omega⟩))
          · refine m_aload_n (y := yiJ35_binarySort) dJ35_binarySort_197 rfl ?_
            refine j_iload (y := yiJ35_binarySort) dJ35_binarySort_198 rfl ?_
            refine m_aload_n (y := yiJ35_binarySort) dJ35_binarySort_200 rfl ?_
            refine j_iload (y := yiJ35_binarySort) dJ35_binarySort_201 rfl ?_
            refine j_iconst (y := yiJ35_binarySort) dJ35_binarySort_203 ?_
            refine j_iadd (y := yiJ35_binarySort) dJ35_binarySort_204 ?_
            refine j_iload (y := yiJ35_binarySort) dJ35_binarySort_205 rfl ?_
            refine h_copyq (y := yiJ35_binarySort) dJ35_binarySort_207 q2003 he he ⟨by omega, by omega⟩ ⟨by omega, by omega, by omega⟩ (by omega) (by omega) (fun i a1 a2 x hx => by { have q := hL.1 i (by omega) (by omega); rw [q.1] at hx; cases hx; exact q.2.iso }) ⟨Nat.le_of_ble_eq_true rfl, by omega⟩ (hp_put fun g6 g6H => ?_)
            have hps : g6.2.2 (p s) = some (true, .inr (8, [(.ref ru), (vi cs), (vi ks)])) := (g6H.2.2.2 _ (by omega)).trans hps
            have fR : ∀ b, (b ≠ e) → g6.2.2 b = h.2.2 b := fun b hb => (g6H.2.2.2 b (by omega)).trans (fR b hb)
            have he : g6.2.2 e = some (true, oaE K cap (cpq f f l (l + 1) (s - l))) := g6H.2.2.1
            have g61 := g6H.1
            have g62 := g6H.2.1
            refine m_aload_n (y := yiJ35_binarySort) dJ35_binarySort_210 rfl ?_
            refine j_iload (y := yiJ35_binarySort) dJ35_binarySort_211 rfl ?_
            refine m_aload (y := yiJ35_binarySort) dJ35_binarySort_213 rfl ?_
            have i215 : IsO g6 (p s) := (his _ (by omega) (by omega)).mono' ((fR _ (hne _ (by omega) (by omega))).trans (fR0 _ (hne _ (by omega) (by omega))).symm)
            refine h_aast (y := yiJ35_binarySort) dJ35_binarySort_215 he ⟨_, _, _, _, hps, rfl, kObj 8 _ rfl⟩ ⟨by omega, by omega⟩ (by omega) (hp_put fun g7 g7H => ?_)
            have hps : g7.2.2 (p s) = some (true, .inr (8, [(.ref ru), (vi cs), (vi ks)])) := (g7H.2.2.2 _ (by omega)).trans hps
            have fR : ∀ b, (b ≠ e) → g7.2.2 b = h.2.2 b := fun b hb => (g7H.2.2.2 b (by omega)).trans (fR b hb)
            have he : g7.2.2 e = some (true, oaE K cap (upq (cpq f f l (l + 1) (s - l)) l (some (p s)))) := g7H.2.2.1
            have g71 := g7H.1
            have g72 := g7H.2.1
            refine j_iinc (y := yiJ35_binarySort) [some (.ref e), some (vi a), some (vi b), some (vi (s + 1)), some (.ref (p s)), some (vi l), some (vi r), some (vi (s - l))] dJ35_binarySort_216 rfl (by decide) rfl rfl ?_
            refine m_goto (y := yiJ35_binarySort) 32 dJ35_binarySort_219 (by decide) ?_
            refine mw_forget 4 ?_
            refine mw_forget 5 ?_
            refine mw_forget 6 ?_
            refine mw_forget 7 ?_
            exact ih32 _ (by omega) _ _ _ _ rfl he fR (by omega) (by omega) ((hL.up (fun b9 w9 c9 f9 _ hb9 => (fR b9 (ne_oa hb9 he0)).trans (fR0 b9 (ne_oa hb9 he0)).symm)).ins ⟨by omega, by omega, by omega⟩ (by first | exact insf1 c147 (hL.1 l (by omega) (by omega)).1 | exact insf2 c147 (hL.1 l (by omega) (by omega)).1 (hL.1 (l + 1) (by omega) (by omega)).1 | exact insf3 (by omega))) (insP_asc ⟨by omega, by omega⟩ hs2 hl1 (fun i a1 a2 => hl2 i (by omega) a2)) (insP_inj ⟨by omega, by omega, by omega⟩ hi2) (hm2.tr (insP_sms ⟨by omega, by omega, by omega⟩))
        · refine j_iload (y := yiJ35_binarySort) dJ35_binarySort_79 rfl ?_
          refine j_iload (y := yiJ35_binarySort) dJ35_binarySort_81 rfl ?_
          refine j_iadd (y := yiJ35_binarySort) dJ35_binarySort_83 ?_
          refine j_iconst (y := yiJ35_binarySort) dJ35_binarySort_84 ?_
          refine j_iushr1 (y := yiJ35_binarySort) dJ35_binarySort_85 ⟨by omega, by omega⟩ ?_
          refine j_istore (y := yiJ35_binarySort) [some (.ref e), some (vi a), some (vi b), some (vi s), some (.ref (p s)), some (vi l), some (vi r), some (vi ((l + r) / 2))] dJ35_binarySort_86 (by decide) rfl rfl ?_
          refine m_aload (y := yiJ35_binarySort) dJ35_binarySort_88 rfl ?_
          refine m_aload_n (y := yiJ35_binarySort) dJ35_binarySort_90 rfl ?_
          refine j_iload (y := yiJ35_binarySort) dJ35_binarySort_91 rfl ?_
          refine h_aald5 (y := yiJ35_binarySort) dJ35_binarySort_93 he ⟨by omega, by omega⟩ (by omega) ?_
          rw [(hL.1 _ (by omega) (by omega)).1]
          show MW K yiJ35_binarySort d g 94 [some (.ref e), some (vi a), some (vi b), some (vi s), some (.ref (p s)), some (vi l), some (vi r), some (vi ((l + r) / 2))] [(.ref (p ((l + r) / 2))), (.ref (p s))] Q
          refine m_invF (y := yiJ35_binarySort) (rB := (RX9, TX9, 3)) [(.ref (p ((l + r) / 2)))] dJ35_binarySort_94 hps rfl q1996 q1517 q1516 rfl q1535 q1537 q1538 q1536 q1534 q168 q1539 ⟨by decide, by decide⟩ (by show _ = some 1; decide +kernel) (c_cmp K 1 g rk (p s) _ (by omega) (hL.1 s (by omega) (by omega)).2 (hL.1 _ (by omega) (by omega)).2) pdX9_compareTo ⟨Nat.le_of_ble_eq_true rfl, by decide, by omega⟩ (kk_z fun r94 h94 q94 => ?_) kx_z
          obtain ⟨rfl, e94⟩ := q94
          have b94 := e94.2.2
          have n94 : rk (p s) ≠ rk (p ((l + r) / 2)) := fun e9 => hi2 _ _ (by omega) (show (l + r) / 2 < s by omega) (by omega) e9.symm
          refine j_if_ge (y := yiJ35_binarySort) 109 dJ35_binarySort_99 (by decide) ⟨by omega, by omega⟩ (fun c99 => ?_) (fun c99 => ?_)
          · refine j_iload (y := yiJ35_binarySort) dJ35_binarySort_109 rfl ?_
            refine j_iconst (y := yiJ35_binarySort) dJ35_binarySort_111 ?_
            refine j_iadd (y := yiJ35_binarySort) dJ35_binarySort_112 ?_
            refine j_istore (y := yiJ35_binarySort) [some (.ref e), some (vi a), some (vi b), some (vi s), some (.ref (p s)), some (vi (((l + r) / 2) + 1)), some (vi r), some (vi ((l + r) / 2))] dJ35_binarySort_113 (by decide) rfl rfl ?_
            refine m_goto (y := yiJ35_binarySort) 72 dJ35_binarySort_115 (by decide) ?_
            refine mw_forget 7 ?_
            exact ih72 _ (by omega) _ _ rfl (by omega) (by first | exact hl1 | exact fun i a1 a2 => by { by_cases e9 : i = (l + r) / 2; { rw [e9]; have := e94.1; omega }; { have := hs2 i ((l + r) / 2) a1 (by omega) (by omega); have := e94.1; omega } }) (by first | exact hl2 | exact fun i a1 a2 => by { by_cases e9 : i = (l + r) / 2; { rw [e9]; exact e94.1.mp (by omega) }; { have := hs2 ((l + r) / 2) i (by omega) (by omega) (by omega); have := e94.1.mp (by omega); omega } })
          · refine j_iload (y := yiJ35_binarySort) dJ35_binarySort_102 rfl ?_
            refine j_istore (y := yiJ35_binarySort) [some (.ref e), some (vi a), some (vi b), some (vi s), some (.ref (p s)), some (vi l), some (vi ((l + r) / 2)), some (vi ((l + r) / 2))] dJ35_binarySort_104 (by decide) rfl rfl ?_
            refine m_goto (y := yiJ35_binarySort) 115 dJ35_binarySort_106 (by decide) ?_
            refine m_goto (y := yiJ35_binarySort) 72 dJ35_binarySort_115 (by decide) ?_
            refine mw_forget 7 ?_
            exact ih72 _ (by omega) _ _ rfl (by omega) (by first | exact hl1 | exact fun i a1 a2 => by { by_cases e9 : i = (l + r) / 2; { rw [e9]; have := e94.1; omega }; { have := hs2 i ((l + r) / 2) a1 (by omega) (by omega); have := e94.1; omega } }) (by first | exact hl2 | exact fun i a1 a2 => by { by_cases e9 : i = (l + r) / 2; { rw [e9]; exact e94.1.mp (by omega) }; { have := hs2 ((l + r) / 2) i (by omega) (by omega) (by omega); have := e94.1.mp (by omega); omega } })
      exact L72 _ _ _ rfl (by omega) (fun i a b => by omega) (fun i a b => by omega)
  exact L32 _ s0 f0 p0 _ rfl he fR (by omega) (⟨rfl, rfl⟩) hA hS hI Sms.rfl'
