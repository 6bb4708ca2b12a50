/-! the sort: two runs merged, the whole -/
theorem ne_qi {K : KT} {h : MH} {a b n m : Nat} {w w' : Bool} {f : Int → Option Nat} {g : Int → Int} (ha : h.2.2 a = some (w, oaE K n f)) (hb : h.2.2 b = some (w', ia K m g)) : a ≠ b := fun e => by
  rw [e, hb] at ha
  injection ha with ha
  injection ha with _ ha
  injection ha with ha
  injection ha with _ ha
  injection ha with _ ha
  cases ha
theorem Asc.app {rk : Nat → Int} {p : Int → Nat} {a m b : Int} (h1 : Asc rk p a m) (h2 : Asc rk p m b) (hm : a < m → m < b → rk (p (m - 1)) < rk (p m)) : Asc rk p a b := fun i j a1 a2 a3 => by
  by_cases e1 : j < m
  · exact h1 i j a1 a2 e1
  · by_cases e2 : m ≤ i
    · exact h2 i j e2 a2 a3
    · have u := hm (by omega) (by omega)
      have v1 : rk (p i) ≤ rk (p (m - 1)) := by
        by_cases e3 : i = m - 1
        · rw [e3]; omega
        · have := h1 i (m - 1) a1 (by omega) (by omega); omega
      have v2 : rk (p m) ≤ rk (p j) := by
        by_cases e3 : j = m
        · rw [e3]; omega
        · have := h2 m j (by omega) (by omega) a3; omega
      omega
theorem Asc.cg {rk : Nat → Int} {p q : Int → Nat} {a b : Int} (h : Asc rk p a b) (e : ∀ i, a ≤ i → i < b → q i = p i) : Asc rk q a b := fun i j a1 a2 a3 => by
  rw [e i a1 (by omega), e j (by omega) a3]; exact h i j a1 a2 a3
theorem Asc.sub {rk : Nat → Int} {p : Int → Nat} {a b a' b' : Int} (h : Asc rk p a b) (h1 : a ≤ a' ∧ b' ≤ b) : Asc rk p a' b' := fun i j a1 a2 a3 => h i j (by omega) a2 (by omega)
theorem Inj.sms {rk : Nat → Int} {p q : Int → Nat} {a b : Int} (h : Asc rk q a b) : Inj rk q a b := fun i j a1 a2 a3 => by
  have := h i j a1 a2 a3; omega
/-- merged within, what is ahead and behind left as it was -/
theorem glue {rk : Nat → Int} {p0 p : Int → Nat} {a b B E : Int} (hb : a ≤ B ∧ B < E ∧ E ≤ b) (S : Sms p0 p B E) (hA : Asc rk p B E) (lo : ∀ i j, a ≤ i → i < B → B ≤ j → j < E → rk (p0 i) < rk (p0 j)) (hi : ∀ i j, B ≤ i → i < E → E ≤ j → j < b → rk (p0 i) < rk (p0 j)) (o1 : Asc rk p0 a B) (o2 : Asc rk p0 E b) : Asc rk p a b := by
  have k1 : Asc rk p a B := o1.cg (fun i a1 a2 => S.2.2 i (Or.inl a2))
  have k2 : Asc rk p E b := o2.cg (fun i a1 a2 => S.2.2 i (Or.inr a1))
  refine (k1.app hA (fun a1 a2 => ?_)).app k2 (fun a1 a2 => ?_)
  · rw [S.2.2 (B - 1) (by omega)]
    obtain ⟨j, u1, u2, u3⟩ := S.1 B (by omega) (by omega)
    rw [u3]; exact lo _ j (by omega) (by omega) u1 u2
  · rw [S.2.2 E (by omega)]
    obtain ⟨j, u1, u2, u3⟩ := S.1 (E - 1) (by omega) (by omega)
    rw [u3]; exact hi j _ u1 u2 (by omega) a2
/-- one to one: which places hold what -/
theorem Inj.of_sms {rk : Nat → Int} {p q : Int → Nat} {a b B E : Int} (h : Inj rk p a b) (hb : a ≤ B ∧ E ≤ b) (S : Sms p q B E) (hA : Asc rk q B E) : Inj rk q a b := by
  have key : ∀ i j, B ≤ i → i < E → (a ≤ j ∧ j < b) → (j < B ∨ E ≤ j) → rk (q i) ≠ rk (q j) := fun i j a1 a2 a3 a4 => by
    obtain ⟨k, u1, u2, u3⟩ := S.1 i a1 a2
    rw [u3, S.2.2 j a4]
    by_cases e : k < j
    · exact h k j (by omega) e a3.2
    · exact fun e9 => h j k a3.1 (by omega) (by omega) e9.symm
  intro i j a1 a2 a3
  by_cases e1 : B ≤ i ∧ i < E
  · by_cases e2 : B ≤ j ∧ j < E
    · have := hA i j e1.1 a2 e2.2; omega
    · exact key i j e1.1 e1.2 ⟨by omega, a3⟩ (by omega)
  · by_cases e2 : B ≤ j ∧ j < E
    · exact fun e9 => key j i e2.1 e2.2 ⟨a1, by omega⟩ (by omega) e9.symm
    · rw [S.2.2 i (by omega), S.2.2 j (by omega)]; exact h i j a1 a2 a3
theorem ArS.sub {h : MH} {rk : Nat → Int} {e : Nat} {a b lo : Int} {f f0 : Int → Option Nat} {p : Int → Nat} (A : ArS h rk e a b f f0 p) (h1 : a ≤ lo) : ArS h rk e lo b f f p := ⟨fun i a1 a2 => A.1 i (by omega) a2, fun _ _ => rfl⟩
theorem ArS.ext {h h' : MH} {rk : Nat → Int} {e : Nat} {a b lo : Int} {f f' f0 : Int → Option Nat} {p p' : Int → Nat} (A : ArS h rk e a b f f0 p) (A' : ArS h' rk e lo b f' f p') (h1 : a ≤ lo) (hb : lo ≤ b) (S : ∀ i, i < lo → p' i = p i) (e1 : ∀ b w ci fs, ci ≠ 26 → h.2.2 b = some (w, .inr (ci, fs)) → h'.2.2 b = h.2.2 b) : ArS h' rk e a b f' f0 p' := by
  refine ⟨fun i a1 a2 => ?_, fun i a1 => ?_⟩
  · by_cases e9 : i < lo
    · rw [S i e9, A'.2 i (Or.inl e9)]; exact ⟨(A.1 i a1 a2).1, (A.1 i a1 a2).2.up e1⟩
    · exact A'.1 i (by omega) a2
  · rw [A'.2 i (by omega)]; exact A.2 i a1
theorem mergeLo' (K : KT) (d : Nat) (h : MH) (rk : Nat → Int) (o e t rb rl cap tl : Nat) (mg ss : Int) (a b B L1 b2 L2 : Int) (f1 f0 ft0 : Int → Option Nat) (p0 : Int → Nat) (hb2 : b2 = B + L1) (hd : 5 ≤ d) (hB : kV K 12 = vi 1) (ho : h.2.2 o = some (true, .inr (26, [.ref e, vi mg, .ref t, vi 0, vi (tl : Int), vi ss, .ref rb, .ref rl]))) (he : h.2.2 e = some (true, oaE K cap f1)) (htm : h.2.2 t = some (true, oaE K tl ft0)) (het : e ≠ t) (hA : ArS h rk e a b f1 f0 p0) (hb : (0 ≤ a ∧ a ≤ B ∧ B + L1 + L2 ≤ b) ∧ b ≤ (cap : Int) ∧ cap ≤ 60000) (hL : (0 < L1 ∧ 0 < L2) ∧ L1 ≤ (tl : Int) ∧ tl ≤ 60000) (hmg : 0 ≤ mg ∧ mg ≤ 1000000) (A1 : Asc rk p0 B (B + L1)) (A2 : Asc rk p0 (B + L1) (B + L1 + L2)) (hfi : rk (p0 (B + L1)) < rk (p0 B)) (hla : rk (p0 (B + L1 + L2 - 1)) < rk (p0 (B + L1 - 1))) (hI : Inj rk p0 a b) : Mt K yiJ35_mergeLo d [.ref o, vi B, vi L1, vi b2, vi L2] h (Rv fun h' => ∃ (mg' : Int) (f ft : Int → Option Nat) (p : Int → Nat), (h.1 = h'.1 ∧ h.2.1 = h'.2.1) ∧ (0 ≤ mg' ∧ mg' ≤ mg + 3 * (L1 + L2) + 5) ∧ h'.2.2 o = some (true, .inr (26, [.ref e, vi mg', .ref t, vi 0, vi (tl : Int), vi ss, .ref rb, .ref rl])) ∧ h'.2.2 e = some (true, oaE K cap f) ∧ h'.2.2 t = some (true, oaE K tl ft) ∧ ArS h' rk e a b f f0 p ∧ Asc rk p B (B + L1 + L2) ∧ Sms p0 p B (B + L1 + L2) ∧ ∀ q, q ≠ e ∧ q ≠ t ∧ q ≠ o → h'.2.2 q = h.2.2 q) := by
  subst hb2
  exact c_J35_mergeLo K d h rk o e t rb rl cap tl mg ss a b B L1 L2 f1 f0 ft0 p0 hd hB ho he htm het hA hb hL hmg A1 A2 hfi hla hI
theorem mergeHi' (K : KT) (d : Nat) (h : MH) (rk : Nat → Int) (o e t rb rl cap tl : Nat) (mg ss : Int) (a b B L1 b2 L2 : Int) (f1 f0 ft0 : Int → Option Nat) (p0 : Int → Nat) (hb2 : b2 = B + L1) (hd : 5 ≤ d) (hB : kV K 12 = vi 1) (ho : h.2.2 o = some (true, .inr (26, [.ref e, vi mg, .ref t, vi 0, vi (tl : Int), vi ss, .ref rb, .ref rl]))) (he : h.2.2 e = some (true, oaE K cap f1)) (htm : h.2.2 t = some (true, oaE K tl ft0)) (het : e ≠ t) (hA : ArS h rk e a b f1 f0 p0) (hb : (0 ≤ a ∧ a ≤ B ∧ B + L1 + L2 ≤ b) ∧ b ≤ (cap : Int) ∧ cap ≤ 60000) (hL : (0 < L1 ∧ 0 < L2) ∧ L2 ≤ (tl : Int) ∧ tl ≤ 60000) (hmg : 0 ≤ mg ∧ mg ≤ 1000000) (A1 : Asc rk p0 B (B + L1)) (A2 : Asc rk p0 (B + L1) (B + L1 + L2)) (hfi : rk (p0 (B + L1)) < rk (p0 B)) (hla : rk (p0 (B + L1 + L2 - 1)) < rk (p0 (B + L1 - 1))) (hI : Inj rk p0 a b) : Mt K yiJ35_mergeHi d [.ref o, vi B, vi L1, vi b2, vi L2] h (Rv fun h' => ∃ (mg' : Int) (f ft : Int → Option Nat) (p : Int → Nat), (h.1 = h'.1 ∧ h.2.1 = h'.2.1) ∧ (0 ≤ mg' ∧ mg' ≤ mg + 3 * (L1 + L2) + 5) ∧ h'.2.2 o = some (true, .inr (26, [.ref e, vi mg', .ref t, vi 0, vi (tl : Int), vi ss, .ref rb, .ref rl])) ∧ h'.2.2 e = some (true, oaE K cap f) ∧ h'.2.2 t = some (true, oaE K tl ft) ∧ ArS h' rk e a b f f0 p ∧ Asc rk p B (B + L1 + L2) ∧ Sms p0 p B (B + L1 + L2) ∧ ∀ q, q ≠ e ∧ q ≠ t ∧ q ≠ o → h'.2.2 q = h.2.2 q) := by
  subst hb2
  exact c_J35_mergeHi K d h rk o e t rb rl cap tl mg ss a b B L1 L2 f1 f0 ft0 p0 hd hB ho he htm het hA hb hL hmg A1 A2 hfi hla hI
/-- the sorter: its object, its arrays, one or two runs on its stack -/
def SS (K : KT) (g : MH) (rk : Nat → Int) (o e t rb rl cap tl ns : Nat) (mg ss a m b : Int) (f f0 : Int → Option Nat) (p : Int → Nat) (fb fl : Int → Int) : Prop :=
  g.2.2 o = some (true, .inr (26, [.ref e, vi mg, .ref t, vi 0, vi (tl : Int), vi ss, .ref rb, .ref rl])) ∧ g.2.2 e = some (true, oaE K cap f) ∧ (∃ ft, g.2.2 t = some (true, oaE K tl ft)) ∧ g.2.2 rb = some (true, ia K ns fb) ∧ g.2.2 rl = some (true, ia K ns fl) ∧ ArS g rk e a b f f0 p ∧ Inj rk p a b ∧ (fb 0 = a ∧ a ≤ m ∧ m ≤ b) ∧ ((ss = 1 ∧ fl 0 = m - a ∧ Asc rk p a m) ∨ (ss = 2 ∧ m = b ∧ ∃ n1 n2, 0 < n1 ∧ 0 < n2 ∧ fl 0 = n1 ∧ fb 1 = a + n1 ∧ fl 1 = n2 ∧ a + n1 + n2 = b ∧ Asc rk p a (a + n1) ∧ Asc rk p (a + n1) b))
def SSq (K : KT) (h h' : MH) (rk : Nat → Int) (o e t rb rl cap tl ns : Nat) (mg ss a m b : Int) (f0 : Int → Option Nat) (p : Int → Nat) (fb : Int → Int) : Prop := ∃ (mg' ss' : Int) (f : Int → Option Nat) (p' : Int → Nat) (fl : Int → Int), SS K h' rk o e t rb rl cap tl ns mg' ss' a m b f f0 p' fb fl ∧ Sms p p' a b ∧ (1 ≤ ss' ∧ ss' ≤ ss) ∧ (0 ≤ mg' ∧ mg' ≤ mg + 3 * (b - a) + 5) ∧ (h.1 = h'.1 ∧ h.2.1 = h'.2.1) ∧ ∀ q, q ≠ e ∧ q ≠ t ∧ q ≠ o ∧ q ≠ rl → h'.2.2 q = h.2.2 q
theorem c_J35_mergeAt (K : KT) (d : Nat) (h : MH) (rk : Nat → Int) (o e t rb rl cap tl ns : Nat) (mg a b n1 n2 : Int) (f1 f0 ft0 : Int → Option Nat) (p0 : Int → Nat) (fb fl : Int → Int) (hd : 7 ≤ d) (hB : kV K 12 = vi 1) (hns : 5 ≤ ns ∧ ns ≤ 100) (ho : h.2.2 o = some (true, .inr (26, [.ref e, vi mg, .ref t, vi 0, vi (tl : Int), vi 2, .ref rb, .ref rl]))) (he : h.2.2 e = some (true, oaE K cap f1)) (htm : h.2.2 t = some (true, oaE K tl ft0)) (het : e ≠ t) (hrb : h.2.2 rb = some (true, ia K ns fb)) (hrl : h.2.2 rl = some (true, ia K ns fl)) (hrbl : rb ≠ rl) (hA : ArS h rk e a b f1 f0 p0) (hb : (0 ≤ a ∧ 0 < n1 ∧ 0 < n2 ∧ a + n1 + n2 = b) ∧ b ≤ (cap : Int) ∧ cap ≤ 60000) (hL : b - a ≤ 2 * (tl : Int) + 1 ∧ tl ≤ 60000) (hmg : 0 ≤ mg ∧ mg ≤ 1000000) (hf : fb 0 = a ∧ fl 0 = n1 ∧ fb 1 = a + n1 ∧ fl 1 = n2) (A1 : Asc rk p0 a (a + n1)) (A2 : Asc rk p0 (a + n1) b) (hI : Inj rk p0 a b) : Mt K yiJ35_mergeAt d [.ref o, vi 0] h (Rv fun h' => SSq K h h' rk o e t rb rl cap tl ns mg 1 a b b f0 p0 fb) := by
  have hoe : o ≠ e := ne_oa ho he
  have hot : o ≠ t := ne_oa ho htm
  have hob : o ≠ rb := ne_oa ho hrb
  have hol : o ≠ rl := ne_oa ho hrl
  have heb : e ≠ rb := ne_qi he hrb
  have hel : e ≠ rl := ne_qi he hrl
  have htb : t ≠ rb := ne_qi htm hrb
  have htl : t ≠ rl := ne_qi htm hrl
  obtain ⟨hf1, hf2, hf3, hf4⟩ := hf
  have nrl : rl ≠ e ∧ rl ≠ t ∧ rl ≠ o := ⟨hel.symm, htl.symm, hol.symm⟩
  have nrb : rb ≠ e ∧ rb ≠ t ∧ rb ≠ o := ⟨heb.symm, htb.symm, hob.symm⟩
  have hin : ∀ i j, a ≤ i → i < b → a ≤ j → j < b → i ≠ j → rk (p0 i) ≠ rk (p0 j) := fun i j i1 i2 j1 j2 hne => by
    by_cases e9 : i < j
    · exact hI i j i1 e9 j2
    · exact fun e8 => hI j i j1 (by omega) i2 e8.symm
  have hpe : ∀ i, a ≤ i → i < b → p0 i ≠ e ∧ p0 i ≠ t ∧ p0 i ≠ o ∧ p0 i ≠ rl := fun i i1 i2 => by
    obtain ⟨r1, r2, r3, r4⟩ := (hA.1 i i1 i2).2.cell
    exact ⟨ne_oa r4 he, ne_oa r4 htm, ne_oo r4 ho (by decide), ne_oa r4 hrl⟩
  have hup : ∀ g' : MH, (∀ q, q ≠ e ∧ q ≠ t ∧ q ≠ o ∧ q ≠ rl → g'.2.2 q = h.2.2 q) → ∀ b w ci fs, ci ≠ 26 → h.2.2 b = some (w, .inr (ci, fs)) → g'.2.2 b = h.2.2 b := fun g' q b w ci fs h26 hb9 => q b ⟨ne_oa hb9 he, ne_oa hb9 htm, ne_oo hb9 ho h26, ne_oa hb9 hrl⟩
  have hrd : ∀ g' : MH, (∀ q, q ≠ e ∧ q ≠ t ∧ q ≠ o ∧ q ≠ rl → g'.2.2 q = h.2.2 q) → ∀ i, a ≤ i → i < b → RdS g' rk (p0 i) := fun g' q i i1 i2 => (hA.1 i i1 i2).2.up (hup g' q)
  have hAu : ∀ g' : MH, (∀ q, q ≠ e ∧ q ≠ t ∧ q ≠ o ∧ q ≠ rl → g'.2.2 q = h.2.2 q) → ArS g' rk e a b f1 f0 p0 := fun g' q => hA.up (hup g' q)
  have hss : ∀ (g' : MH) (mg' ss : Int) (f2 : Int → Option Nat) (ft2 : Int → Option Nat) (p2 : Int → Nat) (fl2 : Int → Int), ss = 1 → g'.2.2 o = some (true, .inr (26, [.ref e, vi mg', .ref t, vi 0, vi (tl : Int), vi ss, .ref rb, .ref rl])) → g'.2.2 e = some (true, oaE K cap f2) → g'.2.2 t = some (true, oaE K tl ft2) → g'.2.2 rb = some (true, ia K ns fb) → g'.2.2 rl = some (true, ia K ns fl2) → fl2 0 = b - a → ArS g' rk e a b f2 f0 p2 → Asc rk p2 a b → Sms p0 p2 a b → (0 ≤ mg' ∧ mg' ≤ mg + 3 * (b - a) + 5) → (h.1 = g'.1 ∧ h.2.1 = g'.2.1) → (∀ q, q ≠ e ∧ q ≠ t ∧ q ≠ o ∧ q ≠ rl → g'.2.2 q = h.2.2 q) → SSq K h g' rk o e t rb rl cap tl ns mg 1 a b b f0 p0 fb := fun g' mg' ss f2 ft2 p2 fl2 z1 z2 z3 z4 z5 z6 z7 z8 z9 y1 y2 y3 y4 => ⟨mg', ss, f2, p2, fl2, ⟨z2, z3, ⟨ft2, z4⟩, z5, z6, z8, Inj.sms (p := p2) z9, ⟨hf1, by omega, by omega⟩, Or.inl ⟨z1, z7, z9⟩⟩, y1, by omega, y2, y3, y4⟩
  have f00 : upz fl 0 (n1 + n2) 0 = b - a := by rw [upz_at]; omega
  refine mt_ofQ (by decide) (Nat.le_of_ble_eq_true rfl) (fun Q hQ => ?_)
  show MW K yiJ35_mergeAt d h 0 [some (.ref o), some (vi 0), none, none, none, none, none] [] Q
  refine mw_wf (fun hwf => ?_)
  have l_ho := hwf _ _ ho
  have l_he := hwf _ _ he
  have l_htm := hwf _ _ htm
  have l_hrb := hwf _ _ hrb
  have l_hrl := hwf _ _ hrl
  have fR : ∀ b, (b ≠ e ∧ b ≠ t ∧ b ≠ o ∧ b ≠ rl) → h.2.2 b = h.2.2 b := fun _ _ => rfl
  refine m_gets (y := yiJ35_mergeAt) (ref := "") 12 rfl dJ35_mergeAt_0 q1989 hB ?_
  refine j_if_ne (y := yiJ35_mergeAt) 22 dJ35_mergeAt_3 (by decide) ⟨by decide, by decide⟩ (fun _ => ?_) (fun c => absurd c (by decide))
  refine m_gets (y := yiJ35_mergeAt) (ref := "") 12 rfl dJ35_mergeAt_22 q1989 hB ?_
  refine j_if_ne (y := yiJ35_mergeAt) 40 dJ35_mergeAt_25 (by decide) ⟨by decide, by decide⟩ (fun _ => ?_) (fun c => absurd c (by decide))
  refine m_gets (y := yiJ35_mergeAt) (ref := "") 12 rfl dJ35_mergeAt_40 q1989 hB ?_
  refine j_if_ne (y := yiJ35_mergeAt) 74 dJ35_mergeAt_43 (by decide) ⟨by decide, by decide⟩ (fun _ => ?_) (fun c => absurd c (by decide))
  refine m_aload_n (y := yiJ35_mergeAt) dJ35_mergeAt_74 rfl ?_
  refine m_getfS (y := yiJ35_mergeAt) kc_26 6 (by decide) dJ35_mergeAt_75 q2018 ho rfl ?_
  refine j_iload_n (y := yiJ35_mergeAt) dJ35_mergeAt_78 rfl ?_
  refine j_iald (y := yiJ35_mergeAt) dJ35_mergeAt_79 hrb (by omega) ⟨by omega, by omega⟩ ?_
  refine mw_top (x' := a) (hf1) ?_
  refine j_istore_n (y := yiJ35_mergeAt) [some (.ref o), some (vi 0), some (vi a), none, none, none, none] dJ35_mergeAt_80 (by decide) rfl rfl ?_
  refine m_aload_n (y := yiJ35_mergeAt) dJ35_mergeAt_81 rfl ?_
  refine m_getfS (y := yiJ35_mergeAt) kc_26 7 (by decide) dJ35_mergeAt_82 q2019 ho rfl ?_
  refine j_iload_n (y := yiJ35_mergeAt) dJ35_mergeAt_85 rfl ?_
  refine j_iald (y := yiJ35_mergeAt) dJ35_mergeAt_86 hrl (by omega) ⟨by omega, by omega⟩ ?_
  refine mw_top (x' := n1) (hf2) ?_
  refine j_istore_n (y := yiJ35_mergeAt) [some (.ref o), some (vi 0), some (vi a), some (vi n1), none, none, none] dJ35_mergeAt_87 (by decide) rfl rfl ?_
  refine m_aload_n (y := yiJ35_mergeAt) dJ35_mergeAt_88 rfl ?_
  refine m_getfS (y := yiJ35_mergeAt) kc_26 6 (by decide) dJ35_mergeAt_89 q2018 ho rfl ?_
  refine j_iload_n (y := yiJ35_mergeAt) dJ35_mergeAt_92 rfl ?_
  refine j_iconst (y := yiJ35_mergeAt) dJ35_mergeAt_93 ?_
  refine j_iadd (y := yiJ35_mergeAt) dJ35_mergeAt_94 ?_
  refine j_iald (y := yiJ35_mergeAt) dJ35_mergeAt_95 hrb (by omega) ⟨by omega, by omega⟩ ?_
  refine mw_top (x' := (a + n1)) (hf3) ?_
  refine j_istore (y := yiJ35_mergeAt) [some (.ref o), some (vi 0), some (vi a), some (vi n1), some (vi (a + n1)), none, none] dJ35_mergeAt_96 (by decide) rfl rfl ?_
  refine m_aload_n (y := yiJ35_mergeAt) dJ35_mergeAt_98 rfl ?_
  refine m_getfS (y := yiJ35_mergeAt) kc_26 7 (by decide) dJ35_mergeAt_99 q2019 ho rfl ?_
  refine j_iload_n (y := yiJ35_mergeAt) dJ35_mergeAt_102 rfl ?_
  refine j_iconst (y := yiJ35_mergeAt) dJ35_mergeAt_103 ?_
  refine j_iadd (y := yiJ35_mergeAt) dJ35_mergeAt_104 ?_
  refine j_iald (y := yiJ35_mergeAt) dJ35_mergeAt_105 hrl (by omega) ⟨by omega, by omega⟩ ?_
  refine mw_top (x' := n2) (hf4) ?_
  refine j_istore (y := yiJ35_mergeAt) [some (.ref o), some (vi 0), some (vi a), some (vi n1), some (vi (a + n1)), some (vi n2), none] dJ35_mergeAt_106 (by decide) rfl rfl ?_
  refine m_gets (y := yiJ35_mergeAt) (ref := "") 12 rfl dJ35_mergeAt_108 q1989 hB ?_
  refine j_if_ne (y := yiJ35_mergeAt) 131 dJ35_mergeAt_111 (by decide) ⟨by decide, by decide⟩ (fun _ => ?_) (fun c => absurd c (by decide))
  refine m_gets (y := yiJ35_mergeAt) (ref := "") 12 rfl dJ35_mergeAt_131 q1989 hB ?_
  refine j_if_ne (y := yiJ35_mergeAt) 153 dJ35_mergeAt_134 (by decide) ⟨by decide, by decide⟩ (fun _ => ?_) (fun c => absurd c (by decide))
  refine m_aload_n (y := yiJ35_mergeAt) dJ35_mergeAt_153 rfl ?_
  refine m_getfS (y := yiJ35_mergeAt) kc_26 7 (by decide) dJ35_mergeAt_154 q2019 ho rfl ?_
  refine j_iload_n (y := yiJ35_mergeAt) dJ35_mergeAt_157 rfl ?_
  refine j_iload_n (y := yiJ35_mergeAt) dJ35_mergeAt_158 rfl ?_
  refine j_iload (y := yiJ35_mergeAt) dJ35_mergeAt_159 rfl ?_
  refine j_iadd (y := yiJ35_mergeAt) dJ35_mergeAt_161 ?_
  refine j_iast (y := yiJ35_mergeAt) dJ35_mergeAt_162 hrl (by omega) ⟨by omega, by omega⟩ (hp_put fun g1 g1H => ?_)
  have ho : g1.2.2 o = some (true, .inr (26, [(.ref e), (vi mg), (.ref t), (vi 0), (vi (tl : Int)), (vi 2), (.ref rb), (.ref rl)])) := (g1H.2.2.2 _ (by first | exact nrl | exact nrb | exact ⟨hb.1, hb.2.1, hb.2.2.1⟩ | omega)).trans ho
  have he : g1.2.2 e = some (true, oaE K cap f1) := (g1H.2.2.2 _ (by first | exact nrl | exact nrb | exact ⟨hb.1, hb.2.1, hb.2.2.1⟩ | omega)).trans he
  have htm : g1.2.2 t = some (true, oaE K tl ft0) := (g1H.2.2.2 _ (by first | exact nrl | exact nrb | exact ⟨hb.1, hb.2.1, hb.2.2.1⟩ | omega)).trans htm
  have hrb : g1.2.2 rb = some (true, ia K ns fb) := (g1H.2.2.2 _ (by first | exact nrl | exact nrb | exact ⟨hb.1, hb.2.1, hb.2.2.1⟩ | omega)).trans hrb
  have fR : ∀ b, (b ≠ e ∧ b ≠ t ∧ b ≠ o ∧ b ≠ rl) → g1.2.2 b = h.2.2 b := fun b hb => (g1H.2.2.2 b (by first | exact nrl | exact nrb | exact ⟨hb.1, hb.2.1, hb.2.2.1⟩ | omega)).trans (fR b hb)
  have hrl : g1.2.2 rl = some (true, ia K ns (upz fl 0 (n1 + n2))) := g1H.2.2.1
  have g11 := g1H.1
  have g12 := g1H.2.1
  refine j_iload_n (y := yiJ35_mergeAt) dJ35_mergeAt_163 rfl ?_
  refine m_aload_n (y := yiJ35_mergeAt) dJ35_mergeAt_164 rfl ?_
  refine m_getfS (y := yiJ35_mergeAt) kc_26 5 (by decide) dJ35_mergeAt_165 q2017 ho rfl ?_
  refine j_iconst (y := yiJ35_mergeAt) dJ35_mergeAt_168 ?_
  refine j_isub (y := yiJ35_mergeAt) dJ35_mergeAt_169 ?_
  refine j_icmp_ne (y := yiJ35_mergeAt) 205 dJ35_mergeAt_170 (by decide) ⟨⟨by omega, by omega⟩, ⟨by omega, by omega⟩⟩ (fun c170 => ?_) (fun c170 => False.elim (by omega))
  refine m_aload_n (y := yiJ35_mergeAt) dJ35_mergeAt_205 rfl ?_
  refine m_dup (y := yiJ35_mergeAt) dJ35_mergeAt_206 rfl ?_
  refine m_getfS (y := yiJ35_mergeAt) kc_26 5 (by decide) dJ35_mergeAt_207 q2017 ho rfl ?_
  refine j_iconst (y := yiJ35_mergeAt) dJ35_mergeAt_210 ?_
  refine j_isub (y := yiJ35_mergeAt) dJ35_mergeAt_211 ?_
  refine m_putfS (y := yiJ35_mergeAt) kc_26 5 (by decide) dJ35_mergeAt_212 q2017 rfl ho rfl rfl (hp_put fun g2 g2H => ?_)
  have he : g2.2.2 e = some (true, oaE K cap f1) := (g2H.2.2.2 _ (by first | exact nrl | exact nrb | exact ⟨hb.1, hb.2.1, hb.2.2.1⟩ | omega)).trans he
  have htm : g2.2.2 t = some (true, oaE K tl ft0) := (g2H.2.2.2 _ (by first | exact nrl | exact nrb | exact ⟨hb.1, hb.2.1, hb.2.2.1⟩ | omega)).trans htm
  have hrb : g2.2.2 rb = some (true, ia K ns fb) := (g2H.2.2.2 _ (by first | exact nrl | exact nrb | exact ⟨hb.1, hb.2.1, hb.2.2.1⟩ | omega)).trans hrb
  have hrl : g2.2.2 rl = some (true, ia K ns (upz fl 0 (n1 + n2))) := (g2H.2.2.2 _ (by first | exact nrl | exact nrb | exact ⟨hb.1, hb.2.1, hb.2.2.1⟩ | omega)).trans hrl
  have fR : ∀ b, (b ≠ e ∧ b ≠ t ∧ b ≠ o ∧ b ≠ rl) → g2.2.2 b = h.2.2 b := fun b hb => (g2H.2.2.2 b (by first | exact nrl | exact nrb | exact ⟨hb.1, hb.2.1, hb.2.2.1⟩ | omega)).trans (fR b hb)
  have ho : g2.2.2 o = some (true, .inr (26, [(.ref e), (vi mg), (.ref t), (vi 0), (vi (tl : Int)), (vi (2 - 1)), (.ref rb), (.ref rl)])) := g2H.2.2.1
  have g21 := g2H.1
  have g22 := g2H.2.1
  refine m_aload_n (y := yiJ35_mergeAt) dJ35_mergeAt_215 rfl ?_
  refine m_getfS (y := yiJ35_mergeAt) kc_26 0 (by decide) dJ35_mergeAt_216 q2012 ho rfl ?_
  refine j_iload (y := yiJ35_mergeAt) dJ35_mergeAt_219 rfl ?_
  refine h_aald5 (y := yiJ35_mergeAt) dJ35_mergeAt_221 he ⟨by omega, by omega⟩ (by omega) ?_
  rw [(hA.1 (a + n1) (by omega) (by omega)).1]
  show MW K yiJ35_mergeAt d g2 222 [some (.ref o), some (vi 0), some (vi a), some (vi n1), some (vi (a + n1)), some (vi n2), none] [(.ref (p0 (a + n1)))] Q
  obtain ⟨ru, cs, ks, hps⟩ := (hrd g2 fR (a + n1) (by omega) (by omega)).cell
  have ne222 := hpe (a + n1) (by omega) (by omega)
  have hps : g2.2.2 (p0 (a + n1)) = some (true, .inr (8, [(.ref ru), (vi cs), (vi ks)])) := hps
  refine mw_wf (fun hwfk3 => ?_)
  have l_hps := hwfk3 _ _ hps
  refine m_cast (y := yiJ35_mergeAt) dJ35_mergeAt_222 hps rfl q1994 (Or.inr q1534) ?_
  refine m_aload_n (y := yiJ35_mergeAt) dJ35_mergeAt_225 rfl ?_
  refine m_getfS (y := yiJ35_mergeAt) kc_26 0 (by decide) dJ35_mergeAt_226 q2012 ho rfl ?_
  refine j_iload_n (y := yiJ35_mergeAt) dJ35_mergeAt_229 rfl ?_
  refine j_iload_n (y := yiJ35_mergeAt) dJ35_mergeAt_230 rfl ?_
  refine j_iconst (y := yiJ35_mergeAt) dJ35_mergeAt_231 ?_
  refine m_invS (y := yiJ35_mergeAt) [(.ref (p0 (a + n1))), (.ref e), (vi a), (vi n1), (vi 0)] dJ35_mergeAt_232 q2052 q2053 q171 q2054 (c_J35_gallopRight K 3 g2 rk e cap (p0 (a + n1)) true a n1 0 f1 p0 (by omega) hB he (fun i i1 i2 => ⟨(hA.1 i (by omega) (by omega)).1, hrd _ fR i (by omega) (by omega)⟩) (hrd _ fR (a + n1) (by omega) (by omega)) A1 (fun i i1 i2 => hin (a + n1) i (by omega) (by omega) (by omega) (by omega) (by omega)) ⟨by omega, by omega, by omega, by omega⟩ ⟨by omega, by omega⟩) pdJ35_gallopRight ⟨Nat.le_of_ble_eq_true rfl, by decide, by omega⟩ (kk_z fun r232 h232 q232 => ?_) kx_z
  obtain ⟨rfl, z232, y232, w232⟩ := q232
  refine j_istore (y := yiJ35_mergeAt) [some (.ref o), some (vi 0), some (vi a), some (vi n1), some (vi (a + n1)), some (vi n2), some (vi r232)] dJ35_mergeAt_235 (by decide) rfl rfl ?_
  refine m_gets (y := yiJ35_mergeAt) (ref := "") 12 rfl dJ35_mergeAt_237 q1989 hB ?_
  refine j_if_ne (y := yiJ35_mergeAt) 256 dJ35_mergeAt_240 (by decide) ⟨by decide, by decide⟩ (fun _ => ?_) (fun c => absurd c (by decide))
  refine j_iload_n (y := yiJ35_mergeAt) dJ35_mergeAt_256 rfl ?_
  refine j_iload (y := yiJ35_mergeAt) dJ35_mergeAt_257 rfl ?_
  refine j_iadd (y := yiJ35_mergeAt) dJ35_mergeAt_259 ?_
  refine j_istore_n (y := yiJ35_mergeAt) [some (.ref o), some (vi 0), some (vi (a + r232)), some (vi n1), some (vi (a + n1)), some (vi n2), some (vi r232)] dJ35_mergeAt_260 (by decide) rfl rfl ?_
  refine j_iload_n (y := yiJ35_mergeAt) dJ35_mergeAt_261 rfl ?_
  refine j_iload (y := yiJ35_mergeAt) dJ35_mergeAt_262 rfl ?_
  refine j_isub (y := yiJ35_mergeAt) dJ35_mergeAt_264 ?_
  refine j_istore_n (y := yiJ35_mergeAt) [some (.ref o), some (vi 0), some (vi (a + r232)), some (vi (n1 - r232)), some (vi (a + n1)), some (vi n2), some (vi r232)] dJ35_mergeAt_265 (by decide) rfl rfl ?_
  refine j_iload_n (y := yiJ35_mergeAt) dJ35_mergeAt_266 rfl ?_
  refine j_if_ne (y := yiJ35_mergeAt) 271 dJ35_mergeAt_267 (by decide) ⟨by omega, by omega⟩ (fun c267 => ?_) (fun c267 => ?_)
  · refine m_aload_n (y := yiJ35_mergeAt) dJ35_mergeAt_271 rfl ?_
    refine m_getfS (y := yiJ35_mergeAt) kc_26 0 (by decide) dJ35_mergeAt_272 q2012 ho rfl ?_
    refine j_iload_n (y := yiJ35_mergeAt) dJ35_mergeAt_275 rfl ?_
    refine j_iload_n (y := yiJ35_mergeAt) dJ35_mergeAt_276 rfl ?_
    refine j_iadd (y := yiJ35_mergeAt) dJ35_mergeAt_277 ?_
    refine j_iconst (y := yiJ35_mergeAt) dJ35_mergeAt_278 ?_
    refine j_isub (y := yiJ35_mergeAt) dJ35_mergeAt_279 ?_
    refine h_aald5 (y := yiJ35_mergeAt) dJ35_mergeAt_280 he ⟨by omega, by omega⟩ (by omega) ?_
    rw [(hA.1 (a + r232 + (n1 - r232) - 1) (by omega) (by omega)).1]
    show MW K yiJ35_mergeAt d g2 281 [some (.ref o), some (vi 0), some (vi (a + r232)), some (vi (n1 - r232)), some (vi (a + n1)), some (vi n2), some (vi r232)] [(.ref (p0 (a + r232 + (n1 - r232) - 1)))] Q
    have e281 : a + r232 + (n1 - r232) - 1 = a + n1 - 1 := (by omega)
    obtain ⟨ru2, cs2, ks2, hpt⟩ := (hrd g2 fR (a + r232 + (n1 - r232) - 1) (by omega) (by omega)).cell
    have ne281 := hpe (a + r232 + (n1 - r232) - 1) (by omega) (by omega)
    have hpt : g2.2.2 (p0 (a + r232 + (n1 - r232) - 1)) = some (true, .inr (8, [(.ref ru2), (vi cs2), (vi ks2)])) := hpt
    have l_hpt := hwfk3 _ _ hpt
    refine m_cast (y := yiJ35_mergeAt) dJ35_mergeAt_281 hpt rfl q1994 (Or.inr q1534) ?_
    refine m_aload_n (y := yiJ35_mergeAt) dJ35_mergeAt_284 rfl ?_
    refine m_getfS (y := yiJ35_mergeAt) kc_26 0 (by decide) dJ35_mergeAt_285 q2012 ho rfl ?_
    refine j_iload (y := yiJ35_mergeAt) dJ35_mergeAt_288 rfl ?_
    refine j_iload (y := yiJ35_mergeAt) dJ35_mergeAt_290 rfl ?_
    refine j_iload (y := yiJ35_mergeAt) dJ35_mergeAt_292 rfl ?_
    refine j_iconst (y := yiJ35_mergeAt) dJ35_mergeAt_294 ?_
    refine j_isub (y := yiJ35_mergeAt) dJ35_mergeAt_295 ?_
    refine m_invS (y := yiJ35_mergeAt) [(.ref (p0 (a + r232 + (n1 - r232) - 1))), (.ref e), (vi (a + n1)), (vi n2), (vi (n2 - 1))] dJ35_mergeAt_296 q2055 q2056 q171 q2057 (c_J35_gallopLeft K 3 g2 rk e cap (p0 (a + r232 + (n1 - r232) - 1)) true (a + n1) n2 (n2 - 1) f1 p0 (by omega) hB he (fun i i1 i2 => ⟨(hA.1 i (by omega) (by omega)).1, hrd _ fR i (by omega) (by omega)⟩) (hrd _ fR _ (by omega) (by omega)) (by rw [show a + n1 + n2 = b by omega]; exact A2) (fun i i1 i2 => hin _ i (by omega) (by omega) (by omega) (by omega) (by omega)) ⟨by omega, by omega, by omega, by omega⟩ ⟨by omega, by omega⟩) pdJ35_gallopLeft ⟨Nat.le_of_ble_eq_true rfl, by decide, by omega⟩ (kk_z fun r296 h296 q296 => ?_) kx_z
    obtain ⟨rfl, z296, y296, w296⟩ := q296
    refine j_istore (y := yiJ35_mergeAt) [some (.ref o), some (vi 0), some (vi (a + r232)), some (vi (n1 - r232)), some (vi (a + n1)), some (vi r296), some (vi r232)] dJ35_mergeAt_299 (by decide) rfl rfl ?_
    clear ne222 ne281
    refine m_gets (y := yiJ35_mergeAt) (ref := "") 12 rfl dJ35_mergeAt_301 q1989 hB ?_
    refine j_if_ne (y := yiJ35_mergeAt) 320 dJ35_mergeAt_304 (by decide) ⟨by decide, by decide⟩ (fun _ => ?_) (fun c => absurd c (by decide))
    rw [e281] at y296 w296
    refine j_iload (y := yiJ35_mergeAt) dJ35_mergeAt_320 rfl ?_
    refine j_if_ne (y := yiJ35_mergeAt) 326 dJ35_mergeAt_322 (by decide) ⟨by omega, by omega⟩ (fun c322 => ?_) (fun c322 => ?_)
    · have gl : ∀ p2, Asc rk p2 (a + r232) (a + r232 + (n1 - r232) + r296) → Sms p0 p2 (a + r232) (a + r232 + (n1 - r232) + r296) → Asc rk p2 a b := fun p2 k1 k2 => glue ⟨by omega, by omega, by omega⟩ k2 k1 (fun i j i1 i2 i3 i4 => by { by_cases e9 : j < a + n1; { exact A1 i j i1 (by omega) e9 }; { have u := y232 i i1 i2; by_cases e8 : j = a + n1; { rw [e8]; exact u }; { have := A2 (a + n1) j (by omega) (by omega) (by omega); omega } } }) (fun i j i1 i2 i3 i4 => by { have u := w296 j (by omega) (by omega); by_cases e9 : i < a + n1; { by_cases e8 : i = a + n1 - 1; { rw [e8]; exact u }; { have := A1 i (a + n1 - 1) (by omega) (by omega) (by omega); omega } }; { exact A2 i j (by omega) (by omega) i4 } }) (A1.sub ⟨by omega, by omega⟩) (A2.sub ⟨by omega, by omega⟩)
      refine j_iload_n (y := yiJ35_mergeAt) dJ35_mergeAt_326 rfl ?_
      refine j_iload (y := yiJ35_mergeAt) dJ35_mergeAt_327 rfl ?_
      refine j_icmp_gt (y := yiJ35_mergeAt) 345 dJ35_mergeAt_329 (by decide) ⟨⟨by omega, by omega⟩, ⟨by omega, by omega⟩⟩ (fun c329 => ?_) (fun c329 => ?_)
      · refine m_aload_n (y := yiJ35_mergeAt) dJ35_mergeAt_345 rfl ?_
        refine j_iload_n (y := yiJ35_mergeAt) dJ35_mergeAt_346 rfl ?_
        refine j_iload_n (y := yiJ35_mergeAt) dJ35_mergeAt_347 rfl ?_
        refine j_iload (y := yiJ35_mergeAt) dJ35_mergeAt_348 rfl ?_
        refine j_iload (y := yiJ35_mergeAt) dJ35_mergeAt_350 rfl ?_
        refine m_invV (y := yiJ35_mergeAt) (rB := (RJ35, TJ35, 8)) [(vi (a + r232)), (vi (n1 - r232)), (vi (a + n1)), (vi r296)] dJ35_mergeAt_352 ho rfl q2071 q2073 qs41 q171 q2074 rfl (mergeHi' K 5 g2 rk o e t rb rl cap tl mg (2 - 1) a b (a + r232) (n1 - r232) (a + n1) r296 f1 f0 ft0 p0 (by omega) (by omega) hB ho he htm het (hAu _ fR) ⟨⟨by omega, by omega, by omega⟩, by omega, by omega⟩ ⟨⟨by omega, by omega⟩, by omega, by omega⟩ hmg (A1.sub ⟨by omega, by omega⟩) (A2.sub ⟨by omega, by omega⟩) (by rw [show a + r232 + (n1 - r232) = a + n1 by omega]; exact w232 _ (by omega) (by omega)) (by rw [show a + r232 + (n1 - r232) = a + n1 by omega]; exact y296 _ (by omega) (by omega)) hI) pdJ35_mergeHi ⟨Nat.le_of_ble_eq_true rfl, by decide, by omega⟩ (kk_v fun h352 q352 => ?_) kx_v
        obtain ⟨mg2, f2, ft2, p2, z339, m339, ho2, he2, ht2, k1, k2, k3, k4⟩ := q352
        have hrb : h352.2.2 rb = some (true, ia K ns fb) := (k4 _ (by first | exact nrl | exact nrb | exact ⟨hb.1, hb.2.1, hb.2.2.1⟩ | omega)).trans hrb
        have hrl : h352.2.2 rl = some (true, ia K ns (upz fl 0 (n1 + n2))) := (k4 _ (by first | exact nrl | exact nrb | exact ⟨hb.1, hb.2.1, hb.2.2.1⟩ | omega)).trans hrl
        have fR : ∀ b, (b ≠ e ∧ b ≠ t ∧ b ≠ o ∧ b ≠ rl) → h352.2.2 b = h.2.2 b := fun b hb => (k4 b (by first | exact nrl | exact nrb | exact ⟨hb.1, hb.2.1, hb.2.2.1⟩ | omega)).trans (fR b hb)
        refine mw_wf (fun hwf352 => ?_)
        have l_ho2352 := hwf352 _ _ ho2
        have l_he2352 := hwf352 _ _ he2
        have l_ht2352 := hwf352 _ _ ht2
        subst hQ; exact j_vret (y := yiJ35_mergeAt) dJ35_mergeAt_355 rfl (hss _ mg2 _ f2 _ p2 _ (by omega) ho2 he2 ht2 hrb hrl f00 k1 (gl p2 k2 k3) (k3.wide ⟨by omega, by omega⟩) ⟨by omega, by omega⟩ ⟨by omega, by omega⟩ fR)
      · refine m_aload_n (y := yiJ35_mergeAt) dJ35_mergeAt_332 rfl ?_
        refine j_iload_n (y := yiJ35_mergeAt) dJ35_mergeAt_333 rfl ?_
        refine j_iload_n (y := yiJ35_mergeAt) dJ35_mergeAt_334 rfl ?_
        refine j_iload (y := yiJ35_mergeAt) dJ35_mergeAt_335 rfl ?_
        refine j_iload (y := yiJ35_mergeAt) dJ35_mergeAt_337 rfl ?_
        refine m_invV (y := yiJ35_mergeAt) (rB := (RJ35, TJ35, 8)) [(vi (a + r232)), (vi (n1 - r232)), (vi (a + n1)), (vi r296)] dJ35_mergeAt_339 ho rfl q2058 q2060 qs39 q171 q2061 rfl (mergeLo' K 5 g2 rk o e t rb rl cap tl mg (2 - 1) a b (a + r232) (n1 - r232) (a + n1) r296 f1 f0 ft0 p0 (by omega) (by omega) hB ho he htm het (hAu _ fR) ⟨⟨by omega, by omega, by omega⟩, by omega, by omega⟩ ⟨⟨by omega, by omega⟩, by omega, by omega⟩ hmg (A1.sub ⟨by omega, by omega⟩) (A2.sub ⟨by omega, by omega⟩) (by rw [show a + r232 + (n1 - r232) = a + n1 by omega]; exact w232 _ (by omega) (by omega)) (by rw [show a + r232 + (n1 - r232) = a + n1 by omega]; exact y296 _ (by omega) (by omega)) hI) pdJ35_mergeLo ⟨Nat.le_of_ble_eq_true rfl, by decide, by omega⟩ (kk_v fun h339 q339 => ?_) kx_v
        obtain ⟨mg2, f2, ft2, p2, z339, m339, ho2, he2, ht2, k1, k2, k3, k4⟩ := q339
        have hrb : h339.2.2 rb = some (true, ia K ns fb) := (k4 _ (by first | exact nrl | exact nrb | exact ⟨hb.1, hb.2.1, hb.2.2.1⟩ | omega)).trans hrb
        have hrl : h339.2.2 rl = some (true, ia K ns (upz fl 0 (n1 + n2))) := (k4 _ (by first | exact nrl | exact nrb | exact ⟨hb.1, hb.2.1, hb.2.2.1⟩ | omega)).trans hrl
        have fR : ∀ b, (b ≠ e ∧ b ≠ t ∧ b ≠ o ∧ b ≠ rl) → h339.2.2 b = h.2.2 b := fun b hb => (k4 b (by first | exact nrl | exact nrb | exact ⟨hb.1, hb.2.1, hb.2.2.1⟩ | omega)).trans (fR b hb)
        refine mw_wf (fun hwf339 => ?_)
        have l_ho2339 := hwf339 _ _ ho2
        have l_he2339 := hwf339 _ _ he2
        have l_ht2339 := hwf339 _ _ ht2
        refine m_goto (y := yiJ35_mergeAt) 355 dJ35_mergeAt_342 (by decide) ?_
        subst hQ; exact j_vret (y := yiJ35_mergeAt) dJ35_mergeAt_355 rfl (hss _ mg2 _ f2 _ p2 _ (by omega) ho2 he2 ht2 hrb hrl f00 k1 (gl p2 k2 k3) (k3.wide ⟨by omega, by omega⟩) ⟨by omega, by omega⟩ ⟨by omega, by omega⟩ fR)
    · subst hQ; exact j_vret (y := yiJ35_mergeAt) dJ35_mergeAt_325 rfl (hss _ mg _ f1 _ p0 _ (by omega) ho he htm hrb hrl f00 (hAu _ fR) (A1.app (by exact A2) (fun i1 i2 => w296 _ (by omega) (by omega))) Sms.rfl' ⟨by omega, by omega⟩ ⟨by omega, by omega⟩ fR)
  · subst hQ; exact j_vret (y := yiJ35_mergeAt) dJ35_mergeAt_270 rfl (hss _ mg _ f1 _ p0 _ (by omega) ho he htm hrb hrl f00 (hAu _ fR) (A1.app (by exact A2) (fun i1 i2 => y232 _ (by omega) (by omega))) Sms.rfl' ⟨by omega, by omega⟩ ⟨by omega, by omega⟩ fR)
/-- a merge of the sorter's two runs -/
theorem SS.merge (K : KT) (d : Nat) (h : MH) (rk : Nat → Int) (o e t rb rl cap tl ns : Nat) (mg a m b : Int) (f f0 : Int → Option Nat) (p : Int → Nat) (fb fl : Int → Int) (hd : 7 ≤ d) (hB : kV K 12 = vi 1) (hns : 5 ≤ ns ∧ ns ≤ 100) (S : SS K h rk o e t rb rl cap tl ns mg 2 a m b f f0 p fb fl) (hb : 0 ≤ a ∧ b ≤ (cap : Int) ∧ cap ≤ 60000) (hL : b - a ≤ 2 * (tl : Int) + 1 ∧ tl ≤ 60000) (hmg : 0 ≤ mg ∧ mg ≤ 1000000) (hne : e ≠ t ∧ rb ≠ rl) : Mt K yiJ35_mergeAt d [.ref o, vi 0] h (Rv fun h' => SSq K h h' rk o e t rb rl cap tl ns mg 1 a m b f0 p fb) := by
  obtain ⟨s1, s2, ⟨ft, s3⟩, s4, s5, s6, s7, s8, s9⟩ := S
  rcases s9 with ⟨s9, -⟩ | ⟨-, rfl, n1, n2, k1, k2, k3, k4, k5, k6, k7, k8⟩
  · omega
  · exact c_J35_mergeAt K d h rk o e t rb rl cap tl ns mg a m n1 n2 f f0 ft p fb fl hd hB hns s1 s2 s3 hne.1 s4 s5 hne.2 s6 ⟨⟨hb.1, k1, k2, k6⟩, hb.2.1, hb.2.2⟩ hL hmg ⟨s8.1, k3, k4, k5⟩ k7 k8 s7
theorem SSq.one {K : KT} {h h' : MH} {rk : Nat → Int} {o e t rb rl cap tl ns : Nat} {mg a m b : Int} {f0 : Int → Option Nat} {p : Int → Nat} {fb : Int → Int} (Q : SSq K h h' rk o e t rb rl cap tl ns mg 1 a m b f0 p fb) : ∃ (mg' : Int) (f : Int → Option Nat) (p' : Int → Nat) (fl : Int → Int), SS K h' rk o e t rb rl cap tl ns mg' 1 a m b f f0 p' fb fl ∧ Sms p p' a b ∧ (0 ≤ mg' ∧ mg' ≤ mg + 3 * (b - a) + 5) ∧ (h.1 = h'.1 ∧ h.2.1 = h'.2.1) ∧ ∀ q, q ≠ e ∧ q ≠ t ∧ q ≠ o ∧ q ≠ rl → h'.2.2 q = h.2.2 q := by
  obtain ⟨mg', ss', f, p', fl, q1, q2, q3, q4⟩ := Q
  have e9 : ss' = 1 := by omega
  subst e9
  exact ⟨mg', f, p', fl, q1, q2, q4⟩
theorem SSq.same {K : KT} {h : MH} {rk : Nat → Int} {o e t rb rl cap tl ns : Nat} {mg ss a m b : Int} {f f0 : Int → Option Nat} {p : Int → Nat} {fb fl : Int → Int} (S : SS K h rk o e t rb rl cap tl ns mg ss a m b f f0 p fb fl) (hs : 1 ≤ ss) (hmg : 0 ≤ mg) (hb : a ≤ b) : SSq K h h rk o e t rb rl cap tl ns mg ss a m b f0 p fb := ⟨mg, ss, f, p, fl, S, Sms.rfl', ⟨hs, Int.le_refl _⟩, ⟨hmg, by omega⟩, ⟨rfl, rfl⟩, fun _ _ => rfl⟩
theorem SSq.wide {K : KT} {h h' : MH} {rk : Nat → Int} {o e t rb rl cap tl ns : Nat} {mg a m b : Int} {f0 : Int → Option Nat} {p : Int → Nat} {fb : Int → Int} (Q : SSq K h h' rk o e t rb rl cap tl ns mg 1 a m b f0 p fb) : SSq K h h' rk o e t rb rl cap tl ns mg 2 a m b f0 p fb := by
  obtain ⟨mg', ss', f, p', fl, q1, q2, q3, q4⟩ := Q
  exact ⟨mg', ss', f, p', fl, q1, q2, ⟨q3.1, by omega⟩, q4⟩
theorem c_J35_mergeCollapse_1 (K : KT) (d : Nat) (h : MH) (o e t rb rl : Nat) (mg tb tl : Int) (hd : 8 ≤ d) (ho : h.2.2 o = some (true, .inr (26, [.ref e, vi mg, .ref t, vi tb, vi tl, vi 1, .ref rb, .ref rl]))) : Mt K yiJ35_mergeCollapse d [.ref o] h (Rv fun h' => h = h') := by
  refine mt_ofQ (by decide) (Nat.le_of_ble_eq_true rfl) (fun Q hQ => ?_)
  show MW K yiJ35_mergeCollapse d h 0 [some (.ref o), none] [] Q
  refine mw_wf (fun hwf => ?_)
  have l_ho := hwf _ _ ho
  refine m_aload_n (y := yiJ35_mergeCollapse) dJ35_mergeCollapse_0 rfl ?_
  refine m_getfS (y := yiJ35_mergeCollapse) kc_26 5 (by decide) dJ35_mergeCollapse_1 q2017 ho rfl ?_
  refine j_iconst (y := yiJ35_mergeCollapse) dJ35_mergeCollapse_4 ?_
  refine j_icmp_le (y := yiJ35_mergeCollapse) 133 dJ35_mergeCollapse_5 (by decide) ⟨⟨by omega, by omega⟩, ⟨by omega, by omega⟩⟩ (fun c5 => ?_) (fun c5 => False.elim (by omega))
  subst hQ; exact j_vret (y := yiJ35_mergeCollapse) dJ35_mergeCollapse_133 rfl rfl
theorem c_J35_mergeForceCollapse_1 (K : KT) (d : Nat) (h : MH) (o e t rb rl : Nat) (mg tb tl : Int) (hd : 8 ≤ d) (ho : h.2.2 o = some (true, .inr (26, [.ref e, vi mg, .ref t, vi tb, vi tl, vi 1, .ref rb, .ref rl]))) : Mt K yiJ35_mergeForceCollapse d [.ref o] h (Rv fun h' => h = h') := by
  refine mt_ofQ (by decide) (Nat.le_of_ble_eq_true rfl) (fun Q hQ => ?_)
  show MW K yiJ35_mergeForceCollapse d h 0 [some (.ref o), none] [] Q
  refine mw_wf (fun hwf => ?_)
  have l_ho := hwf _ _ ho
  refine m_aload_n (y := yiJ35_mergeForceCollapse) dJ35_mergeForceCollapse_0 rfl ?_
  refine m_getfS (y := yiJ35_mergeForceCollapse) kc_26 5 (by decide) dJ35_mergeForceCollapse_1 q2017 ho rfl ?_
  refine j_iconst (y := yiJ35_mergeForceCollapse) dJ35_mergeForceCollapse_4 ?_
  refine j_icmp_le (y := yiJ35_mergeForceCollapse) 49 dJ35_mergeForceCollapse_5 (by decide) ⟨⟨by omega, by omega⟩, ⟨by omega, by omega⟩⟩ (fun c5 => ?_) (fun c5 => False.elim (by omega))
  subst hQ; exact j_vret (y := yiJ35_mergeForceCollapse) dJ35_mergeForceCollapse_49 rfl rfl
theorem c_J35_mergeCollapse_2 (K : KT) (d : Nat) (h : MH) (rk : Nat → Int) (o e t rb rl cap tl ns : Nat) (mg a m b : Int) (f f0 : Int → Option Nat) (p : Int → Nat) (fb fl : Int → Int) (hd : 8 ≤ d) (hB : kV K 12 = vi 1) (hns : 5 ≤ ns ∧ ns ≤ 100) (S : SS K h rk o e t rb rl cap tl ns mg 2 a m b f f0 p fb fl) (hb : 0 ≤ a ∧ b ≤ (cap : Int) ∧ cap ≤ 60000) (hL : b - a ≤ 2 * (tl : Int) + 1 ∧ tl ≤ 60000) (hmg : 0 ≤ mg ∧ mg ≤ 1000000) (hne : e ≠ t ∧ rb ≠ rl) : Mt K yiJ35_mergeCollapse d [.ref o] h (Rv fun h' => SSq K h h' rk o e t rb rl cap tl ns mg 2 a m b f0 p fb) := by
  have S0 := S
  obtain ⟨ho, -, -, -, hrl, -, -, s8, s9⟩ := S
  have hfl : In (fl 0) ∧ In (fl 1) := by
    rcases s9 with ⟨s9, -⟩ | ⟨-, -, n1, n2, k1, k2, k3, k4, k5, k6, k7, k8⟩
    · omega
    · rw [k3, k5]; exact ⟨⟨by omega, by omega⟩, by omega, by omega⟩
  obtain ⟨⟨g1, g2⟩, g3, g4⟩ := hfl
  have g3' : -2147483648 ≤ fl (0 + 1) := g3
  have g4' : fl (0 + 1) ≤ 2147483647 := g4
  refine mt_ofQ (by decide) (Nat.le_of_ble_eq_true rfl) (fun Q hQ => ?_)
  show MW K yiJ35_mergeCollapse d h 0 [some (.ref o), none] [] Q
  refine mw_wf (fun hwf => ?_)
  have l_ho := hwf _ _ ho
  have l_hrl := hwf _ _ hrl
  refine m_aload_n (y := yiJ35_mergeCollapse) dJ35_mergeCollapse_0 rfl ?_
  refine m_getfS (y := yiJ35_mergeCollapse) kc_26 5 (by decide) dJ35_mergeCollapse_1 q2017 ho rfl ?_
  refine j_iconst (y := yiJ35_mergeCollapse) dJ35_mergeCollapse_4 ?_
  refine j_icmp_le (y := yiJ35_mergeCollapse) 133 dJ35_mergeCollapse_5 (by decide) ⟨⟨by omega, by omega⟩, ⟨by omega, by omega⟩⟩ (fun c5 => False.elim (by omega)) (fun c5 => ?_)
  refine m_aload_n (y := yiJ35_mergeCollapse) dJ35_mergeCollapse_8 rfl ?_
  refine m_getfS (y := yiJ35_mergeCollapse) kc_26 5 (by decide) dJ35_mergeCollapse_9 q2017 ho rfl ?_
  refine j_iconst (y := yiJ35_mergeCollapse) dJ35_mergeCollapse_12 ?_
  refine j_isub (y := yiJ35_mergeCollapse) dJ35_mergeCollapse_13 ?_
  refine mw_top (x' := 0) (rfl) ?_
  refine j_istore_n (y := yiJ35_mergeCollapse) [some (.ref o), some (vi 0)] dJ35_mergeCollapse_14 (by decide) rfl rfl ?_
  refine j_iload_n (y := yiJ35_mergeCollapse) dJ35_mergeCollapse_15 rfl ?_
  refine j_if_le (y := yiJ35_mergeCollapse) 45 dJ35_mergeCollapse_16 (by decide) ⟨by decide, by decide⟩ (fun _ => ?_) (fun c => absurd c (by decide))
  refine j_iload_n (y := yiJ35_mergeCollapse) dJ35_mergeCollapse_45 rfl ?_
  refine j_iconst (y := yiJ35_mergeCollapse) dJ35_mergeCollapse_46 ?_
  refine j_icmp_le (y := yiJ35_mergeCollapse) 101 dJ35_mergeCollapse_47 (by decide) ⟨⟨by omega, by omega⟩, ⟨by omega, by omega⟩⟩ (fun c47 => ?_) (fun c47 => False.elim (by omega))
  refine j_iload_n (y := yiJ35_mergeCollapse) dJ35_mergeCollapse_101 rfl ?_
  refine j_if_lt (y := yiJ35_mergeCollapse) 133 dJ35_mergeCollapse_102 (by decide) ⟨by decide, by decide⟩ (fun c => absurd c (by decide)) (fun _ => ?_)
  refine m_aload_n (y := yiJ35_mergeCollapse) dJ35_mergeCollapse_105 rfl ?_
  refine m_getfS (y := yiJ35_mergeCollapse) kc_26 7 (by decide) dJ35_mergeCollapse_106 q2019 ho rfl ?_
  refine j_iload_n (y := yiJ35_mergeCollapse) dJ35_mergeCollapse_109 rfl ?_
  refine j_iald (y := yiJ35_mergeCollapse) dJ35_mergeCollapse_110 hrl (by omega) ⟨by omega, by omega⟩ ?_
  refine m_aload_n (y := yiJ35_mergeCollapse) dJ35_mergeCollapse_111 rfl ?_
  refine m_getfS (y := yiJ35_mergeCollapse) kc_26 7 (by decide) dJ35_mergeCollapse_112 q2019 ho rfl ?_
  refine j_iload_n (y := yiJ35_mergeCollapse) dJ35_mergeCollapse_115 rfl ?_
  refine j_iconst (y := yiJ35_mergeCollapse) dJ35_mergeCollapse_116 ?_
  refine j_iadd (y := yiJ35_mergeCollapse) dJ35_mergeCollapse_117 ?_
  refine j_iald (y := yiJ35_mergeCollapse) dJ35_mergeCollapse_118 hrl (by omega) ⟨by omega, by omega⟩ ?_
  refine j_icmp_le (y := yiJ35_mergeCollapse) 125 dJ35_mergeCollapse_119 (by decide) ⟨⟨by omega, by omega⟩, ⟨by omega, by omega⟩⟩ (fun c119 => ?_) (fun c119 => ?_)
  · refine m_aload_n (y := yiJ35_mergeCollapse) dJ35_mergeCollapse_125 rfl ?_
    refine j_iload_n (y := yiJ35_mergeCollapse) dJ35_mergeCollapse_126 rfl ?_
    refine m_invV (y := yiJ35_mergeCollapse) (rB := (RJ35, TJ35, 8)) [(vi 0)] dJ35_mergeCollapse_127 ho rfl q2048 q2050 qs38 q171 q2051 rfl (SS.merge K 7 h rk o e t rb rl cap tl ns mg a m b f f0 p fb fl (by omega) hB hns S0 hb hL hmg hne) pdJ35_mergeAt ⟨Nat.le_of_ble_eq_true rfl, by decide, by omega⟩ (kk_v fun h127 q127 => ?_) kx_v
    obtain q127 := q127
    obtain ⟨mg2, f2, p2, fl2, S2, u1, u2, u3, u4⟩ := SSq.one q127
    have ho2 := S2.1
    refine mw_wf (fun hwf127 => ?_)
    have l_ho2127 := hwf127 _ _ ho2
    refine m_goto (y := yiJ35_mergeCollapse) 0 dJ35_mergeCollapse_130 (by decide) ?_
    refine m_aload_n (y := yiJ35_mergeCollapse) dJ35_mergeCollapse_0 rfl ?_
    refine m_getfS (y := yiJ35_mergeCollapse) kc_26 5 (by decide) dJ35_mergeCollapse_1 q2017 ho2 rfl ?_
    refine j_iconst (y := yiJ35_mergeCollapse) dJ35_mergeCollapse_4 ?_
    refine j_icmp_le (y := yiJ35_mergeCollapse) 133 dJ35_mergeCollapse_5 (by decide) ⟨⟨by omega, by omega⟩, ⟨by omega, by omega⟩⟩ (fun c5 => ?_) (fun c5 => False.elim (by omega))
    subst hQ; exact j_vret (y := yiJ35_mergeCollapse) dJ35_mergeCollapse_133 rfl (by first | exact SSq.wide q127 | exact SSq.same S0 (by omega) (by omega) (by omega))
  · refine m_goto (y := yiJ35_mergeCollapse) 133 dJ35_mergeCollapse_122 (by decide) ?_
    subst hQ; exact j_vret (y := yiJ35_mergeCollapse) dJ35_mergeCollapse_133 rfl (by first | exact SSq.wide q127 | exact SSq.same S0 (by omega) (by omega) (by omega))
theorem c_J35_mergeForceCollapse_2 (K : KT) (d : Nat) (h : MH) (rk : Nat → Int) (o e t rb rl cap tl ns : Nat) (mg a m b : Int) (f f0 : Int → Option Nat) (p : Int → Nat) (fb fl : Int → Int) (hd : 8 ≤ d) (hB : kV K 12 = vi 1) (hns : 5 ≤ ns ∧ ns ≤ 100) (S : SS K h rk o e t rb rl cap tl ns mg 2 a m b f f0 p fb fl) (hb : 0 ≤ a ∧ b ≤ (cap : Int) ∧ cap ≤ 60000) (hL : b - a ≤ 2 * (tl : Int) + 1 ∧ tl ≤ 60000) (hmg : 0 ≤ mg ∧ mg ≤ 1000000) (hne : e ≠ t ∧ rb ≠ rl) : Mt K yiJ35_mergeForceCollapse d [.ref o] h (Rv fun h' => SSq K h h' rk o e t rb rl cap tl ns mg 1 a m b f0 p fb) := by
  have S0 := S
  obtain ⟨ho, -, -, -, hrl, -, -, s8, s9⟩ := S
  refine mt_ofQ (by decide) (Nat.le_of_ble_eq_true rfl) (fun Q hQ => ?_)
  show MW K yiJ35_mergeForceCollapse d h 0 [some (.ref o), none] [] Q
  refine mw_wf (fun hwf => ?_)
  have l_ho := hwf _ _ ho
  have l_hrl := hwf _ _ hrl
  refine m_aload_n (y := yiJ35_mergeForceCollapse) dJ35_mergeForceCollapse_0 rfl ?_
  refine m_getfS (y := yiJ35_mergeForceCollapse) kc_26 5 (by decide) dJ35_mergeForceCollapse_1 q2017 ho rfl ?_
  refine j_iconst (y := yiJ35_mergeForceCollapse) dJ35_mergeForceCollapse_4 ?_
  refine j_icmp_le (y := yiJ35_mergeForceCollapse) 49 dJ35_mergeForceCollapse_5 (by decide) ⟨⟨by omega, by omega⟩, ⟨by omega, by omega⟩⟩ (fun c5 => False.elim (by omega)) (fun c5 => ?_)
  refine m_aload_n (y := yiJ35_mergeForceCollapse) dJ35_mergeForceCollapse_8 rfl ?_
  refine m_getfS (y := yiJ35_mergeForceCollapse) kc_26 5 (by decide) dJ35_mergeForceCollapse_9 q2017 ho rfl ?_
  refine j_iconst (y := yiJ35_mergeForceCollapse) dJ35_mergeForceCollapse_12 ?_
  refine j_isub (y := yiJ35_mergeForceCollapse) dJ35_mergeForceCollapse_13 ?_
  refine mw_top (x' := 0) (rfl) ?_
  refine j_istore_n (y := yiJ35_mergeForceCollapse) [some (.ref o), some (vi 0)] dJ35_mergeForceCollapse_14 (by decide) rfl rfl ?_
  refine j_iload_n (y := yiJ35_mergeForceCollapse) dJ35_mergeForceCollapse_15 rfl ?_
  refine j_if_le (y := yiJ35_mergeForceCollapse) 41 dJ35_mergeForceCollapse_16 (by decide) ⟨by decide, by decide⟩ (fun _ => ?_) (fun c => absurd c (by decide))
  refine m_aload_n (y := yiJ35_mergeForceCollapse) dJ35_mergeForceCollapse_41 rfl ?_
  refine j_iload_n (y := yiJ35_mergeForceCollapse) dJ35_mergeForceCollapse_42 rfl ?_
  refine m_invV (y := yiJ35_mergeForceCollapse) (rB := (RJ35, TJ35, 8)) [(vi 0)] dJ35_mergeForceCollapse_43 ho rfl q2048 q2050 qs38 q171 q2051 rfl (SS.merge K 7 h rk o e t rb rl cap tl ns mg a m b f f0 p fb fl (by omega) hB hns S0 hb hL hmg hne) pdJ35_mergeAt ⟨Nat.le_of_ble_eq_true rfl, by decide, by omega⟩ (kk_v fun h43 q43 => ?_) kx_v
  obtain q43 := q43
  obtain ⟨mg2, f2, p2, fl2, S2, u1, u2, u3, u4⟩ := SSq.one q43
  have ho2 := S2.1
  refine mw_wf (fun hwf43 => ?_)
  have l_ho243 := hwf43 _ _ ho2
  refine m_goto (y := yiJ35_mergeForceCollapse) 0 dJ35_mergeForceCollapse_46 (by decide) ?_
  refine m_aload_n (y := yiJ35_mergeForceCollapse) dJ35_mergeForceCollapse_0 rfl ?_
  refine m_getfS (y := yiJ35_mergeForceCollapse) kc_26 5 (by decide) dJ35_mergeForceCollapse_1 q2017 ho2 rfl ?_
  refine j_iconst (y := yiJ35_mergeForceCollapse) dJ35_mergeForceCollapse_4 ?_
  refine j_icmp_le (y := yiJ35_mergeForceCollapse) 49 dJ35_mergeForceCollapse_5 (by decide) ⟨⟨by omega, by omega⟩, ⟨by omega, by omega⟩⟩ (fun c5 => ?_) (fun c5 => False.elim (by omega))
  subst hQ; exact j_vret (y := yiJ35_mergeForceCollapse) dJ35_mergeForceCollapse_49 rfl q43
theorem c_mergeCollapse (K : KT) (d : Nat) (h : MH) (rk : Nat → Int) (o e t rb rl cap tl ns : Nat) (mg ss a m b : Int) (f f0 : Int → Option Nat) (p : Int → Nat) (fb fl : Int → Int) (hd : 8 ≤ d) (hB : kV K 12 = vi 1) (hns : 5 ≤ ns ∧ ns ≤ 100) (S : SS K h rk o e t rb rl cap tl ns mg ss a m b f f0 p fb fl) (hb : 0 ≤ a ∧ b ≤ (cap : Int) ∧ cap ≤ 60000) (hL : b - a ≤ 2 * (tl : Int) + 1 ∧ tl ≤ 60000) (hmg : 0 ≤ mg ∧ mg ≤ 1000000) (hne : e ≠ t ∧ rb ≠ rl) : Mt K yiJ35_mergeCollapse d [.ref o] h (Rv fun h' => SSq K h h' rk o e t rb rl cap tl ns mg ss a m b f0 p fb) := by
  have s9 := S.2.2.2.2.2.2.2.2
  have s8 := S.2.2.2.2.2.2.2.1
  by_cases e9 : ss = 1
  · subst e9
    exact mt_mono (c_J35_mergeCollapse_1 K d h o e t rb rl mg 0 tl hd S.1) (fun o h' q => ⟨q.1, by rw [← q.2]; exact SSq.same S (by omega) (by omega) (by omega)⟩)
  · have e8 : ss = 2 := by rcases s9 with s9 | s9; exact absurd s9.1 e9; exact s9.1
    subst e8
    exact c_J35_mergeCollapse_2 K d h rk o e t rb rl cap tl ns mg a m b f f0 p fb fl hd hB hns S hb hL hmg hne
theorem c_mergeForceCollapse (K : KT) (d : Nat) (h : MH) (rk : Nat → Int) (o e t rb rl cap tl ns : Nat) (mg ss a m b : Int) (f f0 : Int → Option Nat) (p : Int → Nat) (fb fl : Int → Int) (hd : 8 ≤ d) (hB : kV K 12 = vi 1) (hns : 5 ≤ ns ∧ ns ≤ 100) (S : SS K h rk o e t rb rl cap tl ns mg ss a m b f f0 p fb fl) (hb : 0 ≤ a ∧ b ≤ (cap : Int) ∧ cap ≤ 60000) (hL : b - a ≤ 2 * (tl : Int) + 1 ∧ tl ≤ 60000) (hmg : 0 ≤ mg ∧ mg ≤ 1000000) (hne : e ≠ t ∧ rb ≠ rl) : Mt K yiJ35_mergeForceCollapse d [.ref o] h (Rv fun h' => SSq K h h' rk o e t rb rl cap tl ns mg 1 a m b f0 p fb) := by
  have s9 := S.2.2.2.2.2.2.2.2
  have s8 := S.2.2.2.2.2.2.2.1
  by_cases e9 : ss = 1
  · subst e9
    exact mt_mono (c_J35_mergeForceCollapse_1 K d h o e t rb rl mg 0 tl hd S.1) (fun o h' q => ⟨q.1, by rw [← q.2]; exact SSq.same S (by omega) (by omega) (by omega)⟩)
  · have e8 : ss = 2 := by rcases s9 with s9 | s9; exact absurd s9.1 e9; exact s9.1
    subst e8
    exact c_J35_mergeForceCollapse_2 K d h rk o e t rb rl cap tl ns mg a m b f f0 p fb fl hd hB hns S hb hL hmg hne
