/-! the sort: a merge from the right, as a merge from the left of what is mirrored -/
def mrF {α : Type} (g : Int → α) : Int → α := fun i => g (-i)
theorem Asc.mr {rk : Nat → Int} {p : Int → Nat} {a b : Int} (A : Asc rk p a b) : Asc (fun q => - rk q) (mrF p) (1 - b) (1 - a) := fun i j h1 h2 h3 => by
  have := A (-j) (-i) (by omega) (by omega) (by omega)
  show - rk (p (-i)) < - rk (p (-j))
  omega
theorem Asc.rm {rk : Nat → Int} {p : Int → Nat} {a b : Int} (A : Asc (fun q => - rk q) p (1 - b) (1 - a)) : Asc rk (mrF p) a b := fun i j h1 h2 h3 => by
  have : - rk (p (-j)) < - rk (p (-i)) := A (-j) (-i) (by omega) (by omega) (by omega)
  show rk (p (-i)) < rk (p (-j))
  omega
theorem Sms.rm {p q : Int → Nat} {a b : Int} (S : Sms (mrF p) q (1 - b) (1 - a)) : Sms p (mrF q) a b := by
  refine ⟨fun i h1 h2 => ?_, fun i h1 h2 => ?_, fun i h1 => ?_⟩
  · obtain ⟨j, u1, u2, u3⟩ := S.1 (-i) (by omega) (by omega)
    exact ⟨-j, by omega, by omega, u3⟩
  · obtain ⟨j, u1, u2, u3⟩ := S.2.1 (-i) (by omega) (by omega)
    refine ⟨-j, by omega, by omega, ?_⟩
    have e : mrF p (-i) = p i := by unfold mrF; rw [Int.neg_neg]
    rw [e] at u3
    rw [u3]; unfold mrF; rw [Int.neg_neg]
  · have u3 := S.2.2 (-i) (by omega)
    have e : mrF p (-i) = p i := by unfold mrF; rw [Int.neg_neg]
    rw [e] at u3
    exact u3
/-- r1 elements of run 1 and r2 of run 2 (these in the other array) are still to be merged -/
def MR (rk : Nat → Int) (a b B L1 L2 r1 r2 : Int) (f f0 : Int → Option Nat) (p0 : Int → Nat) (h : MH) : Prop := ∃ pt : Int → Nat, Mg (fun q => - rk q) (mrF p0) pt (1 - (B + L1 + L2)) L2 L1 (L2 - r2) (L1 - r1) ∧ ArM h rk (1 - b) (1 - a) (1 - (B + L1 + L2)) L2 (L2 - r2) (L1 - r1) (mrF f) (mrF f0) (mrF p0) pt
theorem MR.up {rk : Nat → Int} {a b B L1 L2 r1 r2 : Int} {f f0 : Int → Option Nat} {p0 : Int → Nat} {h h' : MH} (M : MR rk a b B L1 L2 r1 r2 f f0 p0 h) (e1 : ∀ b w ci fs, ci ≠ 26 → h.2.2 b = some (w, .inr (ci, fs)) → h'.2.2 b = h.2.2 b) : MR rk a b B L1 L2 r1 r2 f f0 p0 h' := by
  obtain ⟨pt, m1, m2⟩ := M
  exact ⟨pt, m1, m2.up e1⟩
theorem MR.b {rk : Nat → Int} {a b B L1 L2 r1 r2 : Int} {f f0 : Int → Option Nat} {p0 : Int → Nat} {h : MH} (M : MR rk a b B L1 L2 r1 r2 f f0 p0 h) : (0 ≤ r1 ∧ r1 ≤ L1) ∧ 0 ≤ r2 ∧ r2 ≤ L2 := by
  obtain ⟨pt, m1, m2⟩ := M
  have := m1.1
  omega
theorem MR.start {rk : Nat → Int} {a b B L1 L2 : Int} {f f0 : Int → Option Nat} {p0 : Int → Nat} {h : MH} {e : Nat} (A : ArS h rk e a b f f0 p0) (h0 : 0 ≤ L1 ∧ 0 ≤ L2) : MR rk a b B L1 L2 L1 L2 f f0 p0 h := by
  refine ⟨mrF p0, ?_, fun i a1 a2 => ⟨(A.1 (-i) (by omega) (by omega)).2, (A.1 (-i) (by omega) (by omega)).2⟩, fun i a1 a2 _ => (A.1 (-i) (by omega) (by omega)).1, fun i a1 => A.2 (-i) (by omega)⟩
  rw [Int.sub_self, Int.sub_self]
  exact Mg.start ⟨h0.2, h0.1⟩
/-- what is left of run 1 -/
theorem MR.e1 {rk : Nat → Int} {a b B L1 L2 r1 r2 : Int} {f f0 : Int → Option Nat} {p0 : Int → Nat} {h : MH} (M : MR rk a b B L1 L2 r1 r2 f f0 p0 h) (hb : a ≤ B ∧ B + L1 + L2 ≤ b) {i : Int} (hi : B ≤ i ∧ i < B + r1) : f i = some (p0 i) := by
  have h9 := M.b
  obtain ⟨pt, ⟨h0, -, -, -, -, h5⟩, h6⟩ := M
  have u := h6.2.1 (-i) (by omega) (by omega) (by omega)
  rw [h5 (-i) (by omega)] at u
  unfold mrF at u
  rw [Int.neg_neg] at u
  exact u
theorem MR.rd {rk : Nat → Int} {a b B L1 L2 r1 r2 : Int} {f f0 : Int → Option Nat} {p0 : Int → Nat} {h : MH} (M : MR rk a b B L1 L2 r1 r2 f f0 p0 h) {i : Int} (hi : a ≤ i ∧ i < b) : RdS h rk (p0 i) := by
  obtain ⟨pt, m1, m2⟩ := M
  have u := (m2.1 (-i) (by omega) (by omega)).1
  unfold mrF at u
  rw [Int.neg_neg] at u
  exact u
theorem MR.t1 {rk : Nat → Int} {a b B L1 L2 r1 r2 r2' m : Int} {f f' f0 : Int → Option Nat} {p0 : Int → Nat} {h : MH} (M : MR rk a b B L1 L2 r1 r2 f f0 p0 h) (hb : a ≤ B ∧ B + L1 + L2 ≤ b) (hr : r2' = r2 - m) (hm : 0 ≤ m ∧ m ≤ r2) (A2 : Asc rk p0 (B + L1) (B + L1 + L2)) (hc : 0 < m → 0 < r1 → rk (p0 (B + r1 - 1)) < rk (p0 (B + L1 + r2 - m))) (hf : ∀ k, f' k = if B + r1 + r2 - m ≤ k ∧ k < B + r1 + r2 then some (p0 (k + L1 - r1)) else f k) : MR rk a b B L1 L2 r1 r2' f' f0 p0 h := by
  subst hr
  obtain ⟨pt, M1, M2⟩ := M
  have h0 := M1.1
  have e1 : L2 - (r2 - m) = L2 - r2 + m := by omega
  refine ⟨tk1 (mrF p0) pt (1 - (B + L1 + L2)) (L2 - r2) (L1 - r1) m, ?_, ?_⟩
  · rw [e1]
    refine M1.one ⟨by omega, by omega⟩ (by have := A2.mr; rw [show 1 - (B + L1) = 1 - (B + L1 + L2) + L2 by omega] at this; exact this) (fun q1 q2 => ?_) (fun k => rfl)
    have u := hc q1 (by omega)
    show - rk (p0 (-(1 - (B + L1 + L2) + (L2 - r2) + m - 1))) < - rk (p0 (-(1 - (B + L1 + L2) + L2 + (L1 - r1))))
    rw [show -(1 - (B + L1 + L2) + (L2 - r2) + m - 1) = B + L1 + r2 - m by omega, show -(1 - (B + L1 + L2) + L2 + (L1 - r1)) = B + r1 - 1 by omega]
    omega
  · rw [e1]
    refine M2.one (L2 := L1) ⟨by omega, by omega⟩ ⟨⟨by omega, by omega, by omega⟩, by omega, by omega⟩ (fun k => rfl) (fun k => ?_)
    show f' (-k) = if _ then some (p0 (-(k - (L1 - r1)))) else f (-k)
    rw [hf (-k)]
    by_cases e : B + r1 + r2 - m ≤ -k ∧ -k < B + r1 + r2
    · rw [if_pos e, if_pos (by omega)]; congr 2; omega
    · rw [if_neg e, if_neg (by omega)]
theorem MR.t2 {rk : Nat → Int} {a b B L1 L2 r1 r2 r1' m : Int} {f f' f0 : Int → Option Nat} {p0 : Int → Nat} {h : MH} (M : MR rk a b B L1 L2 r1 r2 f f0 p0 h) (hb : a ≤ B ∧ B + L1 + L2 ≤ b) (hr : r1' = r1 - m) (hm : 0 ≤ m ∧ m ≤ r1) (A1 : Asc rk p0 B (B + L1)) (hc : 0 < m → 0 < r2 → rk (p0 (B + L1 + r2 - 1)) < rk (p0 (B + r1 - m))) (hf : ∀ k, f' k = if B + r1 + r2 - m ≤ k ∧ k < B + r1 + r2 then some (p0 (k - r2)) else f k) : MR rk a b B L1 L2 r1' r2 f' f0 p0 h := by
  subst hr
  obtain ⟨pt, M1, M2⟩ := M
  have h0 := M1.1
  have e1 : L1 - (r1 - m) = L1 - r1 + m := by omega
  refine ⟨tk2 (mrF p0) pt (1 - (B + L1 + L2)) L2 (L2 - r2) (L1 - r1) m, ?_, ?_⟩
  · rw [e1]
    refine M1.two ⟨by omega, by omega⟩ (by have := A1.mr; rw [show 1 - (B + L1) = 1 - (B + L1 + L2) + L2 by omega, show 1 - B = 1 - (B + L1 + L2) + L2 + L1 by omega] at this; exact this) (fun q1 q2 => ?_) (fun k => rfl)
    have u := hc q1 (by omega)
    show - rk (p0 (-(1 - (B + L1 + L2) + L2 + (L1 - r1) + m - 1))) < - rk (p0 (-(1 - (B + L1 + L2) + (L2 - r2))))
    rw [show -(1 - (B + L1 + L2) + L2 + (L1 - r1) + m - 1) = B + r1 - m by omega, show -(1 - (B + L1 + L2) + (L2 - r2)) = B + L1 + r2 - 1 by omega]
    omega
  · rw [e1]
    refine M2.two (L2 := L1) ⟨by omega, by omega⟩ ⟨⟨by omega, by omega⟩, by omega, by omega, by omega⟩ (fun k => rfl) (fun k => ?_)
    show f' (-k) = if _ then some (p0 (-(k + L2 - (L2 - r2)))) else f (-k)
    rw [hf (-k)]
    by_cases e : B + r1 + r2 - m ≤ -k ∧ -k < B + r1 + r2
    · rw [if_pos e, if_pos (by omega)]; congr 2; omega
    · rw [if_neg e, if_neg (by omega)]
theorem MR.cp2 {rk : Nat → Int} {a b B L1 L2 r1 r2 c ds m : Int} {f f0 : Int → Option Nat} {p0 : Int → Nat} {h : MH} (M : MR rk a b B L1 L2 r1 r2 f f0 p0 h) (hb : a ≤ B ∧ B + L1 + L2 ≤ b) (hc : c = B + r1 - m) (hd : ds = B + r1 + r2 - m) (hm : 0 ≤ m ∧ m ≤ r1) : ∀ k, cpq f f c ds m k = if B + r1 + r2 - m ≤ k ∧ k < B + r1 + r2 then some (p0 (k - r2)) else f k := by
  intro k
  subst hc; subst hd
  unfold cpq
  by_cases e : B + r1 + r2 - m ≤ k ∧ k < B + r1 + r2
  · rw [if_pos e, if_pos (by omega), M.e1 hb (by omega)]; congr 2; omega
  · rw [if_neg e, if_neg (by omega)]
theorem MR.up2 {B r1 r2 c ds : Int} {f : Int → Option Nat} {p0 : Int → Nat} (hc : c = B + r1 - 1) (hd : ds = B + r1 + r2 - 1) : ∀ k, upq f ds (some (p0 c)) k = if B + r1 + r2 - 1 ≤ k ∧ k < B + r1 + r2 then some (p0 (k - r2)) else f k := by
  intro k
  subst hc; subst hd
  unfold upq
  by_cases e : k = B + r1 + r2 - 1
  · rw [if_pos e, if_pos (by omega)]; congr 2; omega
  · rw [if_neg e, if_neg (by omega)]
theorem MR.cp1 {B L1 L2 r1 r2 s ds m : Int} {f ft : Int → Option Nat} {p0 : Int → Nat} (ht : ∀ i, 0 ≤ i → i < L2 → ft i = some (p0 (B + L1 + i))) (hs : s = r2 - m) (hd : ds = B + r1 + r2 - m) (hm : 0 ≤ m ∧ m ≤ r2 ∧ r2 ≤ L2) : ∀ k, cpq ft f s ds m k = if B + r1 + r2 - m ≤ k ∧ k < B + r1 + r2 then some (p0 (k + L1 - r1)) else f k := by
  intro k
  subst hs; subst hd
  unfold cpq
  by_cases e : B + r1 + r2 - m ≤ k ∧ k < B + r1 + r2
  · rw [if_pos e, if_pos (by omega), ht _ (by omega) (by omega)]; congr 2; omega
  · rw [if_neg e, if_neg (by omega)]
theorem MR.up1 {B L1 r1 r2 c ds : Int} {f : Int → Option Nat} {p0 : Int → Nat} (hc : c = r2 - 1) (hd : ds = B + r1 + r2 - 1) : ∀ k, upq f ds (some (p0 (B + L1 + c))) k = if B + r1 + r2 - 1 ≤ k ∧ k < B + r1 + r2 then some (p0 (k + L1 - r1)) else f k := by
  intro k
  subst hc; subst hd
  unfold upq
  by_cases e : k = B + r1 + r2 - 1
  · rw [if_pos e, if_pos (by omega)]; congr 2; omega
  · rw [if_neg e, if_neg (by omega)]
theorem MR.done {rk : Nat → Int} {a b B L1 L2 r1 r2 : Int} {f f0 : Int → Option Nat} {p0 : Int → Nat} {h : MH} (M : MR rk a b B L1 L2 r1 r2 f f0 p0 h) (h1 : r1 = 0) (h2 : r2 = 0) (e : Nat) : ∃ p, ArS h rk e a b f f0 p ∧ Asc rk p B (B + L1 + L2) ∧ Sms p0 p B (B + L1 + L2) := by
  subst h1; subst h2
  obtain ⟨pt, M1, M2⟩ := M
  rw [Int.sub_zero, Int.sub_zero] at M1 M2
  have q := M1.done
  rw [show 1 - (B + L1 + L2) + L2 + L1 = 1 - B by omega] at q
  refine ⟨mrF pt, ⟨fun i a1 a2 => ⟨?_, (M2.1 (-i) (by omega) (by omega)).2⟩, fun i a1 => ?_⟩, q.1.rm, q.2.rm⟩
  · have u := M2.2.1 (-i) (by omega) (by omega) (by omega)
    have e9 : mrF f (-i) = f i := by unfold mrF; rw [Int.neg_neg]
    rw [e9] at u; exact u
  · have u := M2.2.2 (-i) (by omega)
    have e9 : mrF f (-i) = f i := by unfold mrF; rw [Int.neg_neg]
    have e8 : mrF f0 (-i) = f0 i := by unfold mrF; rw [Int.neg_neg]
    rw [e9, e8] at u; exact u
theorem mh577 (K : KT) (d : Nat) (h : MH) (rk : Nat → Int) (o e t rb rl cap tl : Nat) (mg ss : Int) (a b B L1 L2 : Int) (f1 f0 ft0 : Int → Option Nat) (p0 : Int → Nat) (hd : 5 ≤ d) (hB : kV K 12 = vi 1) (ho : h.2.2 o = some (true, .inr (26, [.ref e, vi mg, .ref t, vi 0, vi (tl : Int), vi ss, .ref rb, .ref rl]))) (he : h.2.2 e = some (true, oaE K cap f1)) (htm : h.2.2 t = some (true, oaE K tl ft0)) (het : e ≠ t) (hA : ArS h rk e a b f1 f0 p0) (hb : (0 ≤ a ∧ a ≤ B ∧ B + L1 + L2 ≤ b) ∧ b ≤ (cap : Int) ∧ cap ≤ 60000) (hL : (0 < L1 ∧ 0 < L2) ∧ L2 ≤ (tl : Int) ∧ tl ≤ 60000) (hmg : 0 ≤ mg ∧ mg ≤ 1000000) (A1 : Asc rk p0 B (B + L1)) (A2 : Asc rk p0 (B + L1) (B + L1 + L2)) (hfi : rk (p0 (B + L1)) < rk (p0 B)) (hla : rk (p0 (B + L1 + L2 - 1)) < rk (p0 (B + L1 - 1))) (hI : Inj rk p0 a b) (Q : OT → MH → Prop) (hQ : (Rv fun h' => ∃ (mg' : Int) (f ft : Int → Option Nat) (p : Int → Nat), (h.1 = h'.1 ∧ h.2.1 = h'.2.1) ∧ (0 ≤ mg' ∧ mg' ≤ mg + 3 * (L1 + L2) + 5) ∧ h'.2.2 o = some (true, .inr (26, [.ref e, vi mg', .ref t, vi 0, vi (tl : Int), vi ss, .ref rb, .ref rl])) ∧ h'.2.2 e = some (true, oaE K cap f) ∧ h'.2.2 t = some (true, oaE K tl ft) ∧ ArS h' rk e a b f f0 p ∧ Asc rk p B (B + L1 + L2) ∧ Sms p0 p B (B + L1 + L2) ∧ ∀ q, q ≠ e ∧ q ≠ t ∧ q ≠ o → h'.2.2 q = h.2.2 q) = Q) : (∀ (r1 r2 c1 c2 ds G : Int) (f : Int → Option Nat) (gj : MH), (gj.2.2 o = some (true, .inr (26, [(.ref e), (vi mg), (.ref t), (vi 0), (vi (tl : Int)), (vi ss), (.ref rb), (.ref rl)]))) → (gj.2.2 e = some (true, oaE K cap f)) → (gj.2.2 t = some (true, oaE K tl (cpq f1 ft0 (B + L1) 0 L2))) → (∀ b, (b ≠ e ∧ b ≠ t ∧ b ≠ o) → gj.2.2 b = h.2.2 b) → (h.1 = gj.1 ∧ h.2.1 = gj.2.1) → (c1 = B + r1 - 1 ∧ c2 = r2 - 1 ∧ ds = B + r1 + r2 - 1) → ((r2 = 1 ∨ r1 = 0) ∧ 1 ≤ r2 ∧ 0 ≤ r1 ∧ r1 ≤ L1 ∧ r2 ≤ L2) → (-300000 ≤ G ∧ G ≤ mg + 3 * (L1 + L2)) → (MR rk a b B L1 L2 r1 r2 f f0 p0 h) → MW K yiJ35_mergeHi d gj 577 [some (.ref o), some (vi B), some (vi r1), some (vi (B + L1)), some (vi r2), some (.ref e), some (.ref t), some (vi 0), some (vi c1), some (vi c2), some (vi ds), some (vi G), none, none] [] Q) := by
  have hoe : o ≠ e := ne_oa ho he
  have hot : o ≠ t := ne_oa ho htm
  have hin : ∀ i j, a ≤ i → i < b → a ≤ j → j < b → i ≠ j → rk (p0 i) ≠ rk (p0 j) := fun i j i1 i2 j1 j2 hne => by
    by_cases e9 : i < j
    · exact hI i j i1 e9 j2
    · exact fun e8 => hI j i j1 (by omega) i2 e8.symm
  have hpe : ∀ i, a ≤ i → i < b → p0 i ≠ e ∧ p0 i ≠ t ∧ p0 i ≠ o := fun i i1 i2 => by
    obtain ⟨r1, r2, r3, r4⟩ := (hA.1 i i1 i2).2.cell
    exact ⟨ne_oa r4 he, ne_oa r4 htm, ne_oo r4 ho (by decide)⟩
  have hup : ∀ g' : MH, (∀ q, q ≠ e ∧ q ≠ t ∧ q ≠ o → g'.2.2 q = h.2.2 q) → ∀ b w ci fs, ci ≠ 26 → h.2.2 b = some (w, .inr (ci, fs)) → g'.2.2 b = h.2.2 b := fun g' q b w ci fs h26 hb9 => q b ⟨ne_oa hb9 he, ne_oa hb9 htm, ne_oo hb9 ho h26⟩
  have hrd : ∀ g' : MH, (∀ q, q ≠ e ∧ q ≠ t ∧ q ≠ o → g'.2.2 q = h.2.2 q) → ∀ i, a ≤ i → i < b → RdS g' rk (p0 i) := fun g' q i i1 i2 => (hA.1 i i1 i2).2.up (hup g' q)
  have rkc : ∀ i j i' j' : Int, i = i' → j = j' → rk (p0 i') < rk (p0 j') → rk (p0 i) < rk (p0 j) := fun i j i' j' e1 e2 e3 => by rw [e1, e2]; exact e3
  have ht : ∀ i, 0 ≤ i → i < L2 → cpq f1 ft0 (B + L1) 0 L2 i = some (p0 (B + L1 + i)) := fun i i1 i2 => by { unfold cpq; rw [if_pos (by omega), Int.sub_zero]; exact (hA.1 (B + L1 + i) (by omega) (by omega)).1 }
  have hfi2 : ∀ r1 : Int, 0 < r1 → r1 ≤ L1 → rk (p0 (B + L1)) < rk (p0 (B + r1 - 1)) := fun r1 i1 i2 => by
    by_cases e : r1 = 1
    · rw [e, show B + 1 - 1 = B by omega]; exact hfi
    · have := A1 B (B + r1 - 1) (by omega) (by omega) (by omega); omega
  intro r1 r2 c1 c2 ds G f gj ho he htm fR hz hw he2 hG hM
  refine mw_wf (fun hwf577 => ?_)
  have l_ho577 := hwf577 _ _ ho
  have l_he577 := hwf577 _ _ he
  have l_htm577 := hwf577 _ _ htm
  refine m_aload_n (y := yiJ35_mergeHi) dJ35_mergeHi_577 rfl ?_
  refine j_iload (y := yiJ35_mergeHi) dJ35_mergeHi_578 rfl ?_
  have J590 : ∀ (mv : Int), (1 ≤ mv ∧ mv ≤ mg + 3 * (L1 + L2) + 5) → MW K yiJ35_mergeHi d gj 590 [some (.ref o), some (vi B), some (vi r1), some (vi (B + L1)), some (vi r2), some (.ref e), some (.ref t), some (vi 0), some (vi c1), some (vi c2), some (vi ds), some (vi G), none, none] [(vi mv), (.ref o)] Q := by
    intro mv hmv
    refine m_putfS (y := yiJ35_mergeHi) kc_26 1 (by decide) dJ35_mergeHi_590 q2013 rfl ho rfl rfl (hp_put fun g1 g1H => ?_)
    have he : g1.2.2 e = some (true, oaE K cap f) := (g1H.2.2.2 _ (by omega)).trans he
    have htm : g1.2.2 t = some (true, oaE K tl (cpq f1 ft0 (B + L1) 0 L2)) := (g1H.2.2.2 _ (by omega)).trans htm
    have fR : ∀ b, (b ≠ e ∧ b ≠ t ∧ b ≠ o) → g1.2.2 b = h.2.2 b := fun b hb => (g1H.2.2.2 b (by omega)).trans (fR b hb)
    have ho : g1.2.2 o = some (true, .inr (26, [(.ref e), (vi mv), (.ref t), (vi 0), (vi (tl : Int)), (vi ss), (.ref rb), (.ref rl)])) := g1H.2.2.1
    have g11 := g1H.1
    have g12 := g1H.2.1
    have J728 : ∀ (f' : Int → Option Nat) (gq : MH), (gq.2.2 o = some (true, .inr (26, [(.ref e), (vi mv), (.ref t), (vi 0), (vi (tl : Int)), (vi ss), (.ref rb), (.ref rl)]))) → (gq.2.2 e = some (true, oaE K cap f')) → (gq.2.2 t = some (true, oaE K tl (cpq f1 ft0 (B + L1) 0 L2))) → (∀ b, (b ≠ e ∧ b ≠ t ∧ b ≠ o) → gq.2.2 b = h.2.2 b) → (h.1 = gq.1 ∧ h.2.1 = gq.2.1) → (MR rk a b B L1 L2 0 0 f' f0 p0 h) → MW K yiJ35_mergeHi d gq 728 [some (.ref o), none, none, none, none, none, none, none, none, none, none, none, none, none] [] Q := by
      intro f' gq ho he htm fR hz7 hMz
      refine mw_wf (fun hwf728 => ?_)
      have l_ho728 := hwf728 _ _ ho
      have l_he728 := hwf728 _ _ he
      have l_htm728 := hwf728 _ _ htm
      obtain ⟨pz, q1, q2, q3⟩ := (hMz.up (hup _ fR)).done rfl rfl e
      subst hQ; exact j_vret (y := yiJ35_mergeHi) dJ35_mergeHi_728 rfl (⟨mv, _, _, pz, (by omega), ⟨by omega, by omega⟩, ho, he, htm, q1, q2, q3, fR⟩)
    refine j_iload (y := yiJ35_mergeHi) dJ35_mergeHi_593 rfl ?_
    refine j_iconst (y := yiJ35_mergeHi) dJ35_mergeHi_595 ?_
    refine j_icmp_ne (y := yiJ35_mergeHi) 658 dJ35_mergeHi_596 (by decide) ⟨⟨by omega, by omega⟩, ⟨by omega, by omega⟩⟩ (fun c596 => ?_) (fun c596 => ?_)
    · refine j_iload (y := yiJ35_mergeHi) dJ35_mergeHi_658 rfl ?_
      refine j_if_ne (y := yiJ35_mergeHi) 673 dJ35_mergeHi_660 (by decide) ⟨by omega, by omega⟩ (fun c660 => ?_) (fun c660 => False.elim (by omega))
      refine m_gets (y := yiJ35_mergeHi) (ref := "") 12 rfl dJ35_mergeHi_673 q1989 hB ?_
      refine j_if_ne (y := yiJ35_mergeHi) 691 dJ35_mergeHi_676 (by decide) ⟨by decide, by decide⟩ (fun _ => ?_) (fun c => absurd c (by decide))
      refine m_gets (y := yiJ35_mergeHi) (ref := "") 12 rfl dJ35_mergeHi_691 q1989 hB ?_
      refine j_if_ne (y := yiJ35_mergeHi) 710 dJ35_mergeHi_694 (by decide) ⟨by decide, by decide⟩ (fun _ => ?_) (fun c => absurd c (by decide))
      refine m_aload (y := yiJ35_mergeHi) dJ35_mergeHi_710 rfl ?_
      refine j_iload (y := yiJ35_mergeHi) dJ35_mergeHi_712 rfl ?_
      refine m_aload (y := yiJ35_mergeHi) dJ35_mergeHi_714 rfl ?_
      refine j_iload (y := yiJ35_mergeHi) dJ35_mergeHi_716 rfl ?_
      refine j_iload (y := yiJ35_mergeHi) dJ35_mergeHi_718 rfl ?_
      refine j_iconst (y := yiJ35_mergeHi) dJ35_mergeHi_720 ?_
      refine j_isub (y := yiJ35_mergeHi) dJ35_mergeHi_721 ?_
      refine j_isub (y := yiJ35_mergeHi) dJ35_mergeHi_722 ?_
      refine j_iload (y := yiJ35_mergeHi) dJ35_mergeHi_723 rfl ?_
      refine h_copyq (y := yiJ35_mergeHi) dJ35_mergeHi_725 q2003 htm he ⟨by omega, by omega⟩ ⟨by omega, by omega, by omega⟩ (by omega) (by omega) (fun i a1 a2 x9 hx => by { rw [ht i (by omega) (by omega)] at hx; cases hx; exact (hrd _ fR (B + L1 + i) (by omega) (by omega)).iso }) ⟨Nat.le_of_ble_eq_true rfl, by omega⟩ (hp_put fun g2 g2H => ?_)
      have ho : g2.2.2 o = some (true, .inr (26, [(.ref e), (vi mv), (.ref t), (vi 0), (vi (tl : Int)), (vi ss), (.ref rb), (.ref rl)])) := (g2H.2.2.2 _ (by omega)).trans ho
      have htm : g2.2.2 t = some (true, oaE K tl (cpq f1 ft0 (B + L1) 0 L2)) := (g2H.2.2.2 _ (by omega)).trans htm
      have fR : ∀ b, (b ≠ e ∧ b ≠ t ∧ b ≠ o) → g2.2.2 b = h.2.2 b := fun b hb => (g2H.2.2.2 b (by omega)).trans (fR b hb)
      have he : g2.2.2 e = some (true, oaE K cap (cpq (cpq f1 ft0 (B + L1) 0 L2) f 0 (ds - (r2 - 1)) r2)) := g2H.2.2.1
      have g21 := g2H.1
      have g22 := g2H.2.1
      refine mw_forget 1 ?_
      refine mw_forget 2 ?_
      refine mw_forget 3 ?_
      refine mw_forget 4 ?_
      refine mw_forget 5 ?_
      refine mw_forget 6 ?_
      refine mw_forget 7 ?_
      refine mw_forget 8 ?_
      refine mw_forget 9 ?_
      refine mw_forget 10 ?_
      refine mw_forget 11 ?_
      exact J728 _ _ ho he htm fR (by omega) (by first | exact hMz | exact hM.t1 ⟨by omega, by omega⟩ (r2' := 0) (m := r2) (by omega) ⟨by omega, by omega⟩ A2 (fun _ _ => by omega) (MR.cp1 (s := 0) (ds := ds - (r2 - 1)) ht (by omega) (by omega) ⟨by omega, by omega, by omega⟩) | (have e9 : r1 = 0 := (by omega); subst e9; exact hM.t1 ⟨by omega, by omega⟩ (r2' := 0) (m := r2) (by omega) ⟨by omega, by omega⟩ A2 (fun _ _ => by omega) (MR.cp1 (s := 0) (ds := ds - (r2 - 1)) ht (by omega) (by omega) ⟨by omega, by omega, by omega⟩)))
    · refine m_gets (y := yiJ35_mergeHi) (ref := "") 12 rfl dJ35_mergeHi_599 q1989 hB ?_
      refine j_if_ne (y := yiJ35_mergeHi) 617 dJ35_mergeHi_602 (by decide) ⟨by decide, by decide⟩ (fun _ => ?_) (fun c => absurd c (by decide))
      refine j_iload (y := yiJ35_mergeHi) dJ35_mergeHi_617 rfl ?_
      refine j_iload_n (y := yiJ35_mergeHi) dJ35_mergeHi_619 rfl ?_
      refine j_isub (y := yiJ35_mergeHi) dJ35_mergeHi_620 ?_
      refine j_istore (y := yiJ35_mergeHi) [some (.ref o), some (vi B), some (vi r1), some (vi (B + L1)), some (vi r2), some (.ref e), some (.ref t), some (vi 0), some (vi c1), some (vi c2), some (vi (ds - r1)), some (vi G), none, none] dJ35_mergeHi_621 (by decide) rfl rfl ?_
      refine j_iload (y := yiJ35_mergeHi) dJ35_mergeHi_623 rfl ?_
      refine j_iload_n (y := yiJ35_mergeHi) dJ35_mergeHi_625 rfl ?_
      refine j_isub (y := yiJ35_mergeHi) dJ35_mergeHi_626 ?_
      refine j_istore (y := yiJ35_mergeHi) [some (.ref o), some (vi B), some (vi r1), some (vi (B + L1)), some (vi r2), some (.ref e), some (.ref t), some (vi 0), some (vi (c1 - r1)), some (vi c2), some (vi (ds - r1)), some (vi G), none, none] dJ35_mergeHi_627 (by decide) rfl rfl ?_
      refine m_aload (y := yiJ35_mergeHi) dJ35_mergeHi_629 rfl ?_
      refine j_iload (y := yiJ35_mergeHi) dJ35_mergeHi_631 rfl ?_
      refine j_iconst (y := yiJ35_mergeHi) dJ35_mergeHi_633 ?_
      refine j_iadd (y := yiJ35_mergeHi) dJ35_mergeHi_634 ?_
      refine m_aload (y := yiJ35_mergeHi) dJ35_mergeHi_635 rfl ?_
      refine j_iload (y := yiJ35_mergeHi) dJ35_mergeHi_637 rfl ?_
      refine j_iconst (y := yiJ35_mergeHi) dJ35_mergeHi_639 ?_
      refine j_iadd (y := yiJ35_mergeHi) dJ35_mergeHi_640 ?_
      refine j_iload_n (y := yiJ35_mergeHi) dJ35_mergeHi_641 rfl ?_
      refine h_copyq (y := yiJ35_mergeHi) dJ35_mergeHi_642 q2003 he he ⟨by omega, by omega⟩ ⟨by omega, by omega, by omega⟩ (by omega) (by omega) (fun i a1 a2 x9 hx => by { rw [hM.e1 ⟨by omega, by omega⟩ (i := i) ⟨by omega, by omega⟩] at hx; cases hx; exact (hrd _ fR i (by omega) (by omega)).iso }) ⟨Nat.le_of_ble_eq_true rfl, by omega⟩ (hp_put fun g3 g3H => ?_)
      have ho : g3.2.2 o = some (true, .inr (26, [(.ref e), (vi mv), (.ref t), (vi 0), (vi (tl : Int)), (vi ss), (.ref rb), (.ref rl)])) := (g3H.2.2.2 _ (by omega)).trans ho
      have htm : g3.2.2 t = some (true, oaE K tl (cpq f1 ft0 (B + L1) 0 L2)) := (g3H.2.2.2 _ (by omega)).trans htm
      have fR : ∀ b, (b ≠ e ∧ b ≠ t ∧ b ≠ o) → g3.2.2 b = h.2.2 b := fun b hb => (g3H.2.2.2 b (by omega)).trans (fR b hb)
      have he : g3.2.2 e = some (true, oaE K cap (cpq f f ((c1 - r1) + 1) ((ds - r1) + 1) r1)) := g3H.2.2.1
      have g31 := g3H.1
      have g32 := g3H.2.1
      refine m_aload (y := yiJ35_mergeHi) dJ35_mergeHi_645 rfl ?_
      refine j_iload (y := yiJ35_mergeHi) dJ35_mergeHi_647 rfl ?_
      refine m_aload (y := yiJ35_mergeHi) dJ35_mergeHi_649 rfl ?_
      refine j_iload (y := yiJ35_mergeHi) dJ35_mergeHi_651 rfl ?_
      refine h_aald5 (y := yiJ35_mergeHi) dJ35_mergeHi_653 htm ⟨by omega, by omega⟩ (by omega) ?_
      rw [(ht c2 (by omega) (by omega))]
      show MW K yiJ35_mergeHi d g3 654 [some (.ref o), some (vi B), some (vi r1), some (vi (B + L1)), some (vi r2), some (.ref e), some (.ref t), some (vi 0), some (vi (c1 - r1)), some (vi c2), some (vi (ds - r1)), some (vi G), none, none] [(.ref (p0 (B + L1 + c2))), (vi (ds - r1)), (.ref e)] Q
      have i654 : IsO g3 (p0 (B + L1 + c2)) := (hrd g3 fR _ (by omega) (by omega)).iso
      refine h_aast (y := yiJ35_mergeHi) dJ35_mergeHi_654 he (by assumption) ⟨by omega, by omega⟩ (by omega) (hp_put fun g4 g4H => ?_)
      have ho : g4.2.2 o = some (true, .inr (26, [(.ref e), (vi mv), (.ref t), (vi 0), (vi (tl : Int)), (vi ss), (.ref rb), (.ref rl)])) := (g4H.2.2.2 _ (by omega)).trans ho
      have htm : g4.2.2 t = some (true, oaE K tl (cpq f1 ft0 (B + L1) 0 L2)) := (g4H.2.2.2 _ (by omega)).trans htm
      have fR : ∀ b, (b ≠ e ∧ b ≠ t ∧ b ≠ o) → g4.2.2 b = h.2.2 b := fun b hb => (g4H.2.2.2 b (by omega)).trans (fR b hb)
      have he : g4.2.2 e = some (true, oaE K cap (upq (cpq f f ((c1 - r1) + 1) ((ds - r1) + 1) r1) (ds - r1) (some (p0 (B + L1 + c2))))) := g4H.2.2.1
      have g41 := g4H.1
      have g42 := g4H.2.1
      have hMz : MR rk a b B L1 L2 0 0 _ f0 p0 h := (hM.t2 ⟨by omega, by omega⟩ (r1' := 0) (m := r1) (by omega) ⟨by omega, by omega⟩ A1 (fun _ _ => by { rw [show B + L1 + r2 - 1 = B + L1 by omega, show B + r1 - r1 = B by omega]; exact hfi }) (hM.cp2 (c := c1 - r1 + 1) (ds := ds - r1 + 1) ⟨by omega, by omega⟩ (by omega) (by omega) ⟨by omega, by omega⟩)).t1 ⟨by omega, by omega⟩ (r2' := 0) (m := 1) (by omega) ⟨by omega, by omega⟩ A2 (fun _ _ => by omega) (MR.up1 (c := c2) (ds := ds - r1) (by omega) (by omega))
      refine m_goto (y := yiJ35_mergeHi) 728 dJ35_mergeHi_655 (by decide) ?_
      refine mw_forget 1 ?_
      refine mw_forget 2 ?_
      refine mw_forget 3 ?_
      refine mw_forget 4 ?_
      refine mw_forget 5 ?_
      refine mw_forget 6 ?_
      refine mw_forget 7 ?_
      refine mw_forget 8 ?_
      refine mw_forget 9 ?_
      refine mw_forget 10 ?_
      refine mw_forget 11 ?_
      exact J728 _ _ ho he htm fR (by omega) (by first | exact hMz | exact hM.t1 ⟨by omega, by omega⟩ (r2' := 0) (m := r2) (by omega) ⟨by omega, by omega⟩ A2 (fun _ _ => by omega) (MR.cp1 (s := 0) (ds := ds - (r2 - 1)) ht (by omega) (by omega) ⟨by omega, by omega, by omega⟩) | (have e9 : r1 = 0 := (by omega); subst e9; exact hM.t1 ⟨by omega, by omega⟩ (r2' := 0) (m := r2) (by omega) ⟨by omega, by omega⟩ A2 (fun _ _ => by omega) (MR.cp1 (s := 0) (ds := ds - (r2 - 1)) ht (by omega) (by omega) ⟨by omega, by omega, by omega⟩)))
  refine j_iconst (y := yiJ35_mergeHi) dJ35_mergeHi_580 ?_
  refine j_icmp_ge (y := yiJ35_mergeHi) 588 dJ35_mergeHi_581 (by decide) ⟨⟨by omega, by omega⟩, ⟨by omega, by omega⟩⟩ (fun c581 => ?_) (fun c581 => ?_)
  · refine j_iload (y := yiJ35_mergeHi) dJ35_mergeHi_588 rfl ?_
    exact J590 _ (by omega)
  · refine j_iconst (y := yiJ35_mergeHi) dJ35_mergeHi_584 ?_
    refine m_goto (y := yiJ35_mergeHi) 590 dJ35_mergeHi_585 (by decide) ?_
    exact J590 _ (by omega)
theorem mh306 (K : KT) (d : Nat) (h : MH) (rk : Nat → Int) (o e t rb rl cap tl : Nat) (mg ss : Int) (a b B L1 L2 : Int) (f1 f0 ft0 : Int → Option Nat) (p0 : Int → Nat) (hd : 5 ≤ d) (hB : kV K 12 = vi 1) (ho : h.2.2 o = some (true, .inr (26, [.ref e, vi mg, .ref t, vi 0, vi (tl : Int), vi ss, .ref rb, .ref rl]))) (he : h.2.2 e = some (true, oaE K cap f1)) (htm : h.2.2 t = some (true, oaE K tl ft0)) (het : e ≠ t) (hA : ArS h rk e a b f1 f0 p0) (hb : (0 ≤ a ∧ a ≤ B ∧ B + L1 + L2 ≤ b) ∧ b ≤ (cap : Int) ∧ cap ≤ 60000) (hL : (0 < L1 ∧ 0 < L2) ∧ L2 ≤ (tl : Int) ∧ tl ≤ 60000) (hmg : 0 ≤ mg ∧ mg ≤ 1000000) (A1 : Asc rk p0 B (B + L1)) (A2 : Asc rk p0 (B + L1) (B + L1 + L2)) (hfi : rk (p0 (B + L1)) < rk (p0 B)) (hla : rk (p0 (B + L1 + L2 - 1)) < rk (p0 (B + L1 - 1))) (hI : Inj rk p0 a b) (Q : OT → MH → Prop) (r0 : Int) (J577 : (∀ (r1 r2 c1 c2 ds G : Int) (f : Int → Option Nat) (gj : MH), (gj.2.2 o = some (true, .inr (26, [(.ref e), (vi mg), (.ref t), (vi 0), (vi (tl : Int)), (vi ss), (.ref rb), (.ref rl)]))) → (gj.2.2 e = some (true, oaE K cap f)) → (gj.2.2 t = some (true, oaE K tl (cpq f1 ft0 (B + L1) 0 L2))) → (∀ b, (b ≠ e ∧ b ≠ t ∧ b ≠ o) → gj.2.2 b = h.2.2 b) → (h.1 = gj.1 ∧ h.2.1 = gj.2.1) → (c1 = B + r1 - 1 ∧ c2 = r2 - 1 ∧ ds = B + r1 + r2 - 1) → ((r2 = 1 ∨ r1 = 0) ∧ 1 ≤ r2 ∧ 0 ≤ r1 ∧ r1 ≤ L1 ∧ r2 ≤ L2) → (-300000 ≤ G ∧ G ≤ mg + 3 * (L1 + L2)) → (MR rk a b B L1 L2 r1 r2 f f0 p0 h) → MW K yiJ35_mergeHi d gj 577 [some (.ref o), some (vi B), some (vi r1), some (vi (B + L1)), some (vi r2), some (.ref e), some (.ref t), some (vi 0), some (vi c1), some (vi c2), some (vi ds), some (vi G), none, none] [] Q)) (J179 : (∀ (u1 u2 d1 d2 du G : Int) (fu : Int → Option Nat) (gu : MH), (gu.2.2 o = some (true, .inr (26, [(.ref e), (vi mg), (.ref t), (vi 0), (vi (tl : Int)), (vi ss), (.ref rb), (.ref rl)]))) → (gu.2.2 e = some (true, oaE K cap fu)) → (gu.2.2 t = some (true, oaE K tl (cpq f1 ft0 (B + L1) 0 L2))) → (∀ b, (b ≠ e ∧ b ≠ t ∧ b ≠ o) → gu.2.2 b = h.2.2 b) → (h.1 = gu.1 ∧ h.2.1 = gu.2.1) → ((d1 = B + u1 - 1 ∧ d2 = u2 - 1 ∧ du = B + u1 + u2 - 1) ∧ 1 ≤ u1 ∧ 2 ≤ u2 ∧ u1 ≤ L1 ∧ u2 ≤ L2) → (0 ≤ G ∧ G ≤ mg + 2 * (L1 + L2 - u1 - u2)) → (MR rk a b B L1 L2 u1 u2 fu f0 p0 h) → (u1 + u2 < r0) → MW K yiJ35_mergeHi d gu 179 [some (.ref o), some (vi B), some (vi u1), some (vi (B + L1)), some (vi u2), some (.ref e), some (.ref t), some (vi 0), some (vi d1), some (vi d2), some (vi du), some (vi G), none, none] [] Q)) : (∀ (r1 r2 c1 c2 ds Gg : Int) (f : Int → Option Nat) (gw : MH), (gw.2.2 o = some (true, .inr (26, [(.ref e), (vi mg), (.ref t), (vi 0), (vi (tl : Int)), (vi ss), (.ref rb), (.ref rl)]))) → (gw.2.2 e = some (true, oaE K cap f)) → (gw.2.2 t = some (true, oaE K tl (cpq f1 ft0 (B + L1) 0 L2))) → (∀ b, (b ≠ e ∧ b ≠ t ∧ b ≠ o) → gw.2.2 b = h.2.2 b) → (h.1 = gw.1 ∧ h.2.1 = gw.2.1) → ((c1 = B + r1 - 1 ∧ c2 = r2 - 1 ∧ ds = B + r1 + r2 - 1) ∧ 1 ≤ r1 ∧ 2 ≤ r2 ∧ r1 ≤ L1 ∧ r2 ≤ L2 ∧ r1 + r2 < r0) → (-(L1 + L2 - r1 - r2) ≤ Gg ∧ Gg ≤ mg + 2 * (L1 + L2 - r1 - r2)) → (MR rk a b B L1 L2 r1 r2 f f0 p0 h) → MW K yiJ35_mergeHi d gw 306 [some (.ref o), some (vi B), some (vi r1), some (vi (B + L1)), some (vi r2), some (.ref e), some (.ref t), some (vi 0), some (vi c1), some (vi c2), some (vi ds), some (vi Gg), none, none] [] Q) := by
  have hoe : o ≠ e := ne_oa ho he
  have hot : o ≠ t := ne_oa ho htm
  have hin : ∀ i j, a ≤ i → i < b → a ≤ j → j < b → i ≠ j → rk (p0 i) ≠ rk (p0 j) := fun i j i1 i2 j1 j2 hne => by
    by_cases e9 : i < j
    · exact hI i j i1 e9 j2
    · exact fun e8 => hI j i j1 (by omega) i2 e8.symm
  have hpe : ∀ i, a ≤ i → i < b → p0 i ≠ e ∧ p0 i ≠ t ∧ p0 i ≠ o := fun i i1 i2 => by
    obtain ⟨r1, r2, r3, r4⟩ := (hA.1 i i1 i2).2.cell
    exact ⟨ne_oa r4 he, ne_oa r4 htm, ne_oo r4 ho (by decide)⟩
  have hup : ∀ g' : MH, (∀ q, q ≠ e ∧ q ≠ t ∧ q ≠ o → g'.2.2 q = h.2.2 q) → ∀ b w ci fs, ci ≠ 26 → h.2.2 b = some (w, .inr (ci, fs)) → g'.2.2 b = h.2.2 b := fun g' q b w ci fs h26 hb9 => q b ⟨ne_oa hb9 he, ne_oa hb9 htm, ne_oo hb9 ho h26⟩
  have hrd : ∀ g' : MH, (∀ q, q ≠ e ∧ q ≠ t ∧ q ≠ o → g'.2.2 q = h.2.2 q) → ∀ i, a ≤ i → i < b → RdS g' rk (p0 i) := fun g' q i i1 i2 => (hA.1 i i1 i2).2.up (hup g' q)
  have rkc : ∀ i j i' j' : Int, i = i' → j = j' → rk (p0 i') < rk (p0 j') → rk (p0 i) < rk (p0 j) := fun i j i' j' e1 e2 e3 => by rw [e1, e2]; exact e3
  have ht : ∀ i, 0 ≤ i → i < L2 → cpq f1 ft0 (B + L1) 0 L2 i = some (p0 (B + L1 + i)) := fun i i1 i2 => by { unfold cpq; rw [if_pos (by omega), Int.sub_zero]; exact (hA.1 (B + L1 + i) (by omega) (by omega)).1 }
  have hfi2 : ∀ r1 : Int, 0 < r1 → r1 ≤ L1 → rk (p0 (B + L1)) < rk (p0 (B + r1 - 1)) := fun r1 i1 i2 => by
    by_cases e : r1 = 1
    · rw [e, show B + 1 - 1 = B by omega]; exact hfi
    · have := A1 B (B + r1 - 1) (by omega) (by omega) (by omega); omega
  have L306 : ∀ (N : Nat) (r1 r2 c1 c2 ds Gg : Int) (f : Int → Option Nat) (gw : MH), (r1 + r2).toNat = N → (gw.2.2 o = some (true, .inr (26, [(.ref e), (vi mg), (.ref t), (vi 0), (vi (tl : Int)), (vi ss), (.ref rb), (.ref rl)]))) → (gw.2.2 e = some (true, oaE K cap f)) → (gw.2.2 t = some (true, oaE K tl (cpq f1 ft0 (B + L1) 0 L2))) → (∀ b, (b ≠ e ∧ b ≠ t ∧ b ≠ o) → gw.2.2 b = h.2.2 b) → (h.1 = gw.1 ∧ h.2.1 = gw.2.1) → ((c1 = B + r1 - 1 ∧ c2 = r2 - 1 ∧ ds = B + r1 + r2 - 1) ∧ 1 ≤ r1 ∧ 2 ≤ r2 ∧ r1 ≤ L1 ∧ r2 ≤ L2 ∧ r1 + r2 < r0) → (-(L1 + L2 - r1 - r2) ≤ Gg ∧ Gg ≤ mg + 2 * (L1 + L2 - r1 - r2)) → (MR rk a b B L1 L2 r1 r2 f f0 p0 h) → MW K yiJ35_mergeHi d gw 306 [some (.ref o), some (vi B), some (vi r1), some (vi (B + L1)), some (vi r2), some (.ref e), some (.ref t), some (vi 0), some (vi c1), some (vi c2), some (vi ds), some (vi Gg), none, none] [] Q := by
    intro N
    induction N using Nat.strongRecOn with
    | _ N ih306 =>
    intro r1 r2 c1 c2 ds Gg f gw hN306 ho he htm fR hz hw3 hG3 hM3
    refine mw_wf (fun hwf306 => ?_)
    have l_ho306 := hwf306 _ _ ho
    have l_he306 := hwf306 _ _ he
    have l_htm306 := hwf306 _ _ htm
    refine m_gets (y := yiJ35_mergeHi) (ref := "") 12 rfl dJ35_mergeHi_306 q1989 hB ?_
    refine j_if_ne (y := yiJ35_mergeHi) 330 dJ35_mergeHi_309 (by decide) ⟨by decide, by decide⟩ (fun _ => ?_) (fun c => absurd c (by decide))
    refine j_iload_n (y := yiJ35_mergeHi) dJ35_mergeHi_330 rfl ?_
    refine m_aload (y := yiJ35_mergeHi) dJ35_mergeHi_331 rfl ?_
    refine j_iload (y := yiJ35_mergeHi) dJ35_mergeHi_333 rfl ?_
    refine h_aald5 (y := yiJ35_mergeHi) dJ35_mergeHi_335 htm ⟨by omega, by omega⟩ (by omega) ?_
    rw [(ht c2 (by omega) (by omega))]
    show MW K yiJ35_mergeHi d gw 336 [some (.ref o), some (vi B), some (vi r1), some (vi (B + L1)), some (vi r2), some (.ref e), some (.ref t), some (vi 0), some (vi c1), some (vi c2), some (vi ds), some (vi Gg), none, none] [(.ref (p0 (B + L1 + c2))), (vi r1)] Q
    obtain ⟨ru, cs, ks, hps⟩ := (hrd gw fR (B + L1 + c2) (by omega) (by omega)).cell
    have ne336 := hpe (B + L1 + c2) (by omega) (by omega)
    have hps : gw.2.2 (p0 (B + L1 + c2)) = some (true, .inr (8, [(.ref ru), (vi cs), (vi ks)])) := hps
    have l_hps := hwf306 _ _ hps
    refine m_cast (y := yiJ35_mergeHi) dJ35_mergeHi_336 hps rfl q1994 (Or.inr q1534) ?_
    refine m_aload (y := yiJ35_mergeHi) dJ35_mergeHi_339 rfl ?_
    refine j_iload_n (y := yiJ35_mergeHi) dJ35_mergeHi_341 rfl ?_
    refine j_iload_n (y := yiJ35_mergeHi) dJ35_mergeHi_342 rfl ?_
    refine j_iload_n (y := yiJ35_mergeHi) dJ35_mergeHi_343 rfl ?_
    refine j_iconst (y := yiJ35_mergeHi) dJ35_mergeHi_344 ?_
    refine j_isub (y := yiJ35_mergeHi) dJ35_mergeHi_345 ?_
    refine m_invS (y := yiJ35_mergeHi) [(.ref (p0 (B + L1 + c2))), (.ref e), (vi B), (vi r1), (vi (r1 - 1))] dJ35_mergeHi_346 q2052 q2053 q171 q2054 (c_J35_gallopRight K 3 gw rk e cap (p0 (B + L1 + c2)) true B r1 (r1 - 1) f p0 (by omega) hB he (fun i i1 i2 => ⟨hM3.e1 ⟨by omega, by omega⟩ (i := i) ⟨by omega, by omega⟩, hrd _ fR i (by omega) (by omega)⟩) (hrd _ fR (B + L1 + c2) (by omega) (by omega)) (fun i j i1 i2 i3 => A1 i j (by omega) (by omega) (by omega)) (fun i i1 i2 => hin (B + L1 + c2) i (by omega) (by omega) (by omega) (by omega) (by omega)) ⟨by omega, by omega, by omega, by omega⟩ ⟨by omega, by omega⟩) pdJ35_gallopRight ⟨Nat.le_of_ble_eq_true rfl, by decide, by omega⟩ (kk_z fun r346 h346 q346 => ?_) kx_z
    obtain ⟨rfl, z346, y346, w346⟩ := q346
    have y346' : ∀ i, B ≤ i → i < B + r346 → rk (p0 i) < rk (p0 (B + L1 + c2)) := y346
    have w346' : ∀ i, B + r346 ≤ i → i < B + r1 → rk (p0 (B + L1 + c2)) < rk (p0 i) := w346
    refine j_isub (y := yiJ35_mergeHi) dJ35_mergeHi_349 ?_
    have J400 : ∀ (m1 cc dd k1 : Int) (f : Int → Option Nat) (gx : MH), (gx.2.2 o = some (true, .inr (26, [(.ref e), (vi mg), (.ref t), (vi 0), (vi (tl : Int)), (vi ss), (.ref rb), (.ref rl)]))) → (gx.2.2 e = some (true, oaE K cap f)) → (gx.2.2 t = some (true, oaE K tl (cpq f1 ft0 (B + L1) 0 L2))) → (∀ b, (b ≠ e ∧ b ≠ t ∧ b ≠ o) → gx.2.2 b = h.2.2 b) → (h.1 = gx.1 ∧ h.2.1 = gx.2.1) → ((cc = B + m1 - 1 ∧ dd = B + m1 + r2 - 1) ∧ 1 ≤ m1 ∧ m1 ≤ r1 ∧ 0 ≤ k1 ∧ k1 ≤ 100000) → (rk (p0 (B + m1 - 1)) < rk (p0 (B + L1 + c2))) → (MR rk a b B L1 L2 m1 r2 f f0 p0 h) → MW K yiJ35_mergeHi d gx 400 [some (.ref o), some (vi B), some (vi m1), some (vi (B + L1)), some (vi r2), some (.ref e), some (.ref t), some (vi 0), some (vi cc), some (vi c2), some (vi dd), some (vi Gg), some (vi k1), none] [] Q := by
      intro m1 cc dd k1 f gx ho he htm fR hz hw4 hc4 hM4
      refine mw_wf (fun hwf400 => ?_)
      have l_ho400 := hwf400 _ _ ho
      have l_he400 := hwf400 _ _ he
      have l_htm400 := hwf400 _ _ htm
      refine m_aload (y := yiJ35_mergeHi) dJ35_mergeHi_400 rfl ?_
      refine j_iload (y := yiJ35_mergeHi) dJ35_mergeHi_402 rfl ?_
      refine j_iinc (y := yiJ35_mergeHi) [some (.ref o), some (vi B), some (vi m1), some (vi (B + L1)), some (vi r2), some (.ref e), some (.ref t), some (vi 0), some (vi cc), some (vi c2), some (vi (dd + (-1))), some (vi Gg), some (vi k1), none] dJ35_mergeHi_404 rfl (by decide) rfl rfl ?_
      refine m_aload (y := yiJ35_mergeHi) dJ35_mergeHi_407 rfl ?_
      refine j_iload (y := yiJ35_mergeHi) dJ35_mergeHi_409 rfl ?_
      refine j_iinc (y := yiJ35_mergeHi) [some (.ref o), some (vi B), some (vi m1), some (vi (B + L1)), some (vi r2), some (.ref e), some (.ref t), some (vi 0), some (vi cc), some (vi (c2 + (-1))), some (vi (dd + (-1))), some (vi Gg), some (vi k1), none] dJ35_mergeHi_411 rfl (by decide) rfl rfl ?_
      refine h_aald5 (y := yiJ35_mergeHi) dJ35_mergeHi_414 htm ⟨by omega, by omega⟩ (by omega) ?_
      rw [(ht c2 (by omega) (by omega))]
      show MW K yiJ35_mergeHi d gx 415 [some (.ref o), some (vi B), some (vi m1), some (vi (B + L1)), some (vi r2), some (.ref e), some (.ref t), some (vi 0), some (vi cc), some (vi (c2 + (-1))), some (vi (dd + (-1))), some (vi Gg), some (vi k1), none] [(.ref (p0 (B + L1 + c2))), (vi dd), (.ref e)] Q
      have i415 : IsO gx (p0 (B + L1 + c2)) := (hrd gx fR _ (by omega) (by omega)).iso
      refine h_aast (y := yiJ35_mergeHi) dJ35_mergeHi_415 he (by assumption) ⟨by omega, by omega⟩ (by omega) (hp_put fun g1 g1H => ?_)
      have ho : g1.2.2 o = some (true, .inr (26, [(.ref e), (vi mg), (.ref t), (vi 0), (vi (tl : Int)), (vi ss), (.ref rb), (.ref rl)])) := (g1H.2.2.2 _ (by omega)).trans ho
      have htm : g1.2.2 t = some (true, oaE K tl (cpq f1 ft0 (B + L1) 0 L2)) := (g1H.2.2.2 _ (by omega)).trans htm
      have fR : ∀ b, (b ≠ e ∧ b ≠ t ∧ b ≠ o) → g1.2.2 b = h.2.2 b := fun b hb => (g1H.2.2.2 b (by omega)).trans (fR b hb)
      have he : g1.2.2 e = some (true, oaE K cap (upq f dd (some (p0 (B + L1 + c2))))) := g1H.2.2.1
      have g11 := g1H.1
      have g12 := g1H.2.1
      have hM5 := hM4.t1 ⟨by omega, by omega⟩ (r2' := r2 - 1) rfl (m := 1) ⟨by omega, by omega⟩ A2 (fun _ _ => rkc _ _ (B + m1 - 1) (B + L1 + c2) (by omega) (by omega) hc4) (MR.up1 (c := c2) (ds := dd) (by omega) (by omega))
      refine j_iinc (y := yiJ35_mergeHi) [some (.ref o), some (vi B), some (vi m1), some (vi (B + L1)), some (vi (r2 + (-1))), some (.ref e), some (.ref t), some (vi 0), some (vi cc), some (vi (c2 + (-1))), some (vi (dd + (-1))), some (vi Gg), some (vi k1), none] dJ35_mergeHi_416 rfl (by decide) rfl rfl ?_
      refine j_iload (y := yiJ35_mergeHi) dJ35_mergeHi_419 rfl ?_
      refine j_iconst (y := yiJ35_mergeHi) dJ35_mergeHi_421 ?_
      refine j_icmp_ne (y := yiJ35_mergeHi) 428 dJ35_mergeHi_422 (by decide) ⟨⟨by omega, by omega⟩, ⟨by omega, by omega⟩⟩ (fun c422 => ?_) (fun c422 => ?_)
      · refine j_iload (y := yiJ35_mergeHi) dJ35_mergeHi_428 rfl ?_
        refine m_aload (y := yiJ35_mergeHi) dJ35_mergeHi_430 rfl ?_
        refine j_iload (y := yiJ35_mergeHi) dJ35_mergeHi_432 rfl ?_
        refine h_aald5 (y := yiJ35_mergeHi) dJ35_mergeHi_434 he ⟨by omega, by omega⟩ (by omega) ?_
        rw [(hM5.e1 ⟨by omega, by omega⟩ (i := cc) ⟨by omega, by omega⟩)]
        show MW K yiJ35_mergeHi d g1 435 [some (.ref o), some (vi B), some (vi m1), some (vi (B + L1)), some (vi (r2 + (-1))), some (.ref e), some (.ref t), some (vi 0), some (vi cc), some (vi (c2 + (-1))), some (vi (dd + (-1))), some (vi Gg), some (vi k1), none] [(.ref (p0 cc)), (vi (r2 + (-1)))] Q
        obtain ⟨ru, cs, ks, hps⟩ := (hrd g1 fR cc (by omega) (by omega)).cell
        have ne435 := hpe cc (by omega) (by omega)
        have hps : g1.2.2 (p0 cc) = some (true, .inr (8, [(.ref ru), (vi cs), (vi ks)])) := hps
        refine mw_wf (fun hwfk2 => ?_)
        have l_hps := hwfk2 _ _ hps
        refine m_cast (y := yiJ35_mergeHi) dJ35_mergeHi_435 hps rfl q1994 (Or.inr q1534) ?_
        refine m_aload (y := yiJ35_mergeHi) dJ35_mergeHi_438 rfl ?_
        refine j_iload (y := yiJ35_mergeHi) dJ35_mergeHi_440 rfl ?_
        refine j_iload (y := yiJ35_mergeHi) dJ35_mergeHi_442 rfl ?_
        refine j_iload (y := yiJ35_mergeHi) dJ35_mergeHi_444 rfl ?_
        refine j_iconst (y := yiJ35_mergeHi) dJ35_mergeHi_446 ?_
        refine j_isub (y := yiJ35_mergeHi) dJ35_mergeHi_447 ?_
        refine m_invS (y := yiJ35_mergeHi) [(.ref (p0 cc)), (.ref t), (vi 0), (vi (r2 + (-1))), (vi ((r2 + (-1)) - 1))] dJ35_mergeHi_448 q2055 q2056 q171 q2057 (c_J35_gallopLeft K 3 g1 rk t tl (p0 cc) true 0 (r2 - 1) (r2 - 1 - 1) (cpq f1 ft0 (B + L1) 0 L2) (fun i => p0 (B + L1 + i)) (by omega) hB htm (fun i i1 i2 => ⟨ht i (by omega) (by omega), hrd _ fR (B + L1 + i) (by omega) (by omega)⟩) (hrd _ fR cc (by omega) (by omega)) (fun i j i1 i2 i3 => A2 (B + L1 + i) (B + L1 + j) (by omega) (by omega) (by omega)) (fun i i1 i2 => hin cc (B + L1 + i) (by omega) (by omega) (by omega) (by omega) (by omega)) ⟨by omega, by omega, by omega, by omega⟩ ⟨by omega, by omega⟩) pdJ35_gallopLeft ⟨Nat.le_of_ble_eq_true rfl, by decide, by omega⟩ (kk_z fun r448 h448 q448 => ?_) kx_z
        obtain ⟨rfl, z448, y448, w448⟩ := q448
        have y448' : ∀ i, 0 ≤ i → i < 0 + r448 → rk (p0 (B + L1 + i)) < rk (p0 cc) := y448
        have w448' : ∀ i, 0 + r448 ≤ i → i < 0 + (r2 - 1) → rk (p0 cc) < rk (p0 (B + L1 + i)) := w448
        have t448 : 1 ≤ r448 := Classical.byContradiction (fun e9 => by { have u := w448' 0 (by omega) (by omega); have v := hfi2 m1 (by omega) (by omega); rw [Int.add_zero] at u; rw [show cc = B + m1 - 1 by omega] at u; omega })
        refine j_isub (y := yiJ35_mergeHi) dJ35_mergeHi_451 ?_
        have J506 : ∀ (n2 q2 dd k2 : Int) (f : Int → Option Nat) (gy : MH), (gy.2.2 o = some (true, .inr (26, [(.ref e), (vi mg), (.ref t), (vi 0), (vi (tl : Int)), (vi ss), (.ref rb), (.ref rl)]))) → (gy.2.2 e = some (true, oaE K cap f)) → (gy.2.2 t = some (true, oaE K tl (cpq f1 ft0 (B + L1) 0 L2))) → (∀ b, (b ≠ e ∧ b ≠ t ∧ b ≠ o) → gy.2.2 b = h.2.2 b) → (h.1 = gy.1 ∧ h.2.1 = gy.2.1) → ((q2 = n2 - 1 ∧ dd = B + m1 + n2 - 1) ∧ 2 ≤ n2 ∧ n2 ≤ r2 - 1 ∧ 0 ≤ k2 ∧ k2 ≤ 100000) → (rk (p0 (B + L1 + q2)) < rk (p0 cc)) → (MR rk a b B L1 L2 m1 n2 f f0 p0 h) → MW K yiJ35_mergeHi d gy 506 [some (.ref o), some (vi B), some (vi m1), some (vi (B + L1)), some (vi n2), some (.ref e), some (.ref t), some (vi 0), some (vi cc), some (vi q2), some (vi dd), some (vi Gg), some (vi k1), some (vi k2)] [] Q := by
          intro n2 q2 dd k2 f gy ho he htm fR hz hw5 hc5 hM6
          refine mw_wf (fun hwf506 => ?_)
          have l_ho506 := hwf506 _ _ ho
          have l_he506 := hwf506 _ _ he
          have l_htm506 := hwf506 _ _ htm
          refine m_aload (y := yiJ35_mergeHi) dJ35_mergeHi_506 rfl ?_
          refine j_iload (y := yiJ35_mergeHi) dJ35_mergeHi_508 rfl ?_
          refine j_iinc (y := yiJ35_mergeHi) [some (.ref o), some (vi B), some (vi m1), some (vi (B + L1)), some (vi n2), some (.ref e), some (.ref t), some (vi 0), some (vi cc), some (vi q2), some (vi (dd + (-1))), some (vi Gg), some (vi k1), some (vi k2)] dJ35_mergeHi_510 rfl (by decide) rfl rfl ?_
          refine m_aload (y := yiJ35_mergeHi) dJ35_mergeHi_513 rfl ?_
          refine j_iload (y := yiJ35_mergeHi) dJ35_mergeHi_515 rfl ?_
          refine j_iinc (y := yiJ35_mergeHi) [some (.ref o), some (vi B), some (vi m1), some (vi (B + L1)), some (vi n2), some (.ref e), some (.ref t), some (vi 0), some (vi (cc + (-1))), some (vi q2), some (vi (dd + (-1))), some (vi Gg), some (vi k1), some (vi k2)] dJ35_mergeHi_517 rfl (by decide) rfl rfl ?_
          refine h_aald5 (y := yiJ35_mergeHi) dJ35_mergeHi_520 he ⟨by omega, by omega⟩ (by omega) ?_
          rw [(hM6.e1 ⟨by omega, by omega⟩ (i := cc) ⟨by omega, by omega⟩)]
          show MW K yiJ35_mergeHi d gy 521 [some (.ref o), some (vi B), some (vi m1), some (vi (B + L1)), some (vi n2), some (.ref e), some (.ref t), some (vi 0), some (vi (cc + (-1))), some (vi q2), some (vi (dd + (-1))), some (vi Gg), some (vi k1), some (vi k2)] [(.ref (p0 cc)), (vi dd), (.ref e)] Q
          have i521 : IsO gy (p0 cc) := (hrd gy fR _ (by omega) (by omega)).iso
          refine h_aast (y := yiJ35_mergeHi) dJ35_mergeHi_521 he (by assumption) ⟨by omega, by omega⟩ (by omega) (hp_put fun g3 g3H => ?_)
          have ho : g3.2.2 o = some (true, .inr (26, [(.ref e), (vi mg), (.ref t), (vi 0), (vi (tl : Int)), (vi ss), (.ref rb), (.ref rl)])) := (g3H.2.2.2 _ (by omega)).trans ho
          have htm : g3.2.2 t = some (true, oaE K tl (cpq f1 ft0 (B + L1) 0 L2)) := (g3H.2.2.2 _ (by omega)).trans htm
          have fR : ∀ b, (b ≠ e ∧ b ≠ t ∧ b ≠ o) → g3.2.2 b = h.2.2 b := fun b hb => (g3H.2.2.2 b (by omega)).trans (fR b hb)
          have he : g3.2.2 e = some (true, oaE K cap (upq f dd (some (p0 cc)))) := g3H.2.2.1
          have g31 := g3H.1
          have g32 := g3H.2.1
          have hM7 := hM6.t2 ⟨by omega, by omega⟩ (r1' := m1 - 1) rfl (m := 1) ⟨by omega, by omega⟩ A1 (fun _ _ => rkc _ _ (B + L1 + q2) cc (by omega) (by omega) hc5) (MR.up2 (c := cc) (ds := dd) (by omega) (by omega))
          refine j_iinc (y := yiJ35_mergeHi) [some (.ref o), some (vi B), some (vi (m1 + (-1))), some (vi (B + L1)), some (vi n2), some (.ref e), some (.ref t), some (vi 0), some (vi (cc + (-1))), some (vi q2), some (vi (dd + (-1))), some (vi Gg), some (vi k1), some (vi k2)] dJ35_mergeHi_522 rfl (by decide) rfl rfl ?_
          refine j_iload_n (y := yiJ35_mergeHi) dJ35_mergeHi_525 rfl ?_
          refine j_if_ne (y := yiJ35_mergeHi) 532 dJ35_mergeHi_526 (by decide) ⟨by omega, by omega⟩ (fun c526 => ?_) (fun c526 => ?_)
          · refine j_iinc (y := yiJ35_mergeHi) [some (.ref o), some (vi B), some (vi (m1 + (-1))), some (vi (B + L1)), some (vi n2), some (.ref e), some (.ref t), some (vi 0), some (vi (cc + (-1))), some (vi q2), some (vi (dd + (-1))), some (vi (Gg + (-1))), some (vi k1), some (vi k2)] dJ35_mergeHi_532 rfl (by decide) rfl rfl ?_
            refine j_iload (y := yiJ35_mergeHi) dJ35_mergeHi_535 rfl ?_
            refine j_bipush (y := yiJ35_mergeHi) dJ35_mergeHi_537 (by decide) ?_
            refine j_icmp_lt (y := yiJ35_mergeHi) 546 dJ35_mergeHi_539 (by decide) ⟨⟨by omega, by omega⟩, ⟨by omega, by omega⟩⟩ (fun c539 => ?_) (fun c539 => ?_)
            · refine j_iconst (y := yiJ35_mergeHi) dJ35_mergeHi_546 ?_
              refine j_iload (y := yiJ35_mergeHi) dJ35_mergeHi_547 rfl ?_
              refine j_bipush (y := yiJ35_mergeHi) dJ35_mergeHi_549 (by decide) ?_
              refine j_icmp_lt (y := yiJ35_mergeHi) 558 dJ35_mergeHi_551 (by decide) ⟨⟨by omega, by omega⟩, ⟨by omega, by omega⟩⟩ (fun c551 => ?_) (fun c551 => ?_)
              · refine j_iconst (y := yiJ35_mergeHi) dJ35_mergeHi_558 ?_
                refine j_ior0 (y := yiJ35_mergeHi) dJ35_mergeHi_559 ?_
                refine j_if_ne (y := yiJ35_mergeHi) 306 dJ35_mergeHi_560 (by decide) ⟨by decide, by decide⟩ (fun c => absurd c (by decide)) (fun _ => ?_)
                refine j_iload (y := yiJ35_mergeHi) dJ35_mergeHi_563 rfl ?_
                refine j_if_ge (y := yiJ35_mergeHi) 571 dJ35_mergeHi_565 (by decide) ⟨by omega, by omega⟩ (fun c565 => ?_) (fun c565 => ?_)
                · refine j_iinc (y := yiJ35_mergeHi) [some (.ref o), some (vi B), some (vi (m1 + (-1))), some (vi (B + L1)), some (vi n2), some (.ref e), some (.ref t), some (vi 0), some (vi (cc + (-1))), some (vi q2), some (vi (dd + (-1))), some (vi ((Gg + (-1)) + 2)), some (vi k1), some (vi k2)] dJ35_mergeHi_571 rfl (by decide) rfl rfl ?_
                  refine m_goto (y := yiJ35_mergeHi) 179 dJ35_mergeHi_574 (by decide) ?_
                  refine mw_forget 12 ?_
                  refine mw_forget 13 ?_
                  exact J179 _ _ _ _ _ _ _ _ ho he htm fR (by omega) (by omega) (by omega) hM7 (by omega)
                · refine j_iconst (y := yiJ35_mergeHi) dJ35_mergeHi_568 ?_
                  refine j_istore (y := yiJ35_mergeHi) [some (.ref o), some (vi B), some (vi (m1 + (-1))), some (vi (B + L1)), some (vi n2), some (.ref e), some (.ref t), some (vi 0), some (vi (cc + (-1))), some (vi q2), some (vi (dd + (-1))), some (vi 0), some (vi k1), some (vi k2)] dJ35_mergeHi_569 (by decide) rfl rfl ?_
                  refine j_iinc (y := yiJ35_mergeHi) [some (.ref o), some (vi B), some (vi (m1 + (-1))), some (vi (B + L1)), some (vi n2), some (.ref e), some (.ref t), some (vi 0), some (vi (cc + (-1))), some (vi q2), some (vi (dd + (-1))), some (vi (0 + 2)), some (vi k1), some (vi k2)] dJ35_mergeHi_571 rfl (by decide) rfl rfl ?_
                  refine m_goto (y := yiJ35_mergeHi) 179 dJ35_mergeHi_574 (by decide) ?_
                  refine mw_forget 12 ?_
                  refine mw_forget 13 ?_
                  exact J179 _ _ _ _ _ _ _ _ ho he htm fR (by omega) (by omega) (by omega) hM7 (by omega)
              · refine j_iconst (y := yiJ35_mergeHi) dJ35_mergeHi_554 ?_
                refine m_goto (y := yiJ35_mergeHi) 559 dJ35_mergeHi_555 (by decide) ?_
                refine j_ior1 (y := yiJ35_mergeHi) dJ35_mergeHi_559 (by omega) ?_
                refine j_if_ne (y := yiJ35_mergeHi) 306 dJ35_mergeHi_560 (by decide) ⟨by decide, by decide⟩ (fun _ => ?_) (fun c => absurd c (by decide))
                refine mw_forget 12 ?_
                refine mw_forget 13 ?_
                exact ih306 _ (by omega) _ _ _ _ _ _ _ _ rfl ho he htm fR (by omega) (by omega) (by omega) hM7
            · refine j_iconst (y := yiJ35_mergeHi) dJ35_mergeHi_542 ?_
              refine m_goto (y := yiJ35_mergeHi) 547 dJ35_mergeHi_543 (by decide) ?_
              refine j_iload (y := yiJ35_mergeHi) dJ35_mergeHi_547 rfl ?_
              refine j_bipush (y := yiJ35_mergeHi) dJ35_mergeHi_549 (by decide) ?_
              refine j_icmp_lt (y := yiJ35_mergeHi) 558 dJ35_mergeHi_551 (by decide) ⟨⟨by omega, by omega⟩, ⟨by omega, by omega⟩⟩ (fun c551 => ?_) (fun c551 => ?_)
              · refine j_iconst (y := yiJ35_mergeHi) dJ35_mergeHi_558 ?_
                refine j_ior0 (y := yiJ35_mergeHi) dJ35_mergeHi_559 ?_
                refine j_if_ne (y := yiJ35_mergeHi) 306 dJ35_mergeHi_560 (by decide) ⟨by decide, by decide⟩ (fun _ => ?_) (fun c => absurd c (by decide))
                refine mw_forget 12 ?_
                refine mw_forget 13 ?_
                exact ih306 _ (by omega) _ _ _ _ _ _ _ _ rfl ho he htm fR (by omega) (by omega) (by omega) hM7
              · refine j_iconst (y := yiJ35_mergeHi) dJ35_mergeHi_554 ?_
                refine m_goto (y := yiJ35_mergeHi) 559 dJ35_mergeHi_555 (by decide) ?_
                refine j_ior1 (y := yiJ35_mergeHi) dJ35_mergeHi_559 (by omega) ?_
                refine j_if_ne (y := yiJ35_mergeHi) 306 dJ35_mergeHi_560 (by decide) ⟨by decide, by decide⟩ (fun _ => ?_) (fun c => absurd c (by decide))
                refine mw_forget 12 ?_
                refine mw_forget 13 ?_
                exact ih306 _ (by omega) _ _ _ _ _ _ _ _ rfl ho he htm fR (by omega) (by omega) (by omega) hM7
          · refine m_goto (y := yiJ35_mergeHi) 577 dJ35_mergeHi_529 (by decide) ?_
            refine mw_forget 12 ?_
            refine mw_forget 13 ?_
            exact J577 _ _ _ _ _ _ _ _ ho he htm fR (by omega) (by omega) (by omega) (by omega) (by first | exact hM7 | exact hM6 | exact hM5 | exact hM4a | exact hMa | exact hMb)
        refine j_istore (y := yiJ35_mergeHi) [some (.ref o), some (vi B), some (vi m1), some (vi (B + L1)), some (vi (r2 + (-1))), some (.ref e), some (.ref t), some (vi 0), some (vi cc), some (vi (c2 + (-1))), some (vi (dd + (-1))), some (vi Gg), some (vi k1), some (vi ((r2 + (-1)) - r448))] dJ35_mergeHi_452 (by decide) rfl rfl ?_
        refine j_iload (y := yiJ35_mergeHi) dJ35_mergeHi_454 rfl ?_
        refine j_if_eq (y := yiJ35_mergeHi) 506 dJ35_mergeHi_456 (by decide) ⟨by omega, by omega⟩ (fun c456 => ?_) (fun c456 => ?_)
        · exact J506 _ _ _ _ _ _ ho he htm fR (by omega) (by omega) (y448' _ (by omega) (by omega)) (by first | exact hM6 | exact hM5)
        · refine j_iload (y := yiJ35_mergeHi) dJ35_mergeHi_459 rfl ?_
          refine j_iload (y := yiJ35_mergeHi) dJ35_mergeHi_461 rfl ?_
          refine j_isub (y := yiJ35_mergeHi) dJ35_mergeHi_463 ?_
          refine j_istore (y := yiJ35_mergeHi) [some (.ref o), some (vi B), some (vi m1), some (vi (B + L1)), some (vi (r2 + (-1))), some (.ref e), some (.ref t), some (vi 0), some (vi cc), some (vi (c2 + (-1))), some (vi ((dd + (-1)) - ((r2 + (-1)) - r448))), some (vi Gg), some (vi k1), some (vi ((r2 + (-1)) - r448))] dJ35_mergeHi_464 (by decide) rfl rfl ?_
          refine j_iload (y := yiJ35_mergeHi) dJ35_mergeHi_466 rfl ?_
          refine j_iload (y := yiJ35_mergeHi) dJ35_mergeHi_468 rfl ?_
          refine j_isub (y := yiJ35_mergeHi) dJ35_mergeHi_470 ?_
          refine j_istore (y := yiJ35_mergeHi) [some (.ref o), some (vi B), some (vi m1), some (vi (B + L1)), some (vi (r2 + (-1))), some (.ref e), some (.ref t), some (vi 0), some (vi cc), some (vi ((c2 + (-1)) - ((r2 + (-1)) - r448))), some (vi ((dd + (-1)) - ((r2 + (-1)) - r448))), some (vi Gg), some (vi k1), some (vi ((r2 + (-1)) - r448))] dJ35_mergeHi_471 (by decide) rfl rfl ?_
          refine j_iload (y := yiJ35_mergeHi) dJ35_mergeHi_473 rfl ?_
          refine j_iload (y := yiJ35_mergeHi) dJ35_mergeHi_475 rfl ?_
          refine j_isub (y := yiJ35_mergeHi) dJ35_mergeHi_477 ?_
          refine j_istore (y := yiJ35_mergeHi) [some (.ref o), some (vi B), some (vi m1), some (vi (B + L1)), some (vi ((r2 + (-1)) - ((r2 + (-1)) - r448))), some (.ref e), some (.ref t), some (vi 0), some (vi cc), some (vi ((c2 + (-1)) - ((r2 + (-1)) - r448))), some (vi ((dd + (-1)) - ((r2 + (-1)) - r448))), some (vi Gg), some (vi k1), some (vi ((r2 + (-1)) - r448))] dJ35_mergeHi_478 (by decide) rfl rfl ?_
          refine m_aload (y := yiJ35_mergeHi) dJ35_mergeHi_480 rfl ?_
          refine j_iload (y := yiJ35_mergeHi) dJ35_mergeHi_482 rfl ?_
          refine j_iconst (y := yiJ35_mergeHi) dJ35_mergeHi_484 ?_
          refine j_iadd (y := yiJ35_mergeHi) dJ35_mergeHi_485 ?_
          refine m_aload (y := yiJ35_mergeHi) dJ35_mergeHi_486 rfl ?_
          refine j_iload (y := yiJ35_mergeHi) dJ35_mergeHi_488 rfl ?_
          refine j_iconst (y := yiJ35_mergeHi) dJ35_mergeHi_490 ?_
          refine j_iadd (y := yiJ35_mergeHi) dJ35_mergeHi_491 ?_
          refine j_iload (y := yiJ35_mergeHi) dJ35_mergeHi_492 rfl ?_
          refine h_copyq (y := yiJ35_mergeHi) dJ35_mergeHi_494 q2003 htm he ⟨by omega, by omega⟩ ⟨by omega, by omega, by omega⟩ (by omega) (by omega) (fun i a1 a2 x9 hx => by { rw [ht i (by omega) (by omega)] at hx; cases hx; exact (hrd _ fR (B + L1 + i) (by omega) (by omega)).iso }) ⟨Nat.le_of_ble_eq_true rfl, by omega⟩ (hp_put fun g4 g4H => ?_)
          have ho : g4.2.2 o = some (true, .inr (26, [(.ref e), (vi mg), (.ref t), (vi 0), (vi (tl : Int)), (vi ss), (.ref rb), (.ref rl)])) := (g4H.2.2.2 _ (by omega)).trans ho
          have htm : g4.2.2 t = some (true, oaE K tl (cpq f1 ft0 (B + L1) 0 L2)) := (g4H.2.2.2 _ (by omega)).trans htm
          have hps : g4.2.2 (p0 cc) = some (true, .inr (8, [(.ref ru), (vi cs), (vi ks)])) := (g4H.2.2.2 _ (by omega)).trans hps
          have fR : ∀ b, (b ≠ e ∧ b ≠ t ∧ b ≠ o) → g4.2.2 b = h.2.2 b := fun b hb => (g4H.2.2.2 b (by omega)).trans (fR b hb)
          have he : g4.2.2 e = some (true, oaE K cap (cpq (cpq f1 ft0 (B + L1) 0 L2) (upq f dd (some (p0 (B + L1 + c2)))) (((c2 + (-1)) - ((r2 + (-1)) - r448)) + 1) (((dd + (-1)) - ((r2 + (-1)) - r448)) + 1) ((r2 + (-1)) - r448))) := g4H.2.2.1
          have g41 := g4H.1
          have g42 := g4H.2.1
          have hM6 := hM5.t1 ⟨by omega, by omega⟩ (r2' := r2 - 1 - (r2 - 1 - r448)) rfl (m := r2 - 1 - r448) ⟨by omega, by omega⟩ A2 (fun _ _ => rkc _ _ cc (B + L1 + r448) (by omega) (by omega) (w448' _ (by omega) (by omega))) (MR.cp1 (s := c2 + -1 - (r2 - 1 - r448) + 1) (ds := dd + -1 - (r2 - 1 - r448) + 1) ht (by omega) (by omega) ⟨by omega, by omega, by omega⟩)
          refine j_iload (y := yiJ35_mergeHi) dJ35_mergeHi_497 rfl ?_
          refine j_iconst (y := yiJ35_mergeHi) dJ35_mergeHi_499 ?_
          refine j_icmp_gt (y := yiJ35_mergeHi) 506 dJ35_mergeHi_500 (by decide) ⟨⟨by omega, by omega⟩, ⟨by omega, by omega⟩⟩ (fun c500 => ?_) (fun c500 => ?_)
          · exact J506 _ _ _ _ _ _ ho he htm fR (by omega) (by omega) (y448' _ (by omega) (by omega)) (by first | exact hM6 | exact hM5)
          · refine m_goto (y := yiJ35_mergeHi) 577 dJ35_mergeHi_503 (by decide) ?_
            refine mw_forget 12 ?_
            refine mw_forget 13 ?_
            exact J577 _ _ _ _ _ _ _ _ ho he htm fR (by omega) (by omega) (by omega) (by omega) (by first | exact hM7 | exact hM6 | exact hM5 | exact hM4a | exact hMa | exact hMb)
      · refine m_goto (y := yiJ35_mergeHi) 577 dJ35_mergeHi_425 (by decide) ?_
        refine mw_forget 12 ?_
        exact J577 _ _ _ _ _ _ _ _ ho he htm fR (by omega) (by omega) (by omega) (by omega) (by first | exact hM7 | exact hM6 | exact hM5 | exact hM4a | exact hMa | exact hMb)
    refine j_istore (y := yiJ35_mergeHi) [some (.ref o), some (vi B), some (vi r1), some (vi (B + L1)), some (vi r2), some (.ref e), some (.ref t), some (vi 0), some (vi c1), some (vi c2), some (vi ds), some (vi Gg), some (vi (r1 - r346)), none] dJ35_mergeHi_350 (by decide) rfl rfl ?_
    refine j_iload (y := yiJ35_mergeHi) dJ35_mergeHi_352 rfl ?_
    refine j_if_eq (y := yiJ35_mergeHi) 400 dJ35_mergeHi_354 (by decide) ⟨by omega, by omega⟩ (fun c354 => ?_) (fun c354 => ?_)
    · exact J400 _ _ _ _ _ _ ho he htm fR (by omega) (by omega) (y346' _ (by omega) (by omega)) (by first | exact hM4a | exact hM3)
    · refine j_iload (y := yiJ35_mergeHi) dJ35_mergeHi_357 rfl ?_
      refine j_iload (y := yiJ35_mergeHi) dJ35_mergeHi_359 rfl ?_
      refine j_isub (y := yiJ35_mergeHi) dJ35_mergeHi_361 ?_
      refine j_istore (y := yiJ35_mergeHi) [some (.ref o), some (vi B), some (vi r1), some (vi (B + L1)), some (vi r2), some (.ref e), some (.ref t), some (vi 0), some (vi c1), some (vi c2), some (vi (ds - (r1 - r346))), some (vi Gg), some (vi (r1 - r346)), none] dJ35_mergeHi_362 (by decide) rfl rfl ?_
      refine j_iload (y := yiJ35_mergeHi) dJ35_mergeHi_364 rfl ?_
      refine j_iload (y := yiJ35_mergeHi) dJ35_mergeHi_366 rfl ?_
      refine j_isub (y := yiJ35_mergeHi) dJ35_mergeHi_368 ?_
      refine j_istore (y := yiJ35_mergeHi) [some (.ref o), some (vi B), some (vi r1), some (vi (B + L1)), some (vi r2), some (.ref e), some (.ref t), some (vi 0), some (vi (c1 - (r1 - r346))), some (vi c2), some (vi (ds - (r1 - r346))), some (vi Gg), some (vi (r1 - r346)), none] dJ35_mergeHi_369 (by decide) rfl rfl ?_
      refine j_iload_n (y := yiJ35_mergeHi) dJ35_mergeHi_371 rfl ?_
      refine j_iload (y := yiJ35_mergeHi) dJ35_mergeHi_372 rfl ?_
      refine j_isub (y := yiJ35_mergeHi) dJ35_mergeHi_374 ?_
      refine j_istore_n (y := yiJ35_mergeHi) [some (.ref o), some (vi B), some (vi (r1 - (r1 - r346))), some (vi (B + L1)), some (vi r2), some (.ref e), some (.ref t), some (vi 0), some (vi (c1 - (r1 - r346))), some (vi c2), some (vi (ds - (r1 - r346))), some (vi Gg), some (vi (r1 - r346)), none] dJ35_mergeHi_375 (by decide) rfl rfl ?_
      refine m_aload (y := yiJ35_mergeHi) dJ35_mergeHi_376 rfl ?_
      refine j_iload (y := yiJ35_mergeHi) dJ35_mergeHi_378 rfl ?_
      refine j_iconst (y := yiJ35_mergeHi) dJ35_mergeHi_380 ?_
      refine j_iadd (y := yiJ35_mergeHi) dJ35_mergeHi_381 ?_
      refine m_aload (y := yiJ35_mergeHi) dJ35_mergeHi_382 rfl ?_
      refine j_iload (y := yiJ35_mergeHi) dJ35_mergeHi_384 rfl ?_
      refine j_iconst (y := yiJ35_mergeHi) dJ35_mergeHi_386 ?_
      refine j_iadd (y := yiJ35_mergeHi) dJ35_mergeHi_387 ?_
      refine j_iload (y := yiJ35_mergeHi) dJ35_mergeHi_388 rfl ?_
      refine h_copyq (y := yiJ35_mergeHi) dJ35_mergeHi_390 q2003 he he ⟨by omega, by omega⟩ ⟨by omega, by omega, by omega⟩ (by omega) (by omega) (fun i a1 a2 x9 hx => by { rw [hM3.e1 ⟨by omega, by omega⟩ (i := i) ⟨by omega, by omega⟩] at hx; cases hx; exact (hrd _ fR i (by omega) (by omega)).iso }) ⟨Nat.le_of_ble_eq_true rfl, by omega⟩ (hp_put fun g5 g5H => ?_)
      have ho : g5.2.2 o = some (true, .inr (26, [(.ref e), (vi mg), (.ref t), (vi 0), (vi (tl : Int)), (vi ss), (.ref rb), (.ref rl)])) := (g5H.2.2.2 _ (by omega)).trans ho
      have htm : g5.2.2 t = some (true, oaE K tl (cpq f1 ft0 (B + L1) 0 L2)) := (g5H.2.2.2 _ (by omega)).trans htm
      have hps : g5.2.2 (p0 (B + L1 + c2)) = some (true, .inr (8, [(.ref ru), (vi cs), (vi ks)])) := (g5H.2.2.2 _ (by omega)).trans hps
      have fR : ∀ b, (b ≠ e ∧ b ≠ t ∧ b ≠ o) → g5.2.2 b = h.2.2 b := fun b hb => (g5H.2.2.2 b (by omega)).trans (fR b hb)
      have he : g5.2.2 e = some (true, oaE K cap (cpq f f ((c1 - (r1 - r346)) + 1) ((ds - (r1 - r346)) + 1) (r1 - r346))) := g5H.2.2.1
      have g51 := g5H.1
      have g52 := g5H.2.1
      have hM4a := hM3.t2 ⟨by omega, by omega⟩ (r1' := r1 - (r1 - r346)) rfl (m := r1 - r346) ⟨by omega, by omega⟩ A1 (fun _ _ => rkc _ _ (B + L1 + c2) (B + r1 - (r1 - r346)) (by omega) (by omega) (w346' _ (by omega) (by omega))) (hM3.cp2 (c := c1 - (r1 - r346) + 1) (ds := ds - (r1 - r346) + 1) ⟨by omega, by omega⟩ (by omega) (by omega) ⟨by omega, by omega⟩)
      refine j_iload_n (y := yiJ35_mergeHi) dJ35_mergeHi_393 rfl ?_
      refine j_if_ne (y := yiJ35_mergeHi) 400 dJ35_mergeHi_394 (by decide) ⟨by omega, by omega⟩ (fun c394 => ?_) (fun c394 => ?_)
      · exact J400 _ _ _ _ _ _ ho he htm fR (by omega) (by omega) (y346' _ (by omega) (by omega)) (by first | exact hM4a | exact hM3)
      · refine m_goto (y := yiJ35_mergeHi) 577 dJ35_mergeHi_397 (by decide) ?_
        refine mw_forget 12 ?_
        exact J577 _ _ _ _ _ _ _ _ ho he htm fR (by omega) (by omega) (by omega) (by omega) (by first | exact hM7 | exact hM6 | exact hM5 | exact hM4a | exact hMa | exact hMb)
  exact fun r1 r2 c1 c2 ds Gg f gw ho he htm fR hz hw3 hG3 hM3 => L306 _ r1 r2 c1 c2 ds Gg f gw rfl ho he htm fR hz hw3 hG3 hM3
theorem mh185 (K : KT) (d : Nat) (h : MH) (rk : Nat → Int) (o e t rb rl cap tl : Nat) (mg ss : Int) (a b B L1 L2 : Int) (f1 f0 ft0 : Int → Option Nat) (p0 : Int → Nat) (hd : 5 ≤ d) (hB : kV K 12 = vi 1) (ho : h.2.2 o = some (true, .inr (26, [.ref e, vi mg, .ref t, vi 0, vi (tl : Int), vi ss, .ref rb, .ref rl]))) (he : h.2.2 e = some (true, oaE K cap f1)) (htm : h.2.2 t = some (true, oaE K tl ft0)) (het : e ≠ t) (hA : ArS h rk e a b f1 f0 p0) (hb : (0 ≤ a ∧ a ≤ B ∧ B + L1 + L2 ≤ b) ∧ b ≤ (cap : Int) ∧ cap ≤ 60000) (hL : (0 < L1 ∧ 0 < L2) ∧ L2 ≤ (tl : Int) ∧ tl ≤ 60000) (hmg : 0 ≤ mg ∧ mg ≤ 1000000) (A1 : Asc rk p0 B (B + L1)) (A2 : Asc rk p0 (B + L1) (B + L1 + L2)) (hfi : rk (p0 (B + L1)) < rk (p0 B)) (hla : rk (p0 (B + L1 + L2 - 1)) < rk (p0 (B + L1 - 1))) (hI : Inj rk p0 a b) (Q : OT → MH → Prop) (r0 : Int) (J577 : (∀ (r1 r2 c1 c2 ds G : Int) (f : Int → Option Nat) (gj : MH), (gj.2.2 o = some (true, .inr (26, [(.ref e), (vi mg), (.ref t), (vi 0), (vi (tl : Int)), (vi ss), (.ref rb), (.ref rl)]))) → (gj.2.2 e = some (true, oaE K cap f)) → (gj.2.2 t = some (true, oaE K tl (cpq f1 ft0 (B + L1) 0 L2))) → (∀ b, (b ≠ e ∧ b ≠ t ∧ b ≠ o) → gj.2.2 b = h.2.2 b) → (h.1 = gj.1 ∧ h.2.1 = gj.2.1) → (c1 = B + r1 - 1 ∧ c2 = r2 - 1 ∧ ds = B + r1 + r2 - 1) → ((r2 = 1 ∨ r1 = 0) ∧ 1 ≤ r2 ∧ 0 ≤ r1 ∧ r1 ≤ L1 ∧ r2 ≤ L2) → (-300000 ≤ G ∧ G ≤ mg + 3 * (L1 + L2)) → (MR rk a b B L1 L2 r1 r2 f f0 p0 h) → MW K yiJ35_mergeHi d gj 577 [some (.ref o), some (vi B), some (vi r1), some (vi (B + L1)), some (vi r2), some (.ref e), some (.ref t), some (vi 0), some (vi c1), some (vi c2), some (vi ds), some (vi G), none, none] [] Q)) (J306 : (∀ (r1 r2 c1 c2 ds Gg : Int) (f : Int → Option Nat) (gw : MH), (gw.2.2 o = some (true, .inr (26, [(.ref e), (vi mg), (.ref t), (vi 0), (vi (tl : Int)), (vi ss), (.ref rb), (.ref rl)]))) → (gw.2.2 e = some (true, oaE K cap f)) → (gw.2.2 t = some (true, oaE K tl (cpq f1 ft0 (B + L1) 0 L2))) → (∀ b, (b ≠ e ∧ b ≠ t ∧ b ≠ o) → gw.2.2 b = h.2.2 b) → (h.1 = gw.1 ∧ h.2.1 = gw.2.1) → ((c1 = B + r1 - 1 ∧ c2 = r2 - 1 ∧ ds = B + r1 + r2 - 1) ∧ 1 ≤ r1 ∧ 2 ≤ r2 ∧ r1 ≤ L1 ∧ r2 ≤ L2 ∧ r1 + r2 < r0) → (-(L1 + L2 - r1 - r2) ≤ Gg ∧ Gg ≤ mg + 2 * (L1 + L2 - r1 - r2)) → (MR rk a b B L1 L2 r1 r2 f f0 p0 h) → MW K yiJ35_mergeHi d gw 306 [some (.ref o), some (vi B), some (vi r1), some (vi (B + L1)), some (vi r2), some (.ref e), some (.ref t), some (vi 0), some (vi c1), some (vi c2), some (vi ds), some (vi Gg), none, none] [] Q)) : (∀ (v1 v2 c1 c2 ds k1 k2 G : Int) (fv : Int → Option Nat) (gv : MH), (gv.2.2 o = some (true, .inr (26, [(.ref e), (vi mg), (.ref t), (vi 0), (vi (tl : Int)), (vi ss), (.ref rb), (.ref rl)]))) → (gv.2.2 e = some (true, oaE K cap fv)) → (gv.2.2 t = some (true, oaE K tl (cpq f1 ft0 (B + L1) 0 L2))) → (∀ b, (b ≠ e ∧ b ≠ t ∧ b ≠ o) → gv.2.2 b = h.2.2 b) → (h.1 = gv.1 ∧ h.2.1 = gv.2.1) → ((c1 = B + v1 - 1 ∧ c2 = v2 - 1 ∧ ds = B + v1 + v2 - 1) ∧ 1 ≤ v1 ∧ 2 ≤ v2 ∧ v1 ≤ L1 ∧ v2 ≤ L2 ∧ v1 + v2 ≤ r0) → (0 ≤ k1 ∧ k1 ≤ L1 - v1 ∧ 0 ≤ k2 ∧ k2 ≤ L2 - v2) → (0 ≤ G ∧ G ≤ mg + 2 * (L1 + L2 - v1 - v2)) → (MR rk a b B L1 L2 v1 v2 fv f0 p0 h) → MW K yiJ35_mergeHi d gv 185 [some (.ref o), some (vi B), some (vi v1), some (vi (B + L1)), some (vi v2), some (.ref e), some (.ref t), some (vi 0), some (vi c1), some (vi c2), some (vi ds), some (vi G), some (vi k1), some (vi k2)] [] Q) := by
  have hoe : o ≠ e := ne_oa ho he
  have hot : o ≠ t := ne_oa ho htm
  have hin : ∀ i j, a ≤ i → i < b → a ≤ j → j < b → i ≠ j → rk (p0 i) ≠ rk (p0 j) := fun i j i1 i2 j1 j2 hne => by
    by_cases e9 : i < j
    · exact hI i j i1 e9 j2
    · exact fun e8 => hI j i j1 (by omega) i2 e8.symm
  have hpe : ∀ i, a ≤ i → i < b → p0 i ≠ e ∧ p0 i ≠ t ∧ p0 i ≠ o := fun i i1 i2 => by
    obtain ⟨r1, r2, r3, r4⟩ := (hA.1 i i1 i2).2.cell
    exact ⟨ne_oa r4 he, ne_oa r4 htm, ne_oo r4 ho (by decide)⟩
  have hup : ∀ g' : MH, (∀ q, q ≠ e ∧ q ≠ t ∧ q ≠ o → g'.2.2 q = h.2.2 q) → ∀ b w ci fs, ci ≠ 26 → h.2.2 b = some (w, .inr (ci, fs)) → g'.2.2 b = h.2.2 b := fun g' q b w ci fs h26 hb9 => q b ⟨ne_oa hb9 he, ne_oa hb9 htm, ne_oo hb9 ho h26⟩
  have hrd : ∀ g' : MH, (∀ q, q ≠ e ∧ q ≠ t ∧ q ≠ o → g'.2.2 q = h.2.2 q) → ∀ i, a ≤ i → i < b → RdS g' rk (p0 i) := fun g' q i i1 i2 => (hA.1 i i1 i2).2.up (hup g' q)
  have rkc : ∀ i j i' j' : Int, i = i' → j = j' → rk (p0 i') < rk (p0 j') → rk (p0 i) < rk (p0 j) := fun i j i' j' e1 e2 e3 => by rw [e1, e2]; exact e3
  have ht : ∀ i, 0 ≤ i → i < L2 → cpq f1 ft0 (B + L1) 0 L2 i = some (p0 (B + L1 + i)) := fun i i1 i2 => by { unfold cpq; rw [if_pos (by omega), Int.sub_zero]; exact (hA.1 (B + L1 + i) (by omega) (by omega)).1 }
  have hfi2 : ∀ r1 : Int, 0 < r1 → r1 ≤ L1 → rk (p0 (B + L1)) < rk (p0 (B + r1 - 1)) := fun r1 i1 i2 => by
    by_cases e : r1 = 1
    · rw [e, show B + 1 - 1 = B by omega]; exact hfi
    · have := A1 B (B + r1 - 1) (by omega) (by omega) (by omega); omega
  have L185 : ∀ (N : Nat) (v1 v2 c1 c2 ds k1 k2 G : Int) (fv : Int → Option Nat) (gv : MH), (v1 + v2).toNat = N → (gv.2.2 o = some (true, .inr (26, [(.ref e), (vi mg), (.ref t), (vi 0), (vi (tl : Int)), (vi ss), (.ref rb), (.ref rl)]))) → (gv.2.2 e = some (true, oaE K cap fv)) → (gv.2.2 t = some (true, oaE K tl (cpq f1 ft0 (B + L1) 0 L2))) → (∀ b, (b ≠ e ∧ b ≠ t ∧ b ≠ o) → gv.2.2 b = h.2.2 b) → (h.1 = gv.1 ∧ h.2.1 = gv.2.1) → ((c1 = B + v1 - 1 ∧ c2 = v2 - 1 ∧ ds = B + v1 + v2 - 1) ∧ 1 ≤ v1 ∧ 2 ≤ v2 ∧ v1 ≤ L1 ∧ v2 ≤ L2 ∧ v1 + v2 ≤ r0) → (0 ≤ k1 ∧ k1 ≤ L1 - v1 ∧ 0 ≤ k2 ∧ k2 ≤ L2 - v2) → (0 ≤ G ∧ G ≤ mg + 2 * (L1 + L2 - v1 - v2)) → (MR rk a b B L1 L2 v1 v2 fv f0 p0 h) → MW K yiJ35_mergeHi d gv 185 [some (.ref o), some (vi B), some (vi v1), some (vi (B + L1)), some (vi v2), some (.ref e), some (.ref t), some (vi 0), some (vi c1), some (vi c2), some (vi ds), some (vi G), some (vi k1), some (vi k2)] [] Q := by
    intro N
    induction N using Nat.strongRecOn with
    | _ N ih185 =>
    intro v1 v2 c1 c2 ds k1 k2 G fv gv hN185 ho he htm fR hz hw2 hk hG1 hMv
    refine mw_wf (fun hwf185 => ?_)
    have l_ho185 := hwf185 _ _ ho
    have l_he185 := hwf185 _ _ he
    have l_htm185 := hwf185 _ _ htm
    refine m_gets (y := yiJ35_mergeHi) (ref := "") 12 rfl dJ35_mergeHi_185 q1989 hB ?_
    refine j_if_ne (y := yiJ35_mergeHi) 209 dJ35_mergeHi_188 (by decide) ⟨by decide, by decide⟩ (fun _ => ?_) (fun c => absurd c (by decide))
    have J296 : ∀ (r1 r2 x1 x2 dd q1 q2 : Int) (f : Int → Option Nat) (gk : MH), (gk.2.2 o = some (true, .inr (26, [(.ref e), (vi mg), (.ref t), (vi 0), (vi (tl : Int)), (vi ss), (.ref rb), (.ref rl)]))) → (gk.2.2 e = some (true, oaE K cap f)) → (gk.2.2 t = some (true, oaE K tl (cpq f1 ft0 (B + L1) 0 L2))) → (∀ b, (b ≠ e ∧ b ≠ t ∧ b ≠ o) → gk.2.2 b = h.2.2 b) → (h.1 = gk.1 ∧ h.2.1 = gk.2.1) → ((x1 = B + r1 - 1 ∧ x2 = r2 - 1 ∧ dd = B + r1 + r2 - 1) ∧ 1 ≤ r1 ∧ 2 ≤ r2 ∧ r1 ≤ L1 ∧ r2 ≤ L2 ∧ r1 + r2 + 1 = v1 + v2) → ((q1 = 0 ∨ q2 = 0) ∧ 0 ≤ q1 ∧ q1 ≤ L1 - r1 ∧ 0 ≤ q2 ∧ q2 ≤ L2 - r2) → (MR rk a b B L1 L2 r1 r2 f f0 p0 h) → MW K yiJ35_mergeHi d gk 296 [some (.ref o), some (vi B), some (vi r1), some (vi (B + L1)), some (vi r2), some (.ref e), some (.ref t), some (vi 0), some (vi x1), some (vi x2), some (vi dd), some (vi G), some (vi q1), some (vi q2)] [] Q := by
      intro r1 r2 x1 x2 dd q1 q2 f gk ho he htm fR hz hw2' hq2 hM2
      refine mw_wf (fun hwf296 => ?_)
      have l_ho296 := hwf296 _ _ ho
      have l_he296 := hwf296 _ _ he
      have l_htm296 := hwf296 _ _ htm
      refine j_iload (y := yiJ35_mergeHi) dJ35_mergeHi_296 rfl ?_
      refine j_iload (y := yiJ35_mergeHi) dJ35_mergeHi_298 rfl ?_
      refine j_iorx (y := yiJ35_mergeHi) dJ35_mergeHi_300 (by omega) ?_
      refine j_iload (y := yiJ35_mergeHi) dJ35_mergeHi_301 rfl ?_
      refine j_icmp_lt (y := yiJ35_mergeHi) 185 dJ35_mergeHi_303 (by decide) ⟨⟨by omega, by omega⟩, ⟨by omega, by omega⟩⟩ (fun c303 => ?_) (fun c303 => ?_)
      · exact ih185 _ (by omega) _ _ _ _ _ _ _ _ _ _ rfl ho he htm fR (by omega) (by omega) (by omega) (by omega) hM2
      · refine mw_forget 12 ?_
        refine mw_forget 13 ?_
        exact J306 _ _ _ _ _ _ _ _ ho he htm fR (by omega) (by omega) (by omega) hM2
    refine m_aload (y := yiJ35_mergeHi) dJ35_mergeHi_209 rfl ?_
    refine j_iload (y := yiJ35_mergeHi) dJ35_mergeHi_211 rfl ?_
    refine h_aald5 (y := yiJ35_mergeHi) dJ35_mergeHi_213 htm ⟨by omega, by omega⟩ (by omega) ?_
    rw [(ht c2 (by omega) (by omega))]
    show MW K yiJ35_mergeHi d gv 214 [some (.ref o), some (vi B), some (vi v1), some (vi (B + L1)), some (vi v2), some (.ref e), some (.ref t), some (vi 0), some (vi c1), some (vi c2), some (vi ds), some (vi G), some (vi k1), some (vi k2)] [(.ref (p0 (B + L1 + c2)))] Q
    obtain ⟨ru, cs, ks, hps⟩ := (hrd gv fR (B + L1 + c2) (by omega) (by omega)).cell
    have ne214 := hpe (B + L1 + c2) (by omega) (by omega)
    have hps : gv.2.2 (p0 (B + L1 + c2)) = some (true, .inr (8, [(.ref ru), (vi cs), (vi ks)])) := hps
    have l_hps := hwf185 _ _ hps
    refine m_cast (y := yiJ35_mergeHi) dJ35_mergeHi_214 hps rfl q1994 (Or.inr q1534) ?_
    refine m_aload (y := yiJ35_mergeHi) dJ35_mergeHi_217 rfl ?_
    refine j_iload (y := yiJ35_mergeHi) dJ35_mergeHi_219 rfl ?_
    refine h_aald5 (y := yiJ35_mergeHi) dJ35_mergeHi_221 he ⟨by omega, by omega⟩ (by omega) ?_
    rw [(hMv.e1 ⟨by omega, by omega⟩ (i := c1) ⟨by omega, by omega⟩)]
    show MW K yiJ35_mergeHi d gv 222 [some (.ref o), some (vi B), some (vi v1), some (vi (B + L1)), some (vi v2), some (.ref e), some (.ref t), some (vi 0), some (vi c1), some (vi c2), some (vi ds), some (vi G), some (vi k1), some (vi k2)] [(.ref (p0 c1)), (.ref (p0 (B + L1 + c2)))] Q
    refine m_invF (y := yiJ35_mergeHi) (rB := (RX9, TX9, 3)) [(.ref (p0 c1))] dJ35_mergeHi_222 hps rfl q1996 q1517 q1516 rfl q1535 q1537 q1538 q1536 q1534 q168 q1539 ⟨by decide, by decide⟩ (by show _ = some 1; decide +kernel) (c_cmp K 1 gv rk (p0 (B + L1 + c2)) (p0 c1) (by omega) (hrd _ fR _ (by omega) (by omega)) (hrd _ fR _ (by omega) (by omega))) pdX9_compareTo ⟨Nat.le_of_ble_eq_true rfl, by decide, by omega⟩ (kk_z fun r222 h222 q222 => ?_) kx_z
    obtain ⟨rfl, e222⟩ := q222
    have b222 := e222.2.2
    have n222 := hin (B + L1 + c2) c1 (by omega) (by omega) (by omega) (by omega) (by omega)
    refine j_if_ge (y := yiJ35_mergeHi) 262 dJ35_mergeHi_227 (by decide) ⟨by omega, by omega⟩ (fun c227 => ?_) (fun c227 => ?_)
    · refine m_aload (y := yiJ35_mergeHi) dJ35_mergeHi_262 rfl ?_
      refine j_iload (y := yiJ35_mergeHi) dJ35_mergeHi_264 rfl ?_
      refine j_iinc (y := yiJ35_mergeHi) [some (.ref o), some (vi B), some (vi v1), some (vi (B + L1)), some (vi v2), some (.ref e), some (.ref t), some (vi 0), some (vi c1), some (vi c2), some (vi (ds + (-1))), some (vi G), some (vi k1), some (vi k2)] dJ35_mergeHi_266 rfl (by decide) rfl rfl ?_
      refine m_aload (y := yiJ35_mergeHi) dJ35_mergeHi_269 rfl ?_
      refine j_iload (y := yiJ35_mergeHi) dJ35_mergeHi_271 rfl ?_
      refine j_iinc (y := yiJ35_mergeHi) [some (.ref o), some (vi B), some (vi v1), some (vi (B + L1)), some (vi v2), some (.ref e), some (.ref t), some (vi 0), some (vi c1), some (vi (c2 + (-1))), some (vi (ds + (-1))), some (vi G), some (vi k1), some (vi k2)] dJ35_mergeHi_273 rfl (by decide) rfl rfl ?_
      refine h_aald5 (y := yiJ35_mergeHi) dJ35_mergeHi_276 htm ⟨by omega, by omega⟩ (by omega) ?_
      rw [(ht c2 (by omega) (by omega))]
      show MW K yiJ35_mergeHi d gv 277 [some (.ref o), some (vi B), some (vi v1), some (vi (B + L1)), some (vi v2), some (.ref e), some (.ref t), some (vi 0), some (vi c1), some (vi (c2 + (-1))), some (vi (ds + (-1))), some (vi G), some (vi k1), some (vi k2)] [(.ref (p0 (B + L1 + c2))), (vi ds), (.ref e)] Q
      have i277 : IsO gv (p0 (B + L1 + c2)) := (hrd gv fR _ (by omega) (by omega)).iso
      refine h_aast (y := yiJ35_mergeHi) dJ35_mergeHi_277 he ⟨_, _, _, _, hps, rfl, kObj 8 _ rfl⟩ ⟨by omega, by omega⟩ (by omega) (hp_put fun g1 g1H => ?_)
      have ho : g1.2.2 o = some (true, .inr (26, [(.ref e), (vi mg), (.ref t), (vi 0), (vi (tl : Int)), (vi ss), (.ref rb), (.ref rl)])) := (g1H.2.2.2 _ (by omega)).trans ho
      have htm : g1.2.2 t = some (true, oaE K tl (cpq f1 ft0 (B + L1) 0 L2)) := (g1H.2.2.2 _ (by omega)).trans htm
      have hps : g1.2.2 (p0 (B + L1 + c2)) = some (true, .inr (8, [(.ref ru), (vi cs), (vi ks)])) := (g1H.2.2.2 _ (by omega)).trans hps
      have fR : ∀ b, (b ≠ e ∧ b ≠ t ∧ b ≠ o) → g1.2.2 b = h.2.2 b := fun b hb => (g1H.2.2.2 b (by omega)).trans (fR b hb)
      have he : g1.2.2 e = some (true, oaE K cap (upq fv ds (some (p0 (B + L1 + c2))))) := g1H.2.2.1
      have g11 := g1H.1
      have g12 := g1H.2.1
      have hMb := hMv.t1 ⟨by omega, by omega⟩ (r2' := v2 - 1) rfl (m := 1) ⟨by omega, by omega⟩ A2 (fun _ _ => rkc _ _ c1 (B + L1 + c2) (by omega) (by omega) (by have := e222.1; omega)) (MR.up1 (c := c2) (ds := ds) (by omega) (by omega))
      refine j_iinc (y := yiJ35_mergeHi) [some (.ref o), some (vi B), some (vi v1), some (vi (B + L1)), some (vi v2), some (.ref e), some (.ref t), some (vi 0), some (vi c1), some (vi (c2 + (-1))), some (vi (ds + (-1))), some (vi G), some (vi k1), some (vi (k2 + 1))] dJ35_mergeHi_278 rfl (by decide) rfl rfl ?_
      refine j_iconst (y := yiJ35_mergeHi) dJ35_mergeHi_281 ?_
      refine j_istore (y := yiJ35_mergeHi) [some (.ref o), some (vi B), some (vi v1), some (vi (B + L1)), some (vi v2), some (.ref e), some (.ref t), some (vi 0), some (vi c1), some (vi (c2 + (-1))), some (vi (ds + (-1))), some (vi G), some (vi 0), some (vi (k2 + 1))] dJ35_mergeHi_282 (by decide) rfl rfl ?_
      refine j_iinc (y := yiJ35_mergeHi) [some (.ref o), some (vi B), some (vi v1), some (vi (B + L1)), some (vi (v2 + (-1))), some (.ref e), some (.ref t), some (vi 0), some (vi c1), some (vi (c2 + (-1))), some (vi (ds + (-1))), some (vi G), some (vi 0), some (vi (k2 + 1))] dJ35_mergeHi_284 rfl (by decide) rfl rfl ?_
      refine j_iload (y := yiJ35_mergeHi) dJ35_mergeHi_287 rfl ?_
      refine j_iconst (y := yiJ35_mergeHi) dJ35_mergeHi_289 ?_
      refine j_icmp_ne (y := yiJ35_mergeHi) 296 dJ35_mergeHi_290 (by decide) ⟨⟨by omega, by omega⟩, ⟨by omega, by omega⟩⟩ (fun c290 => ?_) (fun c290 => ?_)
      · exact J296 _ _ _ _ _ _ _ _ _ ho he htm fR (by omega) (by omega) (by omega) (by first | exact hMa | exact hMb)
      · refine m_goto (y := yiJ35_mergeHi) 577 dJ35_mergeHi_293 (by decide) ?_
        refine mw_forget 12 ?_
        refine mw_forget 13 ?_
        exact J577 _ _ _ _ _ _ _ _ ho he htm fR (by omega) (by omega) (by omega) (by omega) (by first | exact hM7 | exact hM6 | exact hM5 | exact hM4a | exact hMa | exact hMb)
    · refine m_aload (y := yiJ35_mergeHi) dJ35_mergeHi_230 rfl ?_
      refine j_iload (y := yiJ35_mergeHi) dJ35_mergeHi_232 rfl ?_
      refine j_iinc (y := yiJ35_mergeHi) [some (.ref o), some (vi B), some (vi v1), some (vi (B + L1)), some (vi v2), some (.ref e), some (.ref t), some (vi 0), some (vi c1), some (vi c2), some (vi (ds + (-1))), some (vi G), some (vi k1), some (vi k2)] dJ35_mergeHi_234 rfl (by decide) rfl rfl ?_
      refine m_aload (y := yiJ35_mergeHi) dJ35_mergeHi_237 rfl ?_
      refine j_iload (y := yiJ35_mergeHi) dJ35_mergeHi_239 rfl ?_
      refine j_iinc (y := yiJ35_mergeHi) [some (.ref o), some (vi B), some (vi v1), some (vi (B + L1)), some (vi v2), some (.ref e), some (.ref t), some (vi 0), some (vi (c1 + (-1))), some (vi c2), some (vi (ds + (-1))), some (vi G), some (vi k1), some (vi k2)] dJ35_mergeHi_241 rfl (by decide) rfl rfl ?_
      refine h_aald5 (y := yiJ35_mergeHi) dJ35_mergeHi_244 he ⟨by omega, by omega⟩ (by omega) ?_
      rw [(hMv.e1 ⟨by omega, by omega⟩ (i := c1) ⟨by omega, by omega⟩)]
      show MW K yiJ35_mergeHi d gv 245 [some (.ref o), some (vi B), some (vi v1), some (vi (B + L1)), some (vi v2), some (.ref e), some (.ref t), some (vi 0), some (vi (c1 + (-1))), some (vi c2), some (vi (ds + (-1))), some (vi G), some (vi k1), some (vi k2)] [(.ref (p0 c1)), (vi ds), (.ref e)] Q
      have i245 : IsO gv (p0 c1) := (hrd gv fR _ (by omega) (by omega)).iso
      refine h_aast (y := yiJ35_mergeHi) dJ35_mergeHi_245 he (by assumption) ⟨by omega, by omega⟩ (by omega) (hp_put fun g2 g2H => ?_)
      have ho : g2.2.2 o = some (true, .inr (26, [(.ref e), (vi mg), (.ref t), (vi 0), (vi (tl : Int)), (vi ss), (.ref rb), (.ref rl)])) := (g2H.2.2.2 _ (by omega)).trans ho
      have htm : g2.2.2 t = some (true, oaE K tl (cpq f1 ft0 (B + L1) 0 L2)) := (g2H.2.2.2 _ (by omega)).trans htm
      have hps : g2.2.2 (p0 (B + L1 + c2)) = some (true, .inr (8, [(.ref ru), (vi cs), (vi ks)])) := (g2H.2.2.2 _ (by omega)).trans hps
      have fR : ∀ b, (b ≠ e ∧ b ≠ t ∧ b ≠ o) → g2.2.2 b = h.2.2 b := fun b hb => (g2H.2.2.2 b (by omega)).trans (fR b hb)
      have he : g2.2.2 e = some (true, oaE K cap (upq fv ds (some (p0 c1)))) := g2H.2.2.1
      have g21 := g2H.1
      have g22 := g2H.2.1
      have hMa := hMv.t2 ⟨by omega, by omega⟩ (r1' := v1 - 1) rfl (m := 1) ⟨by omega, by omega⟩ A1 (fun _ _ => rkc _ _ (B + L1 + c2) c1 (by omega) (by omega) (by have := e222.1; omega)) (MR.up2 (c := c1) (ds := ds) (by omega) (by omega))
      refine j_iinc (y := yiJ35_mergeHi) [some (.ref o), some (vi B), some (vi v1), some (vi (B + L1)), some (vi v2), some (.ref e), some (.ref t), some (vi 0), some (vi (c1 + (-1))), some (vi c2), some (vi (ds + (-1))), some (vi G), some (vi (k1 + 1)), some (vi k2)] dJ35_mergeHi_246 rfl (by decide) rfl rfl ?_
      refine j_iconst (y := yiJ35_mergeHi) dJ35_mergeHi_249 ?_
      refine j_istore (y := yiJ35_mergeHi) [some (.ref o), some (vi B), some (vi v1), some (vi (B + L1)), some (vi v2), some (.ref e), some (.ref t), some (vi 0), some (vi (c1 + (-1))), some (vi c2), some (vi (ds + (-1))), some (vi G), some (vi (k1 + 1)), some (vi 0)] dJ35_mergeHi_250 (by decide) rfl rfl ?_
      refine j_iinc (y := yiJ35_mergeHi) [some (.ref o), some (vi B), some (vi (v1 + (-1))), some (vi (B + L1)), some (vi v2), some (.ref e), some (.ref t), some (vi 0), some (vi (c1 + (-1))), some (vi c2), some (vi (ds + (-1))), some (vi G), some (vi (k1 + 1)), some (vi 0)] dJ35_mergeHi_252 rfl (by decide) rfl rfl ?_
      refine j_iload_n (y := yiJ35_mergeHi) dJ35_mergeHi_255 rfl ?_
      refine j_if_ne (y := yiJ35_mergeHi) 296 dJ35_mergeHi_256 (by decide) ⟨by omega, by omega⟩ (fun c256 => ?_) (fun c256 => ?_)
      · exact J296 _ _ _ _ _ _ _ _ _ ho he htm fR (by omega) (by omega) (by omega) (by first | exact hMa | exact hMb)
      · refine m_goto (y := yiJ35_mergeHi) 577 dJ35_mergeHi_259 (by decide) ?_
        refine mw_forget 12 ?_
        refine mw_forget 13 ?_
        exact J577 _ _ _ _ _ _ _ _ ho he htm fR (by omega) (by omega) (by omega) (by omega) (by first | exact hM7 | exact hM6 | exact hM5 | exact hM4a | exact hMa | exact hMb)
  exact fun v1 v2 c1 c2 ds k1 k2 G fv gv ho he htm fR hz hw2 hk hG1 hMv => L185 _ v1 v2 c1 c2 ds k1 k2 G fv gv rfl ho he htm fR hz hw2 hk hG1 hMv
theorem mh179 (K : KT) (d : Nat) (h : MH) (rk : Nat → Int) (o e t rb rl cap tl : Nat) (mg ss : Int) (a b B L1 L2 : Int) (f1 f0 ft0 : Int → Option Nat) (p0 : Int → Nat) (hd : 5 ≤ d) (hB : kV K 12 = vi 1) (ho : h.2.2 o = some (true, .inr (26, [.ref e, vi mg, .ref t, vi 0, vi (tl : Int), vi ss, .ref rb, .ref rl]))) (he : h.2.2 e = some (true, oaE K cap f1)) (htm : h.2.2 t = some (true, oaE K tl ft0)) (het : e ≠ t) (hA : ArS h rk e a b f1 f0 p0) (hb : (0 ≤ a ∧ a ≤ B ∧ B + L1 + L2 ≤ b) ∧ b ≤ (cap : Int) ∧ cap ≤ 60000) (hL : (0 < L1 ∧ 0 < L2) ∧ L2 ≤ (tl : Int) ∧ tl ≤ 60000) (hmg : 0 ≤ mg ∧ mg ≤ 1000000) (A1 : Asc rk p0 B (B + L1)) (A2 : Asc rk p0 (B + L1) (B + L1 + L2)) (hfi : rk (p0 (B + L1)) < rk (p0 B)) (hla : rk (p0 (B + L1 + L2 - 1)) < rk (p0 (B + L1 - 1))) (hI : Inj rk p0 a b) (Q : OT → MH → Prop) (J577 : (∀ (r1 r2 c1 c2 ds G : Int) (f : Int → Option Nat) (gj : MH), (gj.2.2 o = some (true, .inr (26, [(.ref e), (vi mg), (.ref t), (vi 0), (vi (tl : Int)), (vi ss), (.ref rb), (.ref rl)]))) → (gj.2.2 e = some (true, oaE K cap f)) → (gj.2.2 t = some (true, oaE K tl (cpq f1 ft0 (B + L1) 0 L2))) → (∀ b, (b ≠ e ∧ b ≠ t ∧ b ≠ o) → gj.2.2 b = h.2.2 b) → (h.1 = gj.1 ∧ h.2.1 = gj.2.1) → (c1 = B + r1 - 1 ∧ c2 = r2 - 1 ∧ ds = B + r1 + r2 - 1) → ((r2 = 1 ∨ r1 = 0) ∧ 1 ≤ r2 ∧ 0 ≤ r1 ∧ r1 ≤ L1 ∧ r2 ≤ L2) → (-300000 ≤ G ∧ G ≤ mg + 3 * (L1 + L2)) → (MR rk a b B L1 L2 r1 r2 f f0 p0 h) → MW K yiJ35_mergeHi d gj 577 [some (.ref o), some (vi B), some (vi r1), some (vi (B + L1)), some (vi r2), some (.ref e), some (.ref t), some (vi 0), some (vi c1), some (vi c2), some (vi ds), some (vi G), none, none] [] Q)) : (∀ (u1 u2 d1 d2 du G : Int) (fu : Int → Option Nat) (gu : MH), (gu.2.2 o = some (true, .inr (26, [(.ref e), (vi mg), (.ref t), (vi 0), (vi (tl : Int)), (vi ss), (.ref rb), (.ref rl)]))) → (gu.2.2 e = some (true, oaE K cap fu)) → (gu.2.2 t = some (true, oaE K tl (cpq f1 ft0 (B + L1) 0 L2))) → (∀ b, (b ≠ e ∧ b ≠ t ∧ b ≠ o) → gu.2.2 b = h.2.2 b) → (h.1 = gu.1 ∧ h.2.1 = gu.2.1) → ((d1 = B + u1 - 1 ∧ d2 = u2 - 1 ∧ du = B + u1 + u2 - 1) ∧ 1 ≤ u1 ∧ 2 ≤ u2 ∧ u1 ≤ L1 ∧ u2 ≤ L2) → (0 ≤ G ∧ G ≤ mg + 2 * (L1 + L2 - u1 - u2)) → (MR rk a b B L1 L2 u1 u2 fu f0 p0 h) → MW K yiJ35_mergeHi d gu 179 [some (.ref o), some (vi B), some (vi u1), some (vi (B + L1)), some (vi u2), some (.ref e), some (.ref t), some (vi 0), some (vi d1), some (vi d2), some (vi du), some (vi G), none, none] [] Q) := by
  have M306 := mh306 K d h rk o e t rb rl cap tl mg ss a b B L1 L2 f1 f0 ft0 p0 hd hB ho he htm het hA hb hL hmg A1 A2 hfi hla hI Q
  have M185 := mh185 K d h rk o e t rb rl cap tl mg ss a b B L1 L2 f1 f0 ft0 p0 hd hB ho he htm het hA hb hL hmg A1 A2 hfi hla hI Q
  have hoe : o ≠ e := ne_oa ho he
  have hot : o ≠ t := ne_oa ho htm
  have hin : ∀ i j, a ≤ i → i < b → a ≤ j → j < b → i ≠ j → rk (p0 i) ≠ rk (p0 j) := fun i j i1 i2 j1 j2 hne => by
    by_cases e9 : i < j
    · exact hI i j i1 e9 j2
    · exact fun e8 => hI j i j1 (by omega) i2 e8.symm
  have hpe : ∀ i, a ≤ i → i < b → p0 i ≠ e ∧ p0 i ≠ t ∧ p0 i ≠ o := fun i i1 i2 => by
    obtain ⟨r1, r2, r3, r4⟩ := (hA.1 i i1 i2).2.cell
    exact ⟨ne_oa r4 he, ne_oa r4 htm, ne_oo r4 ho (by decide)⟩
  have hup : ∀ g' : MH, (∀ q, q ≠ e ∧ q ≠ t ∧ q ≠ o → g'.2.2 q = h.2.2 q) → ∀ b w ci fs, ci ≠ 26 → h.2.2 b = some (w, .inr (ci, fs)) → g'.2.2 b = h.2.2 b := fun g' q b w ci fs h26 hb9 => q b ⟨ne_oa hb9 he, ne_oa hb9 htm, ne_oo hb9 ho h26⟩
  have hrd : ∀ g' : MH, (∀ q, q ≠ e ∧ q ≠ t ∧ q ≠ o → g'.2.2 q = h.2.2 q) → ∀ i, a ≤ i → i < b → RdS g' rk (p0 i) := fun g' q i i1 i2 => (hA.1 i i1 i2).2.up (hup g' q)
  have rkc : ∀ i j i' j' : Int, i = i' → j = j' → rk (p0 i') < rk (p0 j') → rk (p0 i) < rk (p0 j) := fun i j i' j' e1 e2 e3 => by rw [e1, e2]; exact e3
  have ht : ∀ i, 0 ≤ i → i < L2 → cpq f1 ft0 (B + L1) 0 L2 i = some (p0 (B + L1 + i)) := fun i i1 i2 => by { unfold cpq; rw [if_pos (by omega), Int.sub_zero]; exact (hA.1 (B + L1 + i) (by omega) (by omega)).1 }
  have hfi2 : ∀ r1 : Int, 0 < r1 → r1 ≤ L1 → rk (p0 (B + L1)) < rk (p0 (B + r1 - 1)) := fun r1 i1 i2 => by
    by_cases e : r1 = 1
    · rw [e, show B + 1 - 1 = B by omega]; exact hfi
    · have := A1 B (B + r1 - 1) (by omega) (by omega) (by omega); omega
  have L179 : ∀ (N : Nat) (u1 u2 d1 d2 du G : Int) (fu : Int → Option Nat) (gu : MH), (u1 + u2).toNat = N → (gu.2.2 o = some (true, .inr (26, [(.ref e), (vi mg), (.ref t), (vi 0), (vi (tl : Int)), (vi ss), (.ref rb), (.ref rl)]))) → (gu.2.2 e = some (true, oaE K cap fu)) → (gu.2.2 t = some (true, oaE K tl (cpq f1 ft0 (B + L1) 0 L2))) → (∀ b, (b ≠ e ∧ b ≠ t ∧ b ≠ o) → gu.2.2 b = h.2.2 b) → (h.1 = gu.1 ∧ h.2.1 = gu.2.1) → ((d1 = B + u1 - 1 ∧ d2 = u2 - 1 ∧ du = B + u1 + u2 - 1) ∧ 1 ≤ u1 ∧ 2 ≤ u2 ∧ u1 ≤ L1 ∧ u2 ≤ L2) → (0 ≤ G ∧ G ≤ mg + 2 * (L1 + L2 - u1 - u2)) → (MR rk a b B L1 L2 u1 u2 fu f0 p0 h) → MW K yiJ35_mergeHi d gu 179 [some (.ref o), some (vi B), some (vi u1), some (vi (B + L1)), some (vi u2), some (.ref e), some (.ref t), some (vi 0), some (vi d1), some (vi d2), some (vi du), some (vi G), none, none] [] Q := by
    intro N
    induction N using Nat.strongRecOn with
    | _ N ih179 =>
    intro u1 u2 d1 d2 du G fu gu hN179 ho he htm fR hz hw1 hG1 hMu
    refine mw_wf (fun hwf179 => ?_)
    have l_ho179 := hwf179 _ _ ho
    have l_he179 := hwf179 _ _ he
    have l_htm179 := hwf179 _ _ htm
    have J306 := M306 (u1 + u2) J577 (fun a1 a2 a3 a4 a5 a6 a7 a8 b1 b2 b3 b4 b5 b6 b7 b8 b9 => ih179 _ (by omega) a1 a2 a3 a4 a5 a6 a7 a8 rfl b1 b2 b3 b4 b5 b6 b7 b8)
    have J185 := M185 (u1 + u2) J577 J306
    refine j_iconst (y := yiJ35_mergeHi) dJ35_mergeHi_179 ?_
    refine j_istore (y := yiJ35_mergeHi) [some (.ref o), some (vi B), some (vi u1), some (vi (B + L1)), some (vi u2), some (.ref e), some (.ref t), some (vi 0), some (vi d1), some (vi d2), some (vi du), some (vi G), some (vi 0), none] dJ35_mergeHi_180 (by decide) rfl rfl ?_
    refine j_iconst (y := yiJ35_mergeHi) dJ35_mergeHi_182 ?_
    refine j_istore (y := yiJ35_mergeHi) [some (.ref o), some (vi B), some (vi u1), some (vi (B + L1)), some (vi u2), some (.ref e), some (.ref t), some (vi 0), some (vi d1), some (vi d2), some (vi du), some (vi G), some (vi 0), some (vi 0)] dJ35_mergeHi_183 (by decide) rfl rfl ?_
    exact J185 _ _ _ _ _ _ _ _ _ _ ho he htm fR (by omega) (by omega) (by omega) (by omega) hMu
  exact fun u1 u2 d1 d2 du G fu gu ho he htm fR hz hw1 hG1 hMu => L179 _ u1 u2 d1 d2 du G fu gu rfl ho he htm fR hz hw1 hG1 hMu
theorem c_J35_mergeHi (K : KT) (d : Nat) (h : MH) (rk : Nat → Int) (o e t rb rl cap tl : Nat) (mg ss : Int) (a b B L1 L2 : Int) (f1 f0 ft0 : Int → Option Nat) (p0 : Int → Nat) (hd : 5 ≤ d) (hB : kV K 12 = vi 1) (ho : h.2.2 o = some (true, .inr (26, [.ref e, vi mg, .ref t, vi 0, vi (tl : Int), vi ss, .ref rb, .ref rl]))) (he : h.2.2 e = some (true, oaE K cap f1)) (htm : h.2.2 t = some (true, oaE K tl ft0)) (het : e ≠ t) (hA : ArS h rk e a b f1 f0 p0) (hb : (0 ≤ a ∧ a ≤ B ∧ B + L1 + L2 ≤ b) ∧ b ≤ (cap : Int) ∧ cap ≤ 60000) (hL : (0 < L1 ∧ 0 < L2) ∧ L2 ≤ (tl : Int) ∧ tl ≤ 60000) (hmg : 0 ≤ mg ∧ mg ≤ 1000000) (A1 : Asc rk p0 B (B + L1)) (A2 : Asc rk p0 (B + L1) (B + L1 + L2)) (hfi : rk (p0 (B + L1)) < rk (p0 B)) (hla : rk (p0 (B + L1 + L2 - 1)) < rk (p0 (B + L1 - 1))) (hI : Inj rk p0 a b) : Mt K yiJ35_mergeHi d [.ref o, vi B, vi L1, vi (B + L1), vi L2] h (Rv fun h' => ∃ (mg' : Int) (f ft : Int → Option Nat) (p : Int → Nat), (h.1 = h'.1 ∧ h.2.1 = h'.2.1) ∧ (0 ≤ mg' ∧ mg' ≤ mg + 3 * (L1 + L2) + 5) ∧ h'.2.2 o = some (true, .inr (26, [.ref e, vi mg', .ref t, vi 0, vi (tl : Int), vi ss, .ref rb, .ref rl])) ∧ h'.2.2 e = some (true, oaE K cap f) ∧ h'.2.2 t = some (true, oaE K tl ft) ∧ ArS h' rk e a b f f0 p ∧ Asc rk p B (B + L1 + L2) ∧ Sms p0 p B (B + L1 + L2) ∧ ∀ q, q ≠ e ∧ q ≠ t ∧ q ≠ o → h'.2.2 q = h.2.2 q) := by
  have M577 := fun Q hQ => mh577 K d h rk o e t rb rl cap tl mg ss a b B L1 L2 f1 f0 ft0 p0 hd hB ho he htm het hA hb hL hmg A1 A2 hfi hla hI Q hQ
  have M179 := fun Q => mh179 K d h rk o e t rb rl cap tl mg ss a b B L1 L2 f1 f0 ft0 p0 hd hB ho he htm het hA hb hL hmg A1 A2 hfi hla hI Q
  have hoe : o ≠ e := ne_oa ho he
  have hot : o ≠ t := ne_oa ho htm
  have hin : ∀ i j, a ≤ i → i < b → a ≤ j → j < b → i ≠ j → rk (p0 i) ≠ rk (p0 j) := fun i j i1 i2 j1 j2 hne => by
    by_cases e9 : i < j
    · exact hI i j i1 e9 j2
    · exact fun e8 => hI j i j1 (by omega) i2 e8.symm
  have hpe : ∀ i, a ≤ i → i < b → p0 i ≠ e ∧ p0 i ≠ t ∧ p0 i ≠ o := fun i i1 i2 => by
    obtain ⟨r1, r2, r3, r4⟩ := (hA.1 i i1 i2).2.cell
    exact ⟨ne_oa r4 he, ne_oa r4 htm, ne_oo r4 ho (by decide)⟩
  have hup : ∀ g' : MH, (∀ q, q ≠ e ∧ q ≠ t ∧ q ≠ o → g'.2.2 q = h.2.2 q) → ∀ b w ci fs, ci ≠ 26 → h.2.2 b = some (w, .inr (ci, fs)) → g'.2.2 b = h.2.2 b := fun g' q b w ci fs h26 hb9 => q b ⟨ne_oa hb9 he, ne_oa hb9 htm, ne_oo hb9 ho h26⟩
  have hrd : ∀ g' : MH, (∀ q, q ≠ e ∧ q ≠ t ∧ q ≠ o → g'.2.2 q = h.2.2 q) → ∀ i, a ≤ i → i < b → RdS g' rk (p0 i) := fun g' q i i1 i2 => (hA.1 i i1 i2).2.up (hup g' q)
  have rkc : ∀ i j i' j' : Int, i = i' → j = j' → rk (p0 i') < rk (p0 j') → rk (p0 i) < rk (p0 j) := fun i j i' j' e1 e2 e3 => by rw [e1, e2]; exact e3
  have ht : ∀ i, 0 ≤ i → i < L2 → cpq f1 ft0 (B + L1) 0 L2 i = some (p0 (B + L1 + i)) := fun i i1 i2 => by { unfold cpq; rw [if_pos (by omega), Int.sub_zero]; exact (hA.1 (B + L1 + i) (by omega) (by omega)).1 }
  have hfi2 : ∀ r1 : Int, 0 < r1 → r1 ≤ L1 → rk (p0 (B + L1)) < rk (p0 (B + r1 - 1)) := fun r1 i1 i2 => by
    by_cases e : r1 = 1
    · rw [e, show B + 1 - 1 = B by omega]; exact hfi
    · have := A1 B (B + r1 - 1) (by omega) (by omega) (by omega); omega
  refine mt_ofQ (by decide) (Nat.le_of_ble_eq_true rfl) (fun Q hQ => ?_)
  show MW K yiJ35_mergeHi d h 0 [some (.ref o), some (vi B), some (vi L1), some (vi (B + L1)), some (vi L2), none, none, none, none, none, none, none, none, none] [] Q
  refine mw_wf (fun hwf => ?_)
  have l_ho := hwf _ _ ho
  have l_he := hwf _ _ he
  have l_htm := hwf _ _ htm
  have fR : ∀ b, (b ≠ e ∧ b ≠ t ∧ b ≠ o) → h.2.2 b = h.2.2 b := fun _ _ => rfl
  refine m_gets (y := yiJ35_mergeHi) (ref := "") 12 rfl dJ35_mergeHi_0 q1989 hB ?_
  refine j_if_ne (y := yiJ35_mergeHi) 30 dJ35_mergeHi_3 (by decide) ⟨by decide, by decide⟩ (fun _ => ?_) (fun c => absurd c (by decide))
  refine m_aload_n (y := yiJ35_mergeHi) dJ35_mergeHi_30 rfl ?_
  refine m_getfS (y := yiJ35_mergeHi) kc_26 0 (by decide) dJ35_mergeHi_31 q2012 ho rfl ?_
  refine m_astore (y := yiJ35_mergeHi) dJ35_mergeHi_34 (by decide) rfl ?_
  show MW K yiJ35_mergeHi d h 36 [some (.ref o), some (vi B), some (vi L1), some (vi (B + L1)), some (vi L2), some (.ref e), none, none, none, none, none, none, none, none] [] Q
  refine m_aload_n (y := yiJ35_mergeHi) dJ35_mergeHi_36 rfl ?_
  refine j_iload (y := yiJ35_mergeHi) dJ35_mergeHi_37 rfl ?_
  refine m_invV (y := yiJ35_mergeHi) (rB := (RJ35, TJ35, 8)) [(vi L2)] dJ35_mergeHi_39 ho rfl q2062 q2064 qs40 q171 q2065 rfl (c_J35_ensureCapacity K 4 h o e t rb rl mg 0 (tl : Int) ss L2 ho ⟨⟨by omega, by omega⟩, by omega⟩) pdJ35_ensureCapacity ⟨Nat.le_of_ble_eq_true rfl, by decide, by omega⟩ (kk_r fun r39 h39 q39 => ?_) kx_r
  obtain ⟨rfl, rfl⟩ := q39
  refine m_astore (y := yiJ35_mergeHi) dJ35_mergeHi_42 (by decide) rfl ?_
  show MW K yiJ35_mergeHi d h 44 [some (.ref o), some (vi B), some (vi L1), some (vi (B + L1)), some (vi L2), some (.ref e), some (.ref t), none, none, none, none, none, none, none] [] Q
  refine m_aload_n (y := yiJ35_mergeHi) dJ35_mergeHi_44 rfl ?_
  refine m_getfS (y := yiJ35_mergeHi) kc_26 3 (by decide) dJ35_mergeHi_45 q2015 ho rfl ?_
  refine j_istore (y := yiJ35_mergeHi) [some (.ref o), some (vi B), some (vi L1), some (vi (B + L1)), some (vi L2), some (.ref e), some (.ref t), some (vi 0), none, none, none, none, none, none] dJ35_mergeHi_48 (by decide) rfl rfl ?_
  refine m_aload (y := yiJ35_mergeHi) dJ35_mergeHi_50 rfl ?_
  refine j_iload_n (y := yiJ35_mergeHi) dJ35_mergeHi_52 rfl ?_
  refine m_aload (y := yiJ35_mergeHi) dJ35_mergeHi_53 rfl ?_
  refine j_iload (y := yiJ35_mergeHi) dJ35_mergeHi_55 rfl ?_
  refine j_iload (y := yiJ35_mergeHi) dJ35_mergeHi_57 rfl ?_
  refine h_copyq (y := yiJ35_mergeHi) dJ35_mergeHi_59 q2003 he htm ⟨by omega, by omega⟩ ⟨by omega, by omega, by omega⟩ (by omega) (by omega) (fun i a1 a2 x hx => by { have q := hA.1 i (by omega) (by omega); rw [q.1] at hx; cases hx; exact q.2.iso }) ⟨Nat.le_of_ble_eq_true rfl, by omega⟩ (hp_put fun g1 g1H => ?_)
  have ho : g1.2.2 o = some (true, .inr (26, [(.ref e), (vi mg), (.ref t), (vi 0), (vi (tl : Int)), (vi ss), (.ref rb), (.ref rl)])) := (g1H.2.2.2 _ (by omega)).trans ho
  have he : g1.2.2 e = some (true, oaE K cap f1) := (g1H.2.2.2 _ (by omega)).trans he
  have fR : ∀ b, (b ≠ e ∧ b ≠ t ∧ b ≠ o) → g1.2.2 b = h.2.2 b := fun b hb => (g1H.2.2.2 b (by omega)).trans (fR b hb)
  have htm : g1.2.2 t = some (true, oaE K tl (cpq f1 ft0 (B + L1) 0 L2)) := g1H.2.2.1
  have g11 := g1H.1
  have g12 := g1H.2.1
  refine j_iload_n (y := yiJ35_mergeHi) dJ35_mergeHi_62 rfl ?_
  refine j_iload_n (y := yiJ35_mergeHi) dJ35_mergeHi_63 rfl ?_
  refine j_iadd (y := yiJ35_mergeHi) dJ35_mergeHi_64 ?_
  refine j_iconst (y := yiJ35_mergeHi) dJ35_mergeHi_65 ?_
  refine j_isub (y := yiJ35_mergeHi) dJ35_mergeHi_66 ?_
  refine j_istore (y := yiJ35_mergeHi) [some (.ref o), some (vi B), some (vi L1), some (vi (B + L1)), some (vi L2), some (.ref e), some (.ref t), some (vi 0), some (vi ((B + L1) - 1)), none, none, none, none, none] dJ35_mergeHi_67 (by decide) rfl rfl ?_
  refine j_iload (y := yiJ35_mergeHi) dJ35_mergeHi_69 rfl ?_
  refine j_iload (y := yiJ35_mergeHi) dJ35_mergeHi_71 rfl ?_
  refine j_iadd (y := yiJ35_mergeHi) dJ35_mergeHi_73 ?_
  refine j_iconst (y := yiJ35_mergeHi) dJ35_mergeHi_74 ?_
  refine j_isub (y := yiJ35_mergeHi) dJ35_mergeHi_75 ?_
  refine j_istore (y := yiJ35_mergeHi) [some (.ref o), some (vi B), some (vi L1), some (vi (B + L1)), some (vi L2), some (.ref e), some (.ref t), some (vi 0), some (vi ((B + L1) - 1)), some (vi ((0 + L2) - 1)), none, none, none, none] dJ35_mergeHi_76 (by decide) rfl rfl ?_
  refine j_iload_n (y := yiJ35_mergeHi) dJ35_mergeHi_78 rfl ?_
  refine j_iload (y := yiJ35_mergeHi) dJ35_mergeHi_79 rfl ?_
  refine j_iadd (y := yiJ35_mergeHi) dJ35_mergeHi_81 ?_
  refine j_iconst (y := yiJ35_mergeHi) dJ35_mergeHi_82 ?_
  refine j_isub (y := yiJ35_mergeHi) dJ35_mergeHi_83 ?_
  refine j_istore (y := yiJ35_mergeHi) [some (.ref o), some (vi B), some (vi L1), some (vi (B + L1)), some (vi L2), some (.ref e), some (.ref t), some (vi 0), some (vi ((B + L1) - 1)), some (vi ((0 + L2) - 1)), some (vi (((B + L1) + L2) - 1)), none, none, none] dJ35_mergeHi_84 (by decide) rfl rfl ?_
  refine m_aload (y := yiJ35_mergeHi) dJ35_mergeHi_86 rfl ?_
  refine j_iload (y := yiJ35_mergeHi) dJ35_mergeHi_88 rfl ?_
  refine j_iinc (y := yiJ35_mergeHi) [some (.ref o), some (vi B), some (vi L1), some (vi (B + L1)), some (vi L2), some (.ref e), some (.ref t), some (vi 0), some (vi ((B + L1) - 1)), some (vi ((0 + L2) - 1)), some (vi ((((B + L1) + L2) - 1) + (-1))), none, none, none] dJ35_mergeHi_90 rfl (by decide) rfl rfl ?_
  refine m_aload (y := yiJ35_mergeHi) dJ35_mergeHi_93 rfl ?_
  refine j_iload (y := yiJ35_mergeHi) dJ35_mergeHi_95 rfl ?_
  refine j_iinc (y := yiJ35_mergeHi) [some (.ref o), some (vi B), some (vi L1), some (vi (B + L1)), some (vi L2), some (.ref e), some (.ref t), some (vi 0), some (vi (((B + L1) - 1) + (-1))), some (vi ((0 + L2) - 1)), some (vi ((((B + L1) + L2) - 1) + (-1))), none, none, none] dJ35_mergeHi_97 rfl (by decide) rfl rfl ?_
  refine h_aald5 (y := yiJ35_mergeHi) dJ35_mergeHi_100 he ⟨by omega, by omega⟩ (by omega) ?_
  rw [(hA.1 (B + L1 - 1) (by omega) (by omega)).1]
  show MW K yiJ35_mergeHi d g1 101 [some (.ref o), some (vi B), some (vi L1), some (vi (B + L1)), some (vi L2), some (.ref e), some (.ref t), some (vi 0), some (vi (((B + L1) - 1) + (-1))), some (vi ((0 + L2) - 1)), some (vi ((((B + L1) + L2) - 1) + (-1))), none, none, none] [(.ref (p0 (B + L1 - 1))), (vi (((B + L1) + L2) - 1)), (.ref e)] Q
  have i101 : IsO g1 (p0 (B + L1 - 1)) := (hrd g1 fR _ (by omega) (by omega)).iso
  refine h_aast (y := yiJ35_mergeHi) dJ35_mergeHi_101 he (by assumption) ⟨by omega, by omega⟩ (by omega) (hp_put fun g2 g2H => ?_)
  have ho : g2.2.2 o = some (true, .inr (26, [(.ref e), (vi mg), (.ref t), (vi 0), (vi (tl : Int)), (vi ss), (.ref rb), (.ref rl)])) := (g2H.2.2.2 _ (by omega)).trans ho
  have htm : g2.2.2 t = some (true, oaE K tl (cpq f1 ft0 (B + L1) 0 L2)) := (g2H.2.2.2 _ (by omega)).trans htm
  have fR : ∀ b, (b ≠ e ∧ b ≠ t ∧ b ≠ o) → g2.2.2 b = h.2.2 b := fun b hb => (g2H.2.2.2 b (by omega)).trans (fR b hb)
  have he : g2.2.2 e = some (true, oaE K cap (upq f1 (((B + L1) + L2) - 1) (some (p0 (B + L1 - 1))))) := g2H.2.2.1
  have g21 := g2H.1
  have g22 := g2H.2.1
  have hM1 : MR rk a b B L1 L2 (L1 - 1) L2 (upq f1 (B + L1 + L2 - 1) (some (p0 (B + L1 - 1)))) f0 p0 h := (MR.start hA ⟨by omega, by omega⟩).t2 ⟨by omega, by omega⟩ rfl (m := 1) ⟨by omega, by omega⟩ A1 (fun _ _ => hla) (MR.up2 (by omega) (by omega))
  refine j_iinc (y := yiJ35_mergeHi) [some (.ref o), some (vi B), some (vi (L1 + (-1))), some (vi (B + L1)), some (vi L2), some (.ref e), some (.ref t), some (vi 0), some (vi (((B + L1) - 1) + (-1))), some (vi ((0 + L2) - 1)), some (vi ((((B + L1) + L2) - 1) + (-1))), none, none, none] dJ35_mergeHi_102 rfl (by decide) rfl rfl ?_
  refine j_iload_n (y := yiJ35_mergeHi) dJ35_mergeHi_105 rfl ?_
  refine j_if_ne (y := yiJ35_mergeHi) 128 dJ35_mergeHi_106 (by decide) ⟨by omega, by omega⟩ (fun c106 => ?_) (fun c106 => ?_)
  · refine j_iload (y := yiJ35_mergeHi) dJ35_mergeHi_128 rfl ?_
    refine j_iconst (y := yiJ35_mergeHi) dJ35_mergeHi_130 ?_
    refine j_icmp_ne (y := yiJ35_mergeHi) 173 dJ35_mergeHi_131 (by decide) ⟨⟨by omega, by omega⟩, ⟨by omega, by omega⟩⟩ (fun c131 => ?_) (fun c131 => ?_)
    · have J179 := M179 Q (M577 Q hQ)
      refine m_aload_n (y := yiJ35_mergeHi) dJ35_mergeHi_173 rfl ?_
      refine m_getfS (y := yiJ35_mergeHi) kc_26 1 (by decide) dJ35_mergeHi_174 q2013 ho rfl ?_
      refine j_istore (y := yiJ35_mergeHi) [some (.ref o), some (vi B), some (vi (L1 + (-1))), some (vi (B + L1)), some (vi L2), some (.ref e), some (.ref t), some (vi 0), some (vi (((B + L1) - 1) + (-1))), some (vi ((0 + L2) - 1)), some (vi ((((B + L1) + L2) - 1) + (-1))), some (vi mg), none, none] dJ35_mergeHi_177 (by decide) rfl rfl ?_
      exact J179 _ _ _ _ _ _ _ _ ho he htm fR (by omega) (by omega) (by omega) hM1
    · refine j_iload (y := yiJ35_mergeHi) dJ35_mergeHi_134 rfl ?_
      refine j_iload_n (y := yiJ35_mergeHi) dJ35_mergeHi_136 rfl ?_
      refine j_isub (y := yiJ35_mergeHi) dJ35_mergeHi_137 ?_
      refine j_istore (y := yiJ35_mergeHi) [some (.ref o), some (vi B), some (vi (L1 + (-1))), some (vi (B + L1)), some (vi L2), some (.ref e), some (.ref t), some (vi 0), some (vi (((B + L1) - 1) + (-1))), some (vi ((0 + L2) - 1)), some (vi (((((B + L1) + L2) - 1) + (-1)) - (L1 + (-1)))), none, none, none] dJ35_mergeHi_138 (by decide) rfl rfl ?_
      refine j_iload (y := yiJ35_mergeHi) dJ35_mergeHi_140 rfl ?_
      refine j_iload_n (y := yiJ35_mergeHi) dJ35_mergeHi_142 rfl ?_
      refine j_isub (y := yiJ35_mergeHi) dJ35_mergeHi_143 ?_
      refine j_istore (y := yiJ35_mergeHi) [some (.ref o), some (vi B), some (vi (L1 + (-1))), some (vi (B + L1)), some (vi L2), some (.ref e), some (.ref t), some (vi 0), some (vi ((((B + L1) - 1) + (-1)) - (L1 + (-1)))), some (vi ((0 + L2) - 1)), some (vi (((((B + L1) + L2) - 1) + (-1)) - (L1 + (-1)))), none, none, none] dJ35_mergeHi_144 (by decide) rfl rfl ?_
      refine m_aload (y := yiJ35_mergeHi) dJ35_mergeHi_146 rfl ?_
      refine j_iload (y := yiJ35_mergeHi) dJ35_mergeHi_148 rfl ?_
      refine j_iconst (y := yiJ35_mergeHi) dJ35_mergeHi_150 ?_
      refine j_iadd (y := yiJ35_mergeHi) dJ35_mergeHi_151 ?_
      refine m_aload (y := yiJ35_mergeHi) dJ35_mergeHi_152 rfl ?_
      refine j_iload (y := yiJ35_mergeHi) dJ35_mergeHi_154 rfl ?_
      refine j_iconst (y := yiJ35_mergeHi) dJ35_mergeHi_156 ?_
      refine j_iadd (y := yiJ35_mergeHi) dJ35_mergeHi_157 ?_
      refine j_iload_n (y := yiJ35_mergeHi) dJ35_mergeHi_158 rfl ?_
      refine h_copyq (y := yiJ35_mergeHi) dJ35_mergeHi_159 q2003 he he ⟨by omega, by omega⟩ ⟨by omega, by omega, by omega⟩ (by omega) (by omega) (fun i a1 a2 x9 hx => by { rw [hM1.e1 ⟨by omega, by omega⟩ (i := i) ⟨by omega, by omega⟩] at hx; cases hx; exact (hrd _ fR i (by omega) (by omega)).iso }) ⟨Nat.le_of_ble_eq_true rfl, by omega⟩ (hp_put fun g3 g3H => ?_)
      have ho : g3.2.2 o = some (true, .inr (26, [(.ref e), (vi mg), (.ref t), (vi 0), (vi (tl : Int)), (vi ss), (.ref rb), (.ref rl)])) := (g3H.2.2.2 _ (by omega)).trans ho
      have htm : g3.2.2 t = some (true, oaE K tl (cpq f1 ft0 (B + L1) 0 L2)) := (g3H.2.2.2 _ (by omega)).trans htm
      have fR : ∀ b, (b ≠ e ∧ b ≠ t ∧ b ≠ o) → g3.2.2 b = h.2.2 b := fun b hb => (g3H.2.2.2 b (by omega)).trans (fR b hb)
      have he : g3.2.2 e = some (true, oaE K cap (cpq (upq f1 (((B + L1) + L2) - 1) (some (p0 (B + L1 - 1)))) (upq f1 (((B + L1) + L2) - 1) (some (p0 (B + L1 - 1)))) (((((B + L1) - 1) + (-1)) - (L1 + (-1))) + 1) ((((((B + L1) + L2) - 1) + (-1)) - (L1 + (-1))) + 1) (L1 + (-1)))) := g3H.2.2.1
      have g31 := g3H.1
      have g32 := g3H.2.1
      refine m_aload (y := yiJ35_mergeHi) dJ35_mergeHi_162 rfl ?_
      refine j_iload (y := yiJ35_mergeHi) dJ35_mergeHi_164 rfl ?_
      refine m_aload (y := yiJ35_mergeHi) dJ35_mergeHi_166 rfl ?_
      refine j_iload (y := yiJ35_mergeHi) dJ35_mergeHi_168 rfl ?_
      refine h_aald5 (y := yiJ35_mergeHi) dJ35_mergeHi_170 htm ⟨by omega, by omega⟩ (by omega) ?_
      rw [(ht (0 + L2 - 1) (by omega) (by omega))]
      show MW K yiJ35_mergeHi d g3 171 [some (.ref o), some (vi B), some (vi (L1 + (-1))), some (vi (B + L1)), some (vi L2), some (.ref e), some (.ref t), some (vi 0), some (vi ((((B + L1) - 1) + (-1)) - (L1 + (-1)))), some (vi ((0 + L2) - 1)), some (vi (((((B + L1) + L2) - 1) + (-1)) - (L1 + (-1)))), none, none, none] [(.ref (p0 (B + L1 + (0 + L2 - 1)))), (vi (((((B + L1) + L2) - 1) + (-1)) - (L1 + (-1)))), (.ref e)] Q
      have i171 : IsO g3 (p0 (B + L1 + (0 + L2 - 1))) := (hrd g3 fR _ (by omega) (by omega)).iso
      refine h_aast (y := yiJ35_mergeHi) dJ35_mergeHi_171 he (by assumption) ⟨by omega, by omega⟩ (by omega) (hp_put fun g4 g4H => ?_)
      have ho : g4.2.2 o = some (true, .inr (26, [(.ref e), (vi mg), (.ref t), (vi 0), (vi (tl : Int)), (vi ss), (.ref rb), (.ref rl)])) := (g4H.2.2.2 _ (by omega)).trans ho
      have htm : g4.2.2 t = some (true, oaE K tl (cpq f1 ft0 (B + L1) 0 L2)) := (g4H.2.2.2 _ (by omega)).trans htm
      have fR : ∀ b, (b ≠ e ∧ b ≠ t ∧ b ≠ o) → g4.2.2 b = h.2.2 b := fun b hb => (g4H.2.2.2 b (by omega)).trans (fR b hb)
      have he : g4.2.2 e = some (true, oaE K cap (upq (cpq (upq f1 (((B + L1) + L2) - 1) (some (p0 (B + L1 - 1)))) (upq f1 (((B + L1) + L2) - 1) (some (p0 (B + L1 - 1)))) (((((B + L1) - 1) + (-1)) - (L1 + (-1))) + 1) ((((((B + L1) + L2) - 1) + (-1)) - (L1 + (-1))) + 1) (L1 + (-1))) (((((B + L1) + L2) - 1) + (-1)) - (L1 + (-1))) (some (p0 (B + L1 + (0 + L2 - 1)))))) := g4H.2.2.1
      have g41 := g4H.1
      have g42 := g4H.2.1
      subst hQ; exact j_vret (y := yiJ35_mergeHi) dJ35_mergeHi_172 rfl (by { have hM2 := (hM1.t2 ⟨by omega, by omega⟩ (r1' := 0) (m := L1 + -1) (by omega) ⟨by omega, by omega⟩ A1 (fun _ _ => by { rw [show B + L1 + L2 - 1 = B + L1 by omega, show B + (L1 - 1) - (L1 + -1) = B by omega]; exact hfi }) (hM1.cp2 (c := B + L1 - 1 + -1 - (L1 + -1) + 1) (ds := B + L1 + L2 - 1 + -1 - (L1 + -1) + 1) ⟨by omega, by omega⟩ (by omega) (by omega) ⟨by omega, by omega⟩)); have hM3 := hM2.t1 ⟨by omega, by omega⟩ (r2' := 0) (m := 1) (by omega) ⟨by omega, by omega⟩ A2 (fun _ _ => by omega) (MR.up1 (c := 0 + L2 - 1) (ds := B + L1 + L2 - 1 + -1 - (L1 + -1)) (by omega) (by omega)); obtain ⟨pz, q1, q2, q3⟩ := (hM3.up (hup _ fR)).done rfl rfl e; exact ⟨mg, _, _, pz, ⟨by omega, by omega⟩, ⟨by omega, by omega⟩, ho, he, htm, q1, q2, q3, fR⟩ })
  · refine m_aload (y := yiJ35_mergeHi) dJ35_mergeHi_109 rfl ?_
    refine j_iload (y := yiJ35_mergeHi) dJ35_mergeHi_111 rfl ?_
    refine m_aload (y := yiJ35_mergeHi) dJ35_mergeHi_113 rfl ?_
    refine j_iload (y := yiJ35_mergeHi) dJ35_mergeHi_115 rfl ?_
    refine j_iload (y := yiJ35_mergeHi) dJ35_mergeHi_117 rfl ?_
    refine j_iconst (y := yiJ35_mergeHi) dJ35_mergeHi_119 ?_
    refine j_isub (y := yiJ35_mergeHi) dJ35_mergeHi_120 ?_
    refine j_isub (y := yiJ35_mergeHi) dJ35_mergeHi_121 ?_
    refine j_iload (y := yiJ35_mergeHi) dJ35_mergeHi_122 rfl ?_
    refine h_copyq (y := yiJ35_mergeHi) dJ35_mergeHi_124 q2003 htm he ⟨by omega, by omega⟩ ⟨by omega, by omega, by omega⟩ (by omega) (by omega) (fun i a1 a2 x9 hx => by { rw [ht i (by omega) (by omega)] at hx; cases hx; exact (hrd _ fR (B + L1 + i) (by omega) (by omega)).iso }) ⟨Nat.le_of_ble_eq_true rfl, by omega⟩ (hp_put fun g5 g5H => ?_)
    have ho : g5.2.2 o = some (true, .inr (26, [(.ref e), (vi mg), (.ref t), (vi 0), (vi (tl : Int)), (vi ss), (.ref rb), (.ref rl)])) := (g5H.2.2.2 _ (by omega)).trans ho
    have htm : g5.2.2 t = some (true, oaE K tl (cpq f1 ft0 (B + L1) 0 L2)) := (g5H.2.2.2 _ (by omega)).trans htm
    have fR : ∀ b, (b ≠ e ∧ b ≠ t ∧ b ≠ o) → g5.2.2 b = h.2.2 b := fun b hb => (g5H.2.2.2 b (by omega)).trans (fR b hb)
    have he : g5.2.2 e = some (true, oaE K cap (cpq (cpq f1 ft0 (B + L1) 0 L2) (upq f1 (((B + L1) + L2) - 1) (some (p0 (B + L1 - 1)))) 0 (((((B + L1) + L2) - 1) + (-1)) - (L2 - 1)) L2)) := g5H.2.2.1
    have g51 := g5H.1
    have g52 := g5H.2.1
    subst hQ; exact j_vret (y := yiJ35_mergeHi) dJ35_mergeHi_127 rfl (by { have hM2 := hM1.t1 ⟨by omega, by omega⟩ (r2' := 0) (m := L2) (by omega) ⟨by omega, by omega⟩ A2 (fun _ _ => by omega) (MR.cp1 (s := 0) (ds := B + L1 + L2 - 1 + -1 - (L2 - 1)) ht (by omega) (by omega) ⟨by omega, by omega, by omega⟩); obtain ⟨pz, q1, q2, q3⟩ := (hM2.up (hup _ fR)).done (by omega) rfl e; exact ⟨mg, _, _, pz, ⟨by omega, by omega⟩, ⟨by omega, by omega⟩, ho, he, htm, q1, q2, q3, fR⟩ })
