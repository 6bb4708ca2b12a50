/-! the sort: merging from the left -/
theorem j_iorx {K : KT} {y : YT} {d : Nat} {h : MH} {pc : Nat} {ls : List (Option Value)} {st : List Value} {Q : OT → MH → Prop} {x z : Int} (hdg : decode y.2.1 pc = .ok (.ior, 1)) (hx : x = 0 ∨ z = 0) (k : MW K y d h (pc + 1) ls (vi (x + z) :: st) Q) : MW K y d h pc ls (vi z :: vi x :: st) Q := m_ior hdg (by
  rcases hx with rfl | rfl
  · have e : Int32.ofInt 0 ||| Int32.ofInt z = Int32.ofInt z := Int32.zero_or
    rw [e]; rw [Int.zero_add] at k; exact k
  · have e : Int32.ofInt x ||| Int32.ofInt 0 = Int32.ofInt x := Int32.or_zero
    rw [e]; rw [Int.add_zero] at k; exact k)
/-- the sort's own object -/
theorem c_J35_ensureCapacity (K : KT) (d : Nat) (h : MH) (o e t rb rl : Nat) (mg tb tl ss m : Int) (ho : h.2.2 o = some (true, .inr (26, [.ref e, vi mg, .ref t, vi tb, vi tl, vi ss, .ref rb, .ref rl]))) (hm : (0 ≤ m ∧ m ≤ tl) ∧ tl ≤ 60000) : Mt K yiJ35_ensureCapacity d [.ref o, vi m] h (Rr fun r h' => h = h' ∧ t = r) := by
  refine mt_ofQ (by decide) (Nat.le_of_ble_eq_true rfl) (fun Q hQ => ?_)
  show MW K yiJ35_ensureCapacity d h 0 [some (.ref o), some (vi m), none, none] [] Q
  refine mw_wf (fun hwf => ?_)
  have l_ho := hwf _ _ ho
  refine m_aload_n (y := yiJ35_ensureCapacity) dJ35_ensureCapacity_0 rfl ?_
  refine m_getfS (y := yiJ35_ensureCapacity) kc_26 4 (by decide) dJ35_ensureCapacity_1 q2016 ho rfl ?_
  refine j_iload_n (y := yiJ35_ensureCapacity) dJ35_ensureCapacity_4 rfl ?_
  refine j_icmp_ge (y := yiJ35_ensureCapacity) 59 dJ35_ensureCapacity_5 (by decide) ⟨⟨by omega, by omega⟩, ⟨by omega, by omega⟩⟩ (fun c5 => ?_) (fun c5 => False.elim (by omega))
  refine m_aload_n (y := yiJ35_ensureCapacity) dJ35_ensureCapacity_59 rfl ?_
  refine m_getfS (y := yiJ35_ensureCapacity) kc_26 2 (by decide) dJ35_ensureCapacity_60 q2014 ho rfl ?_
  subst hQ; exact m_aret (y := yiJ35_ensureCapacity) (x := (some t)) dJ35_ensureCapacity_63 rfl (Or.inr ⟨_, rfl⟩) ⟨t, rfl, ⟨rfl, rfl⟩⟩
def MS (rk : Nat → Int) (a b B L1 L2 x y : Int) (f f0 : Int → Option Nat) (p0 p : Int → Nat) (h : MH) : Prop := Mg rk p0 p B L1 L2 x y ∧ ArM h rk a b B L1 x y f f0 p0 p
theorem MS.up {rk : Nat → Int} {a b B L1 L2 x y : Int} {f f0 : Int → Option Nat} {p0 p : Int → Nat} {h h' : MH} (M : MS rk a b B L1 L2 x y f f0 p0 p h) (e1 : ∀ b w ci fs, ci ≠ 26 → h.2.2 b = some (w, .inr (ci, fs)) → h'.2.2 b = h.2.2 b) : MS rk a b B L1 L2 x y f f0 p0 p h' := ⟨M.1, M.2.up e1⟩
/-- what is left of run 2 -/
theorem MS.e2 {rk : Nat → Int} {a b B L1 L2 x y : Int} {f f0 : Int → Option Nat} {p0 p : Int → Nat} {h : MH} (M : MS rk a b B L1 L2 x y f f0 p0 p h) (hb : a ≤ B ∧ B + L1 + L2 ≤ b) {i : Int} (hi : B + L1 + y ≤ i ∧ i < B + L1 + L2) : f i = some (p0 i) := by
  obtain ⟨⟨h0, -, -, -, -, h5⟩, h6⟩ := M
  rw [h6.2.1 i (by omega) (by omega) (by omega), h5 i (by omega)]
theorem MS.rd {rk : Nat → Int} {a b B L1 L2 x y : Int} {f f0 : Int → Option Nat} {p0 p : Int → Nat} {h : MH} (M : MS rk a b B L1 L2 x y f f0 p0 p h) {i : Int} (hi : a ≤ i ∧ i < b) : RdS h rk (p0 i) := (M.2.1 i hi.1 hi.2).1
theorem MS.t1 {rk : Nat → Int} {a b B L1 L2 x y x' m : Int} {f f' f0 : Int → Option Nat} {p0 p : Int → Nat} {h : MH} (M : MS rk a b B L1 L2 x y f f0 p0 p h) (hb : a ≤ B ∧ B + L1 + L2 ≤ b) (hx : x' = x + m) (hm : 0 ≤ m ∧ x + m ≤ L1) (A1 : Asc rk p0 B (B + L1)) (hc : 0 < m → y < L2 → rk (p0 (B + x + m - 1)) < rk (p0 (B + L1 + y))) (hf : ∀ k, f' k = if B + x + y ≤ k ∧ k < B + x + y + m then some (p0 (k - y)) else f k) : MS rk a b B L1 L2 x' y f' f0 p0 (tk1 p0 p B x y m) h := by
  subst hx
  have h0 := M.1.1
  exact ⟨M.1.one hm A1 hc (fun k => rfl), M.2.one hb ⟨⟨h0.1.1, hm.1, hm.2⟩, h0.2⟩ (fun k => rfl) hf⟩
theorem MS.t2 {rk : Nat → Int} {a b B L1 L2 x y y' m : Int} {f f' f0 : Int → Option Nat} {p0 p : Int → Nat} {h : MH} (M : MS rk a b B L1 L2 x y f f0 p0 p h) (hb : a ≤ B ∧ B + L1 + L2 ≤ b) (hy : y' = y + m) (hm : 0 ≤ m ∧ y + m ≤ L2) (A2 : Asc rk p0 (B + L1) (B + L1 + L2)) (hc : 0 < m → x < L1 → rk (p0 (B + L1 + y + m - 1)) < rk (p0 (B + x))) (hf : ∀ k, f' k = if B + x + y ≤ k ∧ k < B + x + y + m then some (p0 (k + L1 - x)) else f k) : MS rk a b B L1 L2 x y' f' f0 p0 (tk2 p0 p B L1 x y m) h := by
  subst hy
  have h0 := M.1.1
  exact ⟨M.1.two hm A2 hc (fun k => rfl), M.2.two hb ⟨h0.1, h0.2.1, hm.1, hm.2⟩ (fun k => rfl) hf⟩
theorem MS.cp2 {rk : Nat → Int} {a b B L1 L2 x y c ds m : Int} {f f0 : Int → Option Nat} {p0 p : Int → Nat} {h : MH} (M : MS rk a b B L1 L2 x y f f0 p0 p h) (hb : a ≤ B ∧ B + L1 + L2 ≤ b) (hc : c = B + L1 + y) (hd : ds = B + x + y) (hm : 0 ≤ m ∧ y + m ≤ L2) : ∀ k, cpq f f c ds m k = if B + x + y ≤ k ∧ k < B + x + y + m then some (p0 (k + L1 - x)) else f k := by
  intro k
  subst hc; subst hd
  unfold cpq
  by_cases e : B + x + y ≤ k ∧ k < B + x + y + m
  · rw [if_pos e, if_pos e, M.e2 hb (by omega)]; congr 2; omega
  · rw [if_neg e, if_neg e]
theorem MS.up2 {B L1 x y c ds : Int} {f : Int → Option Nat} {p0 : Int → Nat} (hc : c = B + L1 + y) (hd : ds = B + x + y) : ∀ k, upq f ds (some (p0 c)) k = if B + x + y ≤ k ∧ k < B + x + y + 1 then some (p0 (k + L1 - x)) else f k := by
  intro k
  subst hc; subst hd
  unfold upq
  by_cases e : k = B + x + y
  · rw [if_pos e, if_pos (by omega)]; congr 2; omega
  · rw [if_neg e, if_neg (by omega)]
theorem MS.cp1 {B L1 x y ds m : Int} {f ft : Int → Option Nat} {p0 : Int → Nat} (ht : ∀ i, 0 ≤ i → i < L1 → ft i = some (p0 (B + i))) (hd : ds = B + x + y) (hm : 0 ≤ x ∧ 0 ≤ m ∧ x + m ≤ L1) : ∀ k, cpq ft f x ds m k = if B + x + y ≤ k ∧ k < B + x + y + m then some (p0 (k - y)) else f k := by
  intro k
  subst hd
  unfold cpq
  by_cases e : B + x + y ≤ k ∧ k < B + x + y + m
  · rw [if_pos e, if_pos e, ht _ (by omega) (by omega)]; congr 2; omega
  · rw [if_neg e, if_neg e]
theorem MS.up1 {B x y ds : Int} {f : Int → Option Nat} {p0 : Int → Nat} (hd : ds = B + x + y) : ∀ k, upq f ds (some (p0 (B + x))) k = if B + x + y ≤ k ∧ k < B + x + y + 1 then some (p0 (k - y)) else f k := by
  intro k
  subst hd
  unfold upq
  by_cases e : k = B + x + y
  · rw [if_pos e, if_pos (by omega)]; congr 2; omega
  · rw [if_neg e, if_neg (by omega)]
theorem MS.start {rk : Nat → Int} {a b B L1 L2 : Int} {f f0 : Int → Option Nat} {p0 : Int → Nat} {h : MH} {e : Nat} (A : ArS h rk e a b f f0 p0) (h0 : 0 ≤ L1 ∧ 0 ≤ L2) : MS rk a b B L1 L2 0 0 f f0 p0 p0 h :=
  ⟨Mg.start h0, fun i a1 a2 => ⟨(A.1 i a1 a2).2, (A.1 i a1 a2).2⟩, fun i a1 a2 _ => (A.1 i a1 a2).1, A.2⟩
/-- the merge's end -/
theorem MS.done {rk : Nat → Int} {a b B L1 L2 : Int} {f f0 : Int → Option Nat} {p0 p : Int → Nat} {h : MH} {x y : Int} (M : MS rk a b B L1 L2 x y f f0 p0 p h) (hx : x = L1) (hy : y = L2) (e : Nat) : ArS h rk e a b f f0 p ∧ Asc rk p B (B + L1 + L2) ∧ Sms p0 p B (B + L1 + L2) := by
  subst hx; subst hy
  exact ⟨⟨fun i a1 a2 => ⟨M.2.2.1 i a1 a2 (by omega), (M.2.1 i a1 a2).2⟩, M.2.2.2⟩, M.1.done.1, M.1.done.2⟩
