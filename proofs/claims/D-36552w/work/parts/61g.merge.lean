/-! the sort: a merge under way. Runs are [B, B + L1) and [B + L1, B + L1 + L2) of p0; x and y elements of them are merged, in p from B on -/
def MgIn (p0 p : Int → Nat) (B L1 x y : Int) : Prop := (∀ k, B ≤ k → k < B + x + y → (∃ i, B ≤ i ∧ i < B + x ∧ p k = p0 i) ∨ ∃ i, B + L1 ≤ i ∧ i < B + L1 + y ∧ p k = p0 i) ∧ (∀ i, B ≤ i → i < B + x → ∃ k, B ≤ k ∧ k < B + x + y ∧ p0 i = p k) ∧ ∀ i, B + L1 ≤ i → i < B + L1 + y → ∃ k, B ≤ k ∧ k < B + x + y ∧ p0 i = p k
def Mg (rk : Nat → Int) (p0 p : Int → Nat) (B L1 L2 x y : Int) : Prop := ((0 ≤ x ∧ x ≤ L1) ∧ 0 ≤ y ∧ y ≤ L2) ∧ MgIn p0 p B L1 x y ∧ Asc rk p B (B + x + y) ∧ (∀ k, B ≤ k → k < B + x + y → x < L1 → rk (p k) < rk (p0 (B + x))) ∧ (∀ k, B ≤ k → k < B + x + y → y < L2 → rk (p k) < rk (p0 (B + L1 + y))) ∧ ∀ k, k < B ∨ B + x + y ≤ k → p k = p0 k
theorem Mg.start {rk : Nat → Int} {p0 : Int → Nat} {B L1 L2 : Int} (h : 0 ≤ L1 ∧ 0 ≤ L2) : Mg rk p0 p0 B L1 L2 0 0 :=
  ⟨⟨⟨by omega, h.1⟩, by omega, h.2⟩, ⟨fun k a b => by omega, fun k a b => by omega, fun k a b => by omega⟩, fun i j a b c => by omega, fun k a b => by omega, fun k a b => by omega, fun _ _ => rfl⟩
theorem Mg.one {rk : Nat → Int} {p0 p p' : Int → Nat} {B L1 L2 x y m : Int} (H : Mg rk p0 p B L1 L2 x y) (hm : 0 ≤ m ∧ x + m ≤ L1) (A1 : Asc rk p0 B (B + L1)) (hc : 0 < m → y < L2 → rk (p0 (B + x + m - 1)) < rk (p0 (B + L1 + y))) (hp : ∀ k, p' k = if B + x + y ≤ k ∧ k < B + x + y + m then p0 (k - y) else p k) : Mg rk p0 p' B L1 L2 (x + m) y := by
  obtain ⟨h0, ⟨i1, i2, i3⟩, h2, h3, h4, h5⟩ := H
  have old : ∀ k, k < B + x + y → p' k = p k := fun k hk => by rw [hp k, if_neg (by omega)]
  have new : ∀ k, B + x + y ≤ k → k < B + x + y + m → p' k = p0 (k - y) := fun k hk h9 => by rw [hp k, if_pos ⟨hk, h9⟩]
  refine ⟨⟨⟨by omega, by omega⟩, h0.2⟩, ⟨fun k a b => ?_, fun i a b => ?_, fun i a b => ?_⟩, fun i j a b c => ?_, fun k a b c => ?_, fun k a b c => ?_, fun k a => ?_⟩
  · by_cases e : k < B + x + y
    · rw [old k e]
      rcases i1 k a e with ⟨i, u1, u2, u3⟩ | ⟨i, u1, u2, u3⟩
      · exact Or.inl ⟨i, u1, by omega, u3⟩
      · exact Or.inr ⟨i, u1, u2, u3⟩
    · rw [new k (by omega) (by omega)]
      exact Or.inl ⟨k - y, by omega, by omega, rfl⟩
  · by_cases e : i < B + x
    · obtain ⟨k, u1, u2, u3⟩ := i2 i a e
      exact ⟨k, u1, by omega, by rw [old k u2]; exact u3⟩
    · refine ⟨i + y, by omega, by omega, ?_⟩
      rw [new _ (by omega) (by omega)]
      congr 1; omega
  · obtain ⟨k, u1, u2, u3⟩ := i3 i a b
    exact ⟨k, u1, by omega, by rw [old k u2]; exact u3⟩
  · by_cases e : j < B + x + y
    · rw [old j e, old i (by omega)]; exact h2 i j a b e
    · rw [new j (by omega) (by omega)]
      by_cases e2 : i < B + x + y
      · rw [old i e2]
        have u := h3 i a e2 (by omega)
        by_cases e3 : j - y = B + x
        · rw [e3]; exact u
        · have := A1 (B + x) (j - y) (by omega) (by omega) (by omega); omega
      · rw [new i (by omega) (by omega)]; exact A1 _ _ (by omega) (by omega) (by omega)
  · by_cases e : k < B + x + y
    · rw [old k e]
      have u := h3 k a e (by omega)
      by_cases e3 : m = 0
      · rw [e3, Int.add_zero]; exact u
      · have := A1 (B + x) (B + (x + m)) (by omega) (by omega) (by omega); omega
    · rw [new k (by omega) (by omega)]; exact A1 _ _ (by omega) (by omega) (by omega)
  · by_cases e : k < B + x + y
    · rw [old k e]; exact h4 k a e c
    · rw [new k (by omega) (by omega)]
      have u := hc (by omega) c
      by_cases e3 : k - y = B + x + m - 1
      · rw [e3]; exact u
      · have := A1 (k - y) (B + x + m - 1) (by omega) (by omega) (by omega); omega
  · rw [hp k, if_neg (by omega)]; exact h5 k (by omega)
theorem Mg.two {rk : Nat → Int} {p0 p p' : Int → Nat} {B L1 L2 x y m : Int} (H : Mg rk p0 p B L1 L2 x y) (hm : 0 ≤ m ∧ y + m ≤ L2) (A2 : Asc rk p0 (B + L1) (B + L1 + L2)) (hc : 0 < m → x < L1 → rk (p0 (B + L1 + y + m - 1)) < rk (p0 (B + x))) (hp : ∀ k, p' k = if B + x + y ≤ k ∧ k < B + x + y + m then p0 (k + L1 - x) else p k) : Mg rk p0 p' B L1 L2 x (y + m) := by
  obtain ⟨h0, ⟨i1, i2, i3⟩, h2, h3, h4, h5⟩ := H
  have old : ∀ k, k < B + x + y → p' k = p k := fun k hk => by rw [hp k, if_neg (by omega)]
  have new : ∀ k, B + x + y ≤ k → k < B + x + y + m → p' k = p0 (k + L1 - x) := fun k hk h9 => by rw [hp k, if_pos ⟨hk, h9⟩]
  refine ⟨⟨h0.1, ⟨by omega, by omega⟩⟩, ⟨fun k a b => ?_, fun i a b => ?_, fun i a b => ?_⟩, fun i j a b c => ?_, fun k a b c => ?_, fun k a b c => ?_, fun k a => ?_⟩
  · by_cases e : k < B + x + y
    · rw [old k e]
      rcases i1 k a e with ⟨i, u1, u2, u3⟩ | ⟨i, u1, u2, u3⟩
      · exact Or.inl ⟨i, u1, u2, u3⟩
      · exact Or.inr ⟨i, u1, by omega, u3⟩
    · rw [new k (by omega) (by omega)]
      exact Or.inr ⟨k + L1 - x, by omega, by omega, rfl⟩
  · obtain ⟨k, u1, u2, u3⟩ := i2 i a b
    exact ⟨k, u1, by omega, by rw [old k u2]; exact u3⟩
  · by_cases e : i < B + L1 + y
    · obtain ⟨k, u1, u2, u3⟩ := i3 i a e
      exact ⟨k, u1, by omega, by rw [old k u2]; exact u3⟩
    · refine ⟨i - L1 + x, by omega, by omega, ?_⟩
      rw [new _ (by omega) (by omega)]
      congr 1; omega
  · by_cases e : j < B + x + y
    · rw [old j e, old i (by omega)]; exact h2 i j a b e
    · rw [new j (by omega) (by omega)]
      by_cases e2 : i < B + x + y
      · rw [old i e2]
        have u := h4 i a e2 (by omega)
        by_cases e3 : j + L1 - x = B + L1 + y
        · rw [e3]; exact u
        · have := A2 (B + L1 + y) (j + L1 - x) (by omega) (by omega) (by omega); omega
      · rw [new i (by omega) (by omega)]; exact A2 _ _ (by omega) (by omega) (by omega)
  · by_cases e : k < B + x + y
    · rw [old k e]; exact h3 k a e c
    · rw [new k (by omega) (by omega)]
      have u := hc (by omega) c
      by_cases e3 : k + L1 - x = B + L1 + y + m - 1
      · rw [e3]; exact u
      · have := A2 (k + L1 - x) (B + L1 + y + m - 1) (by omega) (by omega) (by omega); omega
  · by_cases e : k < B + x + y
    · rw [old k e]
      have u := h4 k a e (by omega)
      by_cases e3 : m = 0
      · rw [e3, Int.add_zero]; exact u
      · have := A2 (B + L1 + y) (B + L1 + (y + m)) (by omega) (by omega) (by omega); omega
    · rw [new k (by omega) (by omega)]; exact A2 _ _ (by omega) (by omega) (by omega)
  · rw [hp k, if_neg (by omega)]; exact h5 k (by omega)
theorem Mg.done {rk : Nat → Int} {p0 p : Int → Nat} {B L1 L2 : Int} (H : Mg rk p0 p B L1 L2 L1 L2) : Asc rk p B (B + L1 + L2) ∧ Sms p0 p B (B + L1 + L2) := by
  obtain ⟨h0, ⟨i1, i2, i3⟩, h2, h3, h4, h5⟩ := H
  refine ⟨h2, fun k a b => ?_, fun i a b => ?_, h5⟩
  · rcases i1 k a b with ⟨i, u1, u2, u3⟩ | ⟨i, u1, u2, u3⟩
    · exact ⟨i, u1, by omega, u3⟩
    · exact ⟨i, by omega, u2, u3⟩
  · by_cases e : i < B + L1
    · exact i2 i a e
    · exact i3 i (by omega) b
/-- the array under a merge from the left: the gap between what is merged and what is left of run 2 counts for nothing -/
def ArM (h : MH) (rk : Nat → Int) (a b B L1 x y : Int) (f f0 : Int → Option Nat) (p0 p : Int → Nat) : Prop := (∀ i, a ≤ i → i < b → RdS h rk (p0 i) ∧ RdS h rk (p i)) ∧ (∀ i, a ≤ i → i < b → (i < B + x + y ∨ B + L1 + y ≤ i) → f i = some (p i)) ∧ ∀ i, i < a ∨ b ≤ i → f i = f0 i
theorem ArM.up {h h' : MH} {rk : Nat → Int} {a b B L1 x y : Int} {f f0 : Int → Option Nat} {p0 p : Int → Nat} (L : ArM h rk a b B L1 x y f f0 p0 p) (e1 : ∀ b w ci fs, ci ≠ 26 → h.2.2 b = some (w, .inr (ci, fs)) → h'.2.2 b = h.2.2 b) : ArM h' rk a b B L1 x y f f0 p0 p := ⟨fun i a1 a2 => ⟨(L.1 i a1 a2).1.up e1, (L.1 i a1 a2).2.up e1⟩, L.2⟩
/-- m elements of run 1 (out of the other array) put behind what is merged -/
theorem ArM.one {h : MH} {rk : Nat → Int} {a b B L1 L2 x y m : Int} {f f' f0 : Int → Option Nat} {p0 p p' : Int → Nat} (L : ArM h rk a b B L1 x y f f0 p0 p) (hb : a ≤ B ∧ B + L1 + L2 ≤ b) (h0 : (0 ≤ x ∧ 0 ≤ m ∧ x + m ≤ L1) ∧ 0 ≤ y ∧ y ≤ L2) (hp : ∀ k, p' k = if B + x + y ≤ k ∧ k < B + x + y + m then p0 (k - y) else p k) (hf : ∀ k, f' k = if B + x + y ≤ k ∧ k < B + x + y + m then some (p0 (k - y)) else f k) : ArM h rk a b B L1 (x + m) y f' f0 p0 p' := by
  refine ⟨fun i a1 a2 => ⟨(L.1 i a1 a2).1, ?_⟩, fun i a1 a2 a3 => ?_, fun i a1 => ?_⟩
  · rw [hp i]
    by_cases e : B + x + y ≤ i ∧ i < B + x + y + m
    · rw [if_pos e]; exact (L.1 (i - y) (by omega) (by omega)).1
    · rw [if_neg e]; exact (L.1 i a1 a2).2
  · rw [hp i, hf i]
    by_cases e : B + x + y ≤ i ∧ i < B + x + y + m
    · rw [if_pos e, if_pos e]
    · rw [if_neg e, if_neg e]; exact L.2.1 i a1 a2 (by omega)
  · rw [hf i, if_neg (by omega)]; exact L.2.2 i a1
theorem ArM.two {h : MH} {rk : Nat → Int} {a b B L1 L2 x y m : Int} {f f' f0 : Int → Option Nat} {p0 p p' : Int → Nat} (L : ArM h rk a b B L1 x y f f0 p0 p) (hb : a ≤ B ∧ B + L1 + L2 ≤ b) (h0 : (0 ≤ x ∧ x ≤ L1) ∧ 0 ≤ y ∧ 0 ≤ m ∧ y + m ≤ L2) (hp : ∀ k, p' k = if B + x + y ≤ k ∧ k < B + x + y + m then p0 (k + L1 - x) else p k) (hf : ∀ k, f' k = if B + x + y ≤ k ∧ k < B + x + y + m then some (p0 (k + L1 - x)) else f k) : ArM h rk a b B L1 x (y + m) f' f0 p0 p' := by
  refine ⟨fun i a1 a2 => ⟨(L.1 i a1 a2).1, ?_⟩, fun i a1 a2 a3 => ?_, fun i a1 => ?_⟩
  · rw [hp i]
    by_cases e : B + x + y ≤ i ∧ i < B + x + y + m
    · rw [if_pos e]; exact (L.1 (i + L1 - x) (by omega) (by omega)).1
    · rw [if_neg e]; exact (L.1 i a1 a2).2
  · rw [hp i, hf i]
    by_cases e : B + x + y ≤ i ∧ i < B + x + y + m
    · rw [if_pos e, if_pos e]
    · rw [if_neg e, if_neg e]; exact L.2.1 i a1 a2 (by omega)
  · rw [hf i, if_neg (by omega)]; exact L.2.2 i a1
/-- what p becomes -/
def tk1 (p0 p : Int → Nat) (B x y m : Int) : Int → Nat := fun k => if B + x + y ≤ k ∧ k < B + x + y + m then p0 (k - y) else p k
def tk2 (p0 p : Int → Nat) (B L1 x y m : Int) : Int → Nat := fun k => if B + x + y ≤ k ∧ k < B + x + y + m then p0 (k + L1 - x) else p k
