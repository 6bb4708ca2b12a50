/-! where one can be: events (a stop, a minute) of getting off, labels that tell them -/
abbrev EV : Type := Int → Int → Prop
/-- one can get on at stop s at minute t, out of the first labels f0, r0 and events E -/
def RdE (sg : TS) (f0 r0 : Int → Int) (E : EV) (s t : Int) : Prop := f0 s ≤ t ∨ r0 s + sg.2 2 s ≤ t ∨ (∃ t', E s t' ∧ t' + sg.2 2 s ≤ t) ∨ ∃ s' t', (0 ≤ s' ∧ s' < sg.1 1) ∧ E s' t' ∧ s' ≠ s ∧ t' + sg.2 4 (12 * s' + s) ≤ t
def okR (sg : TS) (r : Int) : Prop := 0 ≤ r ∧ r < 72 ∧ isRunP sg r
/-- getting off behind one ride more -/
def AltE (sg : TS) (f0 r0 : Int → Int) (E : EV) : EV := fun s t => ∃ r c c', okR sg r ∧ 0 ≤ c' ∧ c' < c ∧ c < sg.2 10 (r % 24) ∧ stI sg r c = s ∧ cmI sg r c = t ∧ s ≠ sg.1 5 ∧ stI sg r c' ≠ sg.1 5 ∧ 0 ≤ lvI sg r c' ∧ RdE sg f0 r0 E (stI sg r c') (lvI sg r c')
def EvN (sg : TS) (f0 r0 : Int → Int) : Nat → EV
  | 0 => fun _ _ => False
  | n + 1 => AltE sg f0 r0 (EvN sg f0 r0 n)
def EvI (sg : TS) (f0 r0 : Int → Int) : EV := fun s t => ∃ n, EvN sg f0 r0 n s t
/-- labels f (free), r (ridden) tell just the first labels and the events E -/
def Lab (sg : TS) (f0 r0 : Int → Int) (E : EV) (f r : Int → Int) : Prop :=
  (∀ s t, 0 ≤ s → s < sg.1 1 → t < 900000 → (r s ≤ t ↔ r0 s ≤ t ∨ ∃ t', E s t' ∧ t' ≤ t)) ∧
  ∀ v t, 0 ≤ v → v < sg.1 1 → t < 900000 → (f v ≤ t ↔ f0 v ≤ t ∨ ∃ s t', (0 ≤ s ∧ s < sg.1 1) ∧ E s t' ∧ s ≠ v ∧ t' + sg.2 4 (12 * s + v) ≤ t)
/-- what is ridden is walked on -/
def WC (sg : TS) (f r : Int → Int) : Prop := ∀ s v, 0 ≤ s → s < sg.1 1 → 0 ≤ v → v < sg.1 1 → s ≠ v → r s < 900000 → f v ≤ r s + sg.2 4 (12 * s + v)
def EvLe (E E' : EV) : Prop := ∀ s t, E s t → E' s t
theorem RdE.mono {sg : TS} {f0 r0 : Int → Int} {E E' : EV} (h : EvLe E E') {s t : Int} (hr : RdE sg f0 r0 E s t) : RdE sg f0 r0 E' s t := by
  rcases hr with h1 | h1 | ⟨t', h1, h2⟩ | ⟨s', t', h0, h1, h2, h3⟩
  · exact Or.inl h1
  · exact Or.inr (Or.inl h1)
  · exact Or.inr (Or.inr (Or.inl ⟨t', h _ _ h1, h2⟩))
  · exact Or.inr (Or.inr (Or.inr ⟨s', t', h0, h _ _ h1, h2, h3⟩))
theorem AltE.mono {sg : TS} {f0 r0 : Int → Int} {E E' : EV} (h : EvLe E E') : EvLe (AltE sg f0 r0 E) (AltE sg f0 r0 E') := by
  rintro s t ⟨r, c, c', h1, h2, h3, h4, h5, h6, h7, h8, h9, h10⟩
  exact ⟨r, c, c', h1, h2, h3, h4, h5, h6, h7, h8, h9, h10.mono h⟩
theorem EvN.mono {sg : TS} {f0 r0 : Int → Int} (n : Nat) : EvLe (EvN sg f0 r0 n) (EvN sg f0 r0 (n + 1)) := by
  induction n with
  | zero => intro s t h; exact h.elim
  | succ n ih => exact AltE.mono ih
theorem EvN.le {sg : TS} {f0 r0 : Int → Int} {n k : Nat} (h : n ≤ k) : EvLe (EvN sg f0 r0 n) (EvN sg f0 r0 k) := by
  induction k with
  | zero => have : n = 0 := by omega
            subst this; intro s t h; exact h
  | succ k ih =>
    by_cases h1 : n = k + 1
    · subst h1; intro s t h; exact h
    · intro s t h2; exact EvN.mono k s t (ih (by omega) s t h2)
theorem RdE.toN {sg : TS} {f0 r0 : Int → Int} {s t : Int} (h : RdE sg f0 r0 (EvI sg f0 r0) s t) : ∃ n, RdE sg f0 r0 (EvN sg f0 r0 n) s t := by
  rcases h with h1 | h1 | ⟨t', ⟨n, h1⟩, h2⟩ | ⟨s', t', h0, ⟨n, h1⟩, h2, h3⟩
  · exact ⟨0, Or.inl h1⟩
  · exact ⟨0, Or.inr (Or.inl h1)⟩
  · exact ⟨n, Or.inr (Or.inr (Or.inl ⟨t', h1, h2⟩))⟩
  · exact ⟨n, Or.inr (Or.inr (Or.inr ⟨s', t', h0, h1, h2, h3⟩))⟩
/-- events out of events of the limit are in the limit -/
theorem EvI.alt {sg : TS} {f0 r0 : Int → Int} : EvLe (AltE sg f0 r0 (EvI sg f0 r0)) (EvI sg f0 r0) := by
  rintro s t ⟨r, c, c', h1, h2, h3, h4, h5, h6, h7, h8, h9, h10⟩
  obtain ⟨n, h11⟩ := h10.toN
  exact ⟨n + 1, r, c, c', h1, h2, h3, h4, h5, h6, h7, h8, h9, h11⟩
/-- getting on by labels -/
def Gon (sg : TS) (f r : Int → Int) (s t : Int) : Prop := f s ≤ t ∨ r s + sg.2 2 s ≤ t
theorem Lab.gon {sg : TS} {f0 r0 f r : Int → Int} {E : EV} (h : Lab sg f0 r0 E f r) {s t : Int} (hs : 0 ≤ s ∧ s < sg.1 1) (ht : t < 890000) (hc : 0 ≤ sg.2 2 s ∧ sg.2 2 s ≤ 30) : Gon sg f r s t ↔ RdE sg f0 r0 E s t := by
  have h1 := h.1 s (t - sg.2 2 s) hs.1 hs.2 (by omega)
  have h2 := h.2 s t hs.1 hs.2 (by omega)
  constructor
  · rintro (h3 | h3)
    · rcases h2.mp h3 with h4 | ⟨s', t', h5, h6, h7, h8⟩
      · exact Or.inl h4
      · exact Or.inr (Or.inr (Or.inr ⟨s', t', h5, h6, h7, h8⟩))
    · rcases h1.mp (by omega) with h4 | ⟨t', h5, h6⟩
      · exact Or.inr (Or.inl (by omega))
      · exact Or.inr (Or.inr (Or.inl ⟨t', h5, by omega⟩))
  · rintro (h3 | h3 | ⟨t', h3, h4⟩ | ⟨s', t', h5, h6, h7, h8⟩)
    · exact Or.inl (h2.mpr (Or.inl h3))
    · exact Or.inr (by have := h1.mpr (Or.inl (by omega)); omega)
    · exact Or.inr (by have := h1.mpr (Or.inr ⟨t', h3, by omega⟩); omega)
    · exact Or.inl (h2.mpr (Or.inr ⟨s', t', h5, h6, h7, h8⟩))
/-- labels changed by getting off -/
def gofF (sg : TS) (f : Int → Int) (s t : Int) : Int → Int := fun v => if 0 ≤ v ∧ v < sg.1 1 ∧ v ≠ s ∧ t + sg.2 4 (12 * s + v) < f v then t + sg.2 4 (12 * s + v) else f v
def evAdd (E : EV) (s t : Int) : EV := fun s' t' => E s' t' ∨ (s' = s ∧ t' = t)
theorem Lab.add {sg : TS} {f0 r0 f r : Int → Int} {E : EV} (h : Lab sg f0 r0 E f r) {s t : Int} (hs : 0 ≤ s ∧ s < sg.1 1) (ht : t < r s) : Lab sg f0 r0 (evAdd E s t) (gofF sg f s t) (upz r s t) := by
  constructor
  · intro s2 t2 a1 a2 a3
    have h1 := h.1 s2 t2 a1 a2 a3
    unfold upz
    by_cases e : s2 = s
    · subst e
      rw [if_pos rfl]
      constructor
      · intro h2; exact Or.inr ⟨t, Or.inr ⟨rfl, rfl⟩, h2⟩
      · rintro (h2 | ⟨t', h2 | ⟨_, h2⟩, h3⟩)
        · have := h1.mpr (Or.inl h2); omega
        · have := h1.mpr (Or.inr ⟨t', h2, h3⟩); omega
        · omega
    · rw [if_neg e, h1]
      constructor
      · rintro (h2 | ⟨t', h2, h3⟩)
        · exact Or.inl h2
        · exact Or.inr ⟨t', Or.inl h2, h3⟩
      · rintro (h2 | ⟨t', h2 | ⟨h4, _⟩, h3⟩)
        · exact Or.inl h2
        · exact Or.inr ⟨t', h2, h3⟩
        · exact absurd h4 e
  · intro v t2 a1 a2 a3
    have h1 := h.2 v t2 a1 a2 a3
    have h5 : gofF sg f s t v ≤ t2 ↔ f v ≤ t2 ∨ (s ≠ v ∧ t + sg.2 4 (12 * s + v) ≤ t2) := by
      unfold gofF
      split
      · next hc => constructor
                   · intro h6; exact Or.inr ⟨fun e => hc.2.2.1 e.symm, h6⟩
                   · rintro (h6 | h6)
                     · omega
                     · exact h6.2
      · next hc => constructor
                   · intro h6; exact Or.inl h6
                   · rintro (h6 | ⟨h6, h7⟩)
                     · exact h6
                     · have : ¬ (t + sg.2 4 (12 * s + v) < f v) := fun h8 => hc ⟨a1, a2, fun e => h6 e.symm, h8⟩
                       omega
    rw [h5, h1]
    constructor
    · rintro ((h2 | ⟨s', t', b1, b2, b3, b4⟩) | ⟨h2, h3⟩)
      · exact Or.inl h2
      · exact Or.inr ⟨s', t', b1, Or.inl b2, b3, b4⟩
      · exact Or.inr ⟨s, t, hs, Or.inr ⟨rfl, rfl⟩, h2, h3⟩
    · rintro (h2 | ⟨s', t', b1, b2 | ⟨b2, b5⟩, b3, b4⟩)
      · exact Or.inl (Or.inl h2)
      · exact Or.inl (Or.inr ⟨s', t', b1, b2, b3, b4⟩)
      · subst b2 b5; exact Or.inr ⟨b3, b4⟩
/-- a run's closure under labels -/
def clR (sg : TS) (f r : Int → Int) (k : Int) : Prop := ∀ c' c, 0 ≤ c' → c' < c → c < sg.2 10 (k % 24) → stI sg k c' ≠ sg.1 5 → 0 ≤ lvI sg k c' → Gon sg f r (stI sg k c') (lvI sg k c') → stI sg k c ≠ sg.1 5 → r (stI sg k c) ≤ cmI sg k c
/-- stops of the table are stops -/
def stOk (sg : TS) : Prop := ∀ t c, 0 ≤ t → t < sg.1 8 → 0 ≤ c → c < sg.2 10 t → 0 ≤ sg.2 11 (8 * t + c) ∧ sg.2 11 (8 * t + c) < sg.1 1
theorem stOk.run {sg : TS} (h : stOk sg) {r c : Int} (hr : okR sg r) (hc : 0 ≤ c ∧ c < sg.2 10 (r % 24)) : 0 ≤ stI sg r c ∧ stI sg r c < sg.1 1 := h (r % 24) c (by have := hr.1; omega) hr.2.2.1 hc.1 hc.2
/-- times of a trip rise -/
def tmOk (sg : TS) : Prop := (∀ t c, 0 ≤ t → t < sg.1 8 → 0 ≤ c → c + 1 < sg.2 10 t → sg.2 13 (8 * t + c) < sg.2 12 (8 * t + c + 1)) ∧ ∀ t c, 0 ≤ t → t < sg.1 8 → 0 ≤ c → c < sg.2 10 t → sg.2 12 (8 * t + c) ≤ sg.2 13 (8 * t + c)
theorem latOf_mono {sg : TS} (hT : TB sg) (day trip : Int) {a b : Int} (h : a ≤ b) : latOf sg day trip a ≤ latOf sg day trip b := by
  have hb := latOf_b hT day trip b
  by_cases h1 : latAt (sg.2 15) (sg.2 16) day trip (sg.1 14).toNat = -1 ∨ a < sg.2 17 (latAt (sg.2 15) (sg.2 16) day trip (sg.1 14).toNat)
  · have : latOf sg day trip a = 0 := if_pos h1
    omega
  · have h2 : ¬ (latAt (sg.2 15) (sg.2 16) day trip (sg.1 14).toNat = -1 ∨ b < sg.2 17 (latAt (sg.2 15) (sg.2 16) day trip (sg.1 14).toNat)) := by omega
    have e1 : latOf sg day trip a = _ := if_neg h1
    have e2 : latOf sg day trip b = _ := if_neg h2
    omega
theorem tmOk.rise {sg : TS} (h : tmOk sg) {t : Int} (ht : 0 ≤ t ∧ t < sg.1 8) (c : Nat) : ∀ a : Int, 0 ≤ a → a + 1 + c < sg.2 10 t → sg.2 13 (8 * t + a) < sg.2 12 (8 * t + (a + 1 + c)) := by
  induction c with
  | zero => intro a h0 h1; have := h.1 t a ht.1 ht.2 h0 (by omega); have e : 8 * t + (a + 1 + ((0 : Nat) : Int)) = 8 * t + a + 1 := by omega
            rw [e]; exact this
  | succ c ih =>
    intro a h0 h1
    have h2 := ih a h0 (by omega)
    have h3 := h.2 t (a + 1 + c) ht.1 ht.2 (by omega) (by omega)
    have h4 := h.1 t (a + 1 + c) ht.1 ht.2 (by omega) (by omega)
    have e : 8 * t + (a + 1 + ((c + 1 : Nat) : Int)) = 8 * t + (a + 1 + c) + 1 := by omega
    rw [e]; omega
theorem tmOk.lc {sg : TS} (h : tmOk sg) (hT : TB sg) {r a c : Int} (hr : okR sg r) (ha : 0 ≤ a) (hc : a < c) (hn : c < sg.2 10 (r % 24)) : lvI sg r a < cmI sg r c := by
  have h1 := h.rise (t := r % 24) ⟨by have := hr.1; omega, hr.2.2.1⟩ (c - a - 1).toNat a ha (by omega)
  have e : a + 1 + ((c - a - 1).toNat : Int) = c := by omega
  rw [e] at h1
  have h2 := latOf_mono hT (sg.1 22 + (r / 24 - 1)) (r % 24) (a := a) (b := c - 1) (by omega)
  unfold lvI cmI
  rw [if_neg (by omega)]
  omega
/-- walks: a number of minutes or none; none to oneself -/
def wyD (sg : TS) : Prop := (∀ q, 0 ≤ q → q < 144 → sg.2 4 q = 1000000 ∨ sg.2 4 q ≤ 250000) ∧ ∀ a, 0 ≤ a → a < sg.1 1 → sg.2 4 (12 * a + a) = 0
def Dich (f : Int → Int) : Prop := ∀ v, 0 ≤ v → v < 12 → f v = 1000000 ∨ f v ≤ 300000
/-- what the table must be -/
def WF (sg : TS) : Prop := TB sg ∧ stOk sg ∧ tmOk sg ∧ wyD sg
/-- closed sound labels tell the limit -/
theorem Lab.lim {sg : TS} {f0 r0 f r : Int → Int} {E : EV} (hT : TB sg) (hS : stOk sg) (h : Lab sg f0 r0 E f r) (hE : EvLe E (EvI sg f0 r0)) (hw : WC sg f0 r0) (hcl : ∀ k, okR sg k → clR sg f r k) : Lab sg f0 r0 (EvI sg f0 r0) f r := by
  have key : ∀ n s t, EvN sg f0 r0 n s t → r s ≤ t ∧ 0 ≤ s ∧ s < sg.1 1 ∧ t < 890000 := by
    intro n
    induction n with
    | zero => intro s t h1; exact h1.elim
    | succ n ih =>
      rintro s t ⟨k, c, c', h1, h2, h3, h4, h5, h6, h7, h8, h9, h10⟩
      have hn := oa10 (hT.2 10) (k % 24) (by have := h1.1; omega) (by have := h1.2.1; omega)
      have s1 := hS.run h1 (c := c) ⟨by omega, h4⟩
      have s2 := hS.run h1 (c := c') ⟨h2, by omega⟩
      have b1 := cmI_b hT (r := k) (c := c) ⟨h1.1, h1.2.1⟩ ⟨by omega, by omega⟩
      have b2 := lvI_b hT (r := k) (c := c') ⟨h1.1, h1.2.1⟩ ⟨by omega, by omega⟩
      have hch := oa2 (hT.2 2) (stI sg k c') (by omega) (by have := of1 (hT.1 1); omega)
      have hg : Gon sg f r (stI sg k c') (lvI sg k c') := by
        refine (h.gon s2 (by omega) hch).mpr ?_
        rcases h10 with g1 | g1 | ⟨t', g1, g2⟩ | ⟨s', t', g0, g1, g2, g3⟩
        · exact Or.inl g1
        · exact Or.inr (Or.inl g1)
        · have g4 := ih _ _ g1
          rcases (h.1 _ t' g4.2.1 g4.2.2.1 (by omega)).mp g4.1 with g5 | ⟨t2, g5, g6⟩
          · exact Or.inr (Or.inl (by omega))
          · exact Or.inr (Or.inr (Or.inl ⟨t2, g5, by omega⟩))
        · have g4 := ih _ _ g1
          rcases (h.1 _ t' g4.2.1 g4.2.2.1 (by omega)).mp g4.1 with g5 | ⟨t2, g5, g6⟩
          · exact Or.inl (by have := hw s' _ g0.1 g0.2 s2.1 s2.2 g2 (by omega); omega)
          · exact Or.inr (Or.inr (Or.inr ⟨s', t2, g0, g5, g2, by omega⟩))
      have h11 := hcl k h1 c' c h2 h3 h4 h8 h9 hg (by rw [h5]; exact h7)
      rw [h5, h6] at h11
      rw [h5] at s1
      rw [h6] at b1
      exact ⟨h11, s1.1, s1.2, by omega⟩
  constructor
  · intro s t a1 a2 a3
    constructor
    · intro h1
      rcases (h.1 s t a1 a2 a3).mp h1 with h2 | ⟨t', h2, h3⟩
      · exact Or.inl h2
      · exact Or.inr ⟨t', hE _ _ h2, h3⟩
    · rintro (h2 | ⟨t', ⟨n, h2⟩, h3⟩)
      · exact (h.1 s t a1 a2 a3).mpr (Or.inl h2)
      · have := (key n s t' h2).1; omega
  · intro v t a1 a2 a3
    constructor
    · intro h1
      rcases (h.2 v t a1 a2 a3).mp h1 with h2 | ⟨s, t', h4, h2, h3⟩
      · exact Or.inl h2
      · exact Or.inr ⟨s, t', h4, hE _ _ h2, h3⟩
    · rintro (h2 | ⟨s, t', h4, ⟨n, h2⟩, h3, h5⟩)
      · exact (h.2 v t a1 a2 a3).mpr (Or.inl h2)
      · have g4 := key n s t' h2
        rcases (h.1 _ t' g4.2.1 g4.2.2.1 (by omega)).mp g4.1 with g5 | ⟨t2, g5, g6⟩
        · exact (h.2 v t a1 a2 a3).mpr (Or.inl (by have := hw s v g4.2.1 g4.2.2.1 a1 a2 h3 (by omega); omega))
        · exact (h.2 v t a1 a2 a3).mpr (Or.inr ⟨s, t2, h4, g5, h3, by omega⟩)
/-- a sum that falls -/
def msum (r : Int → Int) : Nat → Nat
  | 0 => 0
  | k + 1 => msum r k + (r (k : Int) + 2000).toNat
theorem msum_up {r : Int → Int} {s t : Int} (k : Nat) (hs : 0 ≤ s) (ht : t < r s) (h2 : -2000 ≤ t) : msum (upz r s t) k ≤ msum r k ∧ (s < k → msum (upz r s t) k < msum r k) := by
  induction k with
  | zero => exact ⟨Nat.le_refl _, fun h => by omega⟩
  | succ k ih =>
    unfold msum
    have e : upz r s t (k : Int) = if (k : Int) = s then t else r (k : Int) := rfl
    by_cases h : (k : Int) = s
    · rw [e, if_pos h, h]
      exact ⟨by omega, fun _ => by omega⟩
    · rw [e, if_neg h]
      exact ⟨by omega, fun h9 => by have := ih.2 (by omega); omega⟩
