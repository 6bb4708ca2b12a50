/-! the walks: what they are made of, how great they are -/
/-- a place of the square of the first n stops -/
def insQ (n q : Int) : Prop := 0 ≤ q ∧ q / 12 < n ∧ q % 12 < n
theorem insQ_ab {n a b : Int} (hn : n ≤ 12) (ha : 0 ≤ a ∧ a < n) (hb : 0 ≤ b ∧ b < n) : insQ n (12 * a + b) := ⟨by omega, by omega, by omega⟩
theorem fwB_at {n k a : Int} (hn : n ≤ 12) (hk : 0 ≤ k ∧ k < n) (ha : 0 ≤ a ∧ a < n) {f g : Int → Int} (h : ∀ q, insQ n q → f q = g q) (b : Nat) (hb : (b : Int) ≤ n) : (∀ q, insQ n q → fwB k a b f q = fwB k a b g q) ∧ ∀ q, ¬ insQ n q → fwB k a b f q = f q := by
  induction b with
  | zero => exact ⟨h, fun _ _ => rfl⟩
  | succ b ih =>
    obtain ⟨h1, h2⟩ := ih (by omega)
    have e1 := h1 _ (insQ_ab hn ha hk)
    have e2 := h1 _ (insQ_ab hn hk (b := (b : Int)) ⟨by omega, by omega⟩)
    have e3 := h1 _ (insQ_ab hn ha (b := (b : Int)) ⟨by omega, by omega⟩)
    constructor
    · intro q hq
      show fwS k a (b : Int) (fwB k a b f) q = fwS k a (b : Int) (fwB k a b g) q
      unfold fwS upz
      rw [e1, e2, e3, h1 q hq]
    · intro q hq
      show fwS k a (b : Int) (fwB k a b f) q = _
      unfold fwS upz
      rw [if_neg (fun e => hq (by rw [e]; exact insQ_ab hn ha ⟨by omega, by omega⟩))]
      exact h2 q hq
theorem fwA_at {n k : Int} (hn : 0 ≤ n ∧ n ≤ 12) (hk : 0 ≤ k ∧ k < n) {f g : Int → Int} (h : ∀ q, insQ n q → f q = g q) (a : Nat) (ha : (a : Int) ≤ n) : (∀ q, insQ n q → fwA n.toNat k a f q = fwA n.toNat k a g q) ∧ ∀ q, ¬ insQ n q → fwA n.toNat k a f q = f q := by
  induction a with
  | zero => exact ⟨h, fun _ _ => rfl⟩
  | succ a ih =>
    obtain ⟨h1, h2⟩ := ih (by omega)
    have h3 := fwB_at hn.2 hk (a := (a : Int)) ⟨by omega, by omega⟩ h1 n.toNat (by omega)
    exact ⟨h3.1, fun q hq => (h3.2 q hq).trans (h2 q hq)⟩
theorem fwK_at {n : Int} (hn : 0 ≤ n ∧ n ≤ 12) {f g : Int → Int} (h : ∀ q, insQ n q → f q = g q) (k : Nat) (hk : (k : Int) ≤ n) : (∀ q, insQ n q → fwK n.toNat k f q = fwK n.toNat k g q) ∧ ∀ q, ¬ insQ n q → fwK n.toNat k f q = f q := by
  induction k with
  | zero => exact ⟨h, fun _ _ => rfl⟩
  | succ k ih =>
    obtain ⟨h1, h2⟩ := ih (by omega)
    have h3 := fwA_at hn (k := (k : Int)) ⟨by omega, by omega⟩ h1 n.toNat (by omega)
    exact ⟨h3.1, fun q hq => (h3.2 q hq).trans (h2 q hq)⟩
/-- the least walks of what was told, without a stop that is cut -/
def flQ (n : Int) (told : Int → Int) (cut : Int) : Int → Int := fwK n.toNat n.toNat (wini n told cut n 0 (fun _ => 0))
theorem wfull_at {sg : TS} (hT : TB sg) (cut q : Int) : (insQ (sg.1 1) q → wfull sg cut q = flQ (sg.1 1) (sg.2 3) cut q) ∧ (¬ insQ (sg.1 1) q → wfull sg cut q = sg.2 4 q) := by
  have hn := of1 (hT.1 1)
  have hw : ∀ q, insQ (sg.1 1) q → wini (sg.1 1) (sg.2 3) cut (sg.1 1) 0 (sg.2 4) q = wini (sg.1 1) (sg.2 3) cut (sg.1 1) 0 (fun _ => 0) q := fun q hq => by
    obtain ⟨h1, h2, h3⟩ := hq
    unfold wini
    rw [if_pos (by omega), if_pos (by omega)]
  have h := fwK_at hn hw (sg.1 1).toNat (by omega)
  refine ⟨fun hq => h.1 q hq, fun hq => (h.2 q hq).trans ?_⟩
  unfold wini
  rw [if_neg (fun h9 => hq ⟨h9.1, by omega, h9.2.2⟩)]
/-- the walks are those of what was told -/
def WayOk (sg : TS) : Prop := ∀ a b, 0 ≤ a → a < sg.1 1 → 0 ≤ b → b < sg.1 1 → sg.2 4 (12 * a + b) = flQ (sg.1 1) (sg.2 3) (-1) (12 * a + b)
theorem wfull_same {sg sg' : TS} (hT : TB sg) (hT' : TB sg') (hW : WayOk sg) (e1 : sg'.1 1 = sg.1 1) (e3 : sg'.2 3 = sg.2 3) (e4 : ∀ q, ¬ insQ (sg.1 1) q → sg'.2 4 q = sg.2 4 q) : wfull sg' (-1) = sg.2 4 := by
  have hn := of1 (hT.1 1)
  funext q
  have h := wfull_at hT' (-1) q
  rw [e1, e3] at h
  by_cases hq : insQ (sg.1 1) q
  · rw [h.1 hq]
    obtain ⟨h1, h2, h3⟩ := hq
    have := hW (q / 12) (q % 12) (by omega) h2 (by omega) h3
    rw [show 12 * (q / 12) + q % 12 = q by omega] at this
    exact this.symm
  · rw [h.2 hq]; exact e4 q hq
/-! how great walks are -/
/-- in round k: all finite walks at most 2 M, those of row and column k at most M; 0 to oneself -/
def wdI (n k M : Int) (f : Int → Int) : Prop := (∀ a b, 0 ≤ a → a < n → 0 ≤ b → b < n → 0 ≤ f (12 * a + b) ∧ (f (12 * a + b) = 1000000 ∨ f (12 * a + b) ≤ 2 * M)) ∧ (∀ a, 0 ≤ a → a < n → (f (12 * a + k) = 1000000 ∨ f (12 * a + k) ≤ M) ∧ (f (12 * k + a) = 1000000 ∨ f (12 * k + a) ≤ M)) ∧ ∀ a, 0 ≤ a → a < n → f (12 * a + a) = 0
theorem wdI.s {n k M a b : Int} {f : Int → Int} (h : wdI n k M f) (hn : n ≤ 12) (hM : 0 ≤ M ∧ M ≤ 200000) (hk : 0 ≤ k ∧ k < n) (ha : 0 ≤ a ∧ a < n) (hb : 0 ≤ b ∧ b < n) : wdI n k M (fwS k a b f) := by
  obtain ⟨h1, h2, h3⟩ := h
  have z1 := h1 a k ha.1 ha.2 hk.1 hk.2
  have z2 := h1 k b hk.1 hk.2 hb.1 hb.2
  have z3 := h1 a b ha.1 ha.2 hb.1 hb.2
  have y1 := (h2 a ha.1 ha.2).1
  have y2 := (h2 b hb.1 hb.2).2
  have x1 := h3 k hk.1 hk.2
  by_cases hc : f (12 * a + k) + f (12 * k + b) < f (12 * a + b)
  · have e : fwS k a b f = upz f (12 * a + b) (f (12 * a + k) + f (12 * k + b)) := by unfold fwS; rw [if_pos hc]
    rw [e]
    have hab : a ≠ k := fun e => by subst e; omega
    have hbb : b ≠ k := fun e => by subst e; omega
    have hne : a ≠ b := fun e => by subst e; have := h3 a ha.1 ha.2; omega
    refine ⟨fun a' b' g1 g2 g3 g4 => ?_, fun a' g1 g2 => ⟨?_, ?_⟩, fun a' g1 g2 => ?_⟩
    · unfold upz; split
      · omega
      · exact h1 a' b' g1 g2 g3 g4
    · unfold upz; rw [if_neg (by omega)]; exact (h2 a' g1 g2).1
    · unfold upz; rw [if_neg (by omega)]; exact (h2 a' g1 g2).2
    · unfold upz; rw [if_neg (by omega)]; exact h3 a' g1 g2
  · have e : fwS k a b f = f := by unfold fwS; rw [if_neg hc]; exact upz_self f _
    rw [e]; exact ⟨h1, h2, h3⟩
def wdM (n M : Int) (f : Int → Int) : Prop := (∀ a b, 0 ≤ a → a < n → 0 ≤ b → b < n → 0 ≤ f (12 * a + b) ∧ (f (12 * a + b) = 1000000 ∨ f (12 * a + b) ≤ M)) ∧ ∀ a, 0 ≤ a → a < n → f (12 * a + a) = 0
theorem wdI.B {n k M a : Int} {f : Int → Int} (h : wdI n k M f) (hn : n ≤ 12) (hM : 0 ≤ M ∧ M ≤ 200000) (hk : 0 ≤ k ∧ k < n) (ha : 0 ≤ a ∧ a < n) (b : Nat) (hb : (b : Int) ≤ n) : wdI n k M (fwB k a b f) := by
  induction b with
  | zero => exact h
  | succ b ih => exact (ih (by omega)).s hn hM hk ha ⟨by omega, by omega⟩
theorem wdI.A {n k M : Int} {f : Int → Int} (h : wdI n k M f) (hn : 0 ≤ n ∧ n ≤ 12) (hM : 0 ≤ M ∧ M ≤ 200000) (hk : 0 ≤ k ∧ k < n) (a : Nat) (ha : (a : Int) ≤ n) : wdI n k M (fwA n.toNat k a f) := by
  induction a with
  | zero => exact h
  | succ a ih => exact (ih (by omega)).B hn.2 hM hk ⟨by omega, by omega⟩ n.toNat (by omega)
theorem wdM.K {n : Int} {f : Int → Int} (h : wdM n 60 f) (hn : 0 ≤ n ∧ n ≤ 12) (k : Nat) (hk : (k : Int) ≤ n) : wdM n (60 * 2 ^ k) (fwK n.toNat k f) := by
  induction k with
  | zero => rw [Int.pow_zero, Int.mul_one]; exact h
  | succ k ih =>
    have h1 := ih (by omega)
    have hp : (2 : Int) ^ k ≤ 2 ^ 11 := by
      have : (2 : Nat) ^ k ≤ 2 ^ 11 := Nat.pow_le_pow_right (by omega) (by omega)
      exact_mod_cast this
    have hp0 : (0 : Int) < 2 ^ k := Int.pow_pos (by omega)
    have hI : wdI n (k : Int) (60 * 2 ^ k) (fwK n.toNat k f) := ⟨fun a b g1 g2 g3 g4 => by have := h1.1 a b g1 g2 g3 g4; omega, fun a g1 g2 => ⟨(h1.1 a (k : Int) g1 g2 (by omega) (by omega)).2, (h1.1 (k : Int) a (by omega) (by omega) g1 g2).2⟩, h1.2⟩
    have h2 := hI.A hn ⟨by omega, by have e : (2 : Int) ^ 11 = 2048 := by decide
                                     omega⟩ ⟨by omega, by omega⟩ n.toNat (by omega)
    refine ⟨fun a b g1 g2 g3 g4 => ?_, h2.2.2⟩
    have := h2.1 a b g1 g2 g3 g4
    rw [Int.pow_succ]
    refine ⟨this.1, this.2.imp id (fun q => ?_)⟩
    have e : 60 * ((2 : Int) ^ k * 2) = 2 * (60 * 2 ^ k) := by omega
    rw [e]; exact q
theorem flQ_d {n cut : Int} {told : Int → Int} (hn : 0 ≤ n ∧ n ≤ 12) (ht : okA 3 told) : wdM n 245760 (flQ n told cut) := by
  have h0 : wdM n 60 (wini n told cut n 0 (fun _ => 0)) := by
    refine ⟨fun a b g1 g2 g3 g4 => ?_, fun a g1 g2 => ?_⟩
    · have e1 : (12 * a + b) / 12 = a := by omega
      have e2 : (12 * a + b) % 12 = b := by omega
      unfold wini
      rw [e1, e2, if_pos (by omega)]
      unfold wval
      have := oa3 ht (12 * a + b) (by omega) (by omega)
      split
      · omega
      · split
        · omega
        · omega
    · have e1 : (12 * a + a) / 12 = a := by omega
      have e2 : (12 * a + a) % 12 = a := by omega
      unfold wini
      rw [e1, e2, if_pos (by omega)]
      unfold wval
      rw [if_pos rfl]
  have h1 := h0.K hn n.toNat (by omega)
  refine ⟨fun a b g1 g2 g3 g4 => ?_, h1.2⟩
  have h2 := h1.1 a b g1 g2 g3 g4
  have hp : (2 : Int) ^ n.toNat ≤ 2 ^ 12 := by
    have : (2 : Nat) ^ n.toNat ≤ 2 ^ 12 := Nat.pow_le_pow_right (by omega) (by omega)
    exact_mod_cast this
  have e : (2 : Int) ^ 12 = 4096 := by decide
  refine ⟨h2.1, h2.2.imp id (fun q => ?_)⟩
  have q2 : flQ n told cut (12 * a + b) ≤ 60 * 2 ^ n.toNat := q
  omega
/-- walks made anew are good -/
theorem wyD_full {sg : TS} (hT : TB sg) (h : wyD sg) (cut : Int) {sg' : TS} (e1 : sg'.1 1 = sg.1 1) (e4 : sg'.2 4 = wfull sg cut) : wyD sg' := by
  have hn := of1 (hT.1 1)
  have hd := flQ_d (cut := cut) hn (hT.2 3)
  refine ⟨fun q g1 g2 => ?_, fun a g1 g2 => ?_⟩
  · rw [e4]
    have hw := wfull_at hT cut q
    by_cases hq : insQ (sg.1 1) q
    · rw [hw.1 hq]
      have := (hd.1 (q / 12) (q % 12) (by omega) hq.2.1 (by omega) hq.2.2).2
      rw [show 12 * (q / 12) + q % 12 = q by omega] at this
      omega
    · rw [hw.2 hq]; exact h.1 q g1 g2
  · rw [e4, (wfull_at hT cut _).1 (insQ_ab hn.2 ⟨g1, by omega⟩ ⟨g1, by omega⟩)]
    exact hd.2 a g1 (by omega)
