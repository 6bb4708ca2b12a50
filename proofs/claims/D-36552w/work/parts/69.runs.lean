/-! Lastbus.runsAbout -/
theorem c_X8_init (K : KT) (d : Nat) (h : MH) (e0 : Nat) (q own : Nat) (late : Option Nat) (num tr sh sv n lc lm : Int) (fs fa fd : Int → Int) (hd : 3 ≤ d) (hq : h.2.2 q = some (true, .inr (7, [vi 0, vi 0, vi 0, .null, .null, .null]))) (hT : TrpA K h e0 sv n fs fa fd own) (hlq : (late = none ∧ lm = 0) ∨ ∃ lq, late = some lq ∧ h.2.2 lq = some (true, .inr (6, [vi lc, vi lm]))) (hn : 1 ≤ n ∧ n ≤ 8) (hl : (-10 ≤ lc ∧ lc ≤ 100) ∧ 0 ≤ lm ∧ lm ≤ 200) (hz : h.1 + 3 ≤ kC K ∧ h.2.1 + 24 ≤ kS K) : Mt K yiX8_init d [.ref q, vi num, vi tr, vi sh, .ref own, va_rf late] h (Rv fun h' => RniQ K h h' num tr sh n lc lm fs fa fd q) := by
  rcases hlq with ⟨rfl, h1⟩ | ⟨lq, rfl, h1⟩
  · exact c_X8_initN K d h e0 q own num tr sh sv n lc lm fs fa fd hd hq hT h1 hn hl hz
  · exact c_X8_initR K d h e0 q own lq num tr sh sv n lc lm fs fa fd hd hq hT h1 hn hl hz
/-- the heap without two cells -/
def exc (a b : Nat) (h : MH) : MH := (0, 0, fun q => if q = a ∨ q = b then none else h.2.2 q)
theorem exc_at {a b : Nat} {h : MH} {q : Nat} {c : Bool × va_E} (e : (exc a b h).2.2 q = some c) : h.2.2 q = some c ∧ q ≠ a ∧ q ≠ b := by
  unfold exc at e
  dsimp only at e
  by_cases hq : q = a ∨ q = b
  · rw [if_pos hq] at e; cases e
  · rw [if_neg hq] at e; exact ⟨e, by omega, by omega⟩
theorem exc_mk {a b : Nat} {h : MH} {q : Nat} {c : Bool × va_E} (e : h.2.2 q = some c) (h1 : q ≠ a) (h2 : q ≠ b) : (exc a b h).2.2 q = some c := by
  unfold exc
  dsimp only
  rw [if_neg (by omega)]; exact e
/-- the run r of the twin, as the component's run i at q -/
def RunE (K : KT) (h : MH) (sg : TS) (i r : Int) (q : Nat) : Prop := ∃ f1 f2 f3, RunC K h i (r % 24) (r / 24 - 1) (sg.2 10 (r % 24)).toNat f1 f2 f3 q ∧ ∀ c, 0 ≤ c → c < sg.2 10 (r % 24) → f1 c = stI sg r c ∧ f2 c = cmI sg r c ∧ f3 c = lvI sg r c
theorem RunE.up {K : KT} {h h' : MH} {sg : TS} {i r : Int} {q : Nat} (L : RunE K h sg i r q) (e1 : ∀ b c, h.2.2 b = some c → h'.2.2 b = some c) : RunE K h' sg i r q := by
  obtain ⟨f1, f2, f3, h1, h2⟩ := L
  exact ⟨f1, f2, f3, h1.up e1, h2⟩
theorem RunE.obj {K : KT} {h : MH} {sg : TS} {i r : Int} {q : Nat} (L : RunE K h sg i r q) : ∃ w fs, h.2.2 q = some (w, .inr (7, fs)) := by
  obtain ⟨f1, f2, f3, ⟨sa, aa, da, h1, -⟩, -⟩ := L
  exact ⟨_, _, h1⟩
/-- the runs of a day and those beside it, in a list -/
def RunsA (K : KT) (h : MH) (e0 a e : Nat) (n : Int) (sg : TS) (rix : Int → Int) (p : Int → Nat) : Prop := LsB K h e0 a e n p ∧ (∀ i, 0 ≤ i → i < n → okR sg (rix i) ∧ RunE K h sg i (rix i) (p i)) ∧ (∀ i j, 0 ≤ i → i < j → j < n → rix i < rix j) ∧ ∀ r, okR sg r → ∃ i, 0 ≤ i ∧ i < n ∧ rix i = r
def RunsQ (K : KT) (h h' : MH) (sg : TS) (a : Nat) : Prop := ∃ (e0 e : Nat) (n : Int) (rix : Int → Int) (p : Int → Nat), RunsA K h' e0 a e n sg rix p ∧ (0 ≤ n ∧ n ≤ 72) ∧ (h.1 ≤ h'.1 ∧ (h'.1 : Int) ≤ h.1 + 1 + 6 * n) ∧ (h.2.1 ≤ h'.2.1 ∧ (h'.2.1 : Int) ≤ h.2.1 + 3 + 150 * n) ∧ (∀ b, b < h.1 → h'.2.2 b = h.2.2 b) ∧ h.1 ≤ a ∧ kV K 0 = .ref e0
theorem grC_72 {n : Int} (h : 0 ≤ n ∧ n ≤ 72) : (grC n).toNat ≤ 110 := by unfold grC; (repeat' split) <;> omega
def lcI (sg : TS) (y t : Int) : Int := if latI sg y t = -1 then 0 else sg.2 17 (latI sg y t)
def lmI (sg : TS) (y t : Int) : Int := if latI sg y t = -1 then 0 else sg.2 18 (latI sg y t)
theorem latOf_l (sg : TS) (y t c : Int) : latOf sg y t c = if lcI sg y t ≤ c then lmI sg y t else 0 := by
  unfold latOf lcI lmI
  by_cases e : latI sg y t = -1
  · rw [if_pos (Or.inl e), if_pos e, if_pos e]; split <;> rfl
  · rw [if_neg e, if_neg e]
    by_cases e2 : c < sg.2 17 (latI sg y t)
    · rw [if_pos (Or.inr e2), if_neg (by omega)]
    · rw [if_neg (by intro h9; rcases h9 with h9 | h9; exact e h9; exact e2 h9), if_pos (by omega)]
theorem lcI_b {sg : TS} (hT : TB sg) (y t : Int) : (-10 ≤ lcI sg y t ∧ lcI sg y t ≤ 100) ∧ 0 ≤ lmI sg y t ∧ lmI sg y t ≤ 200 ∧ 0 ≤ lcI sg y t := by
  have b := latAt_b (ld := sg.2 15) (lt := sg.2 16) (day := y) (trip := t) (sg.1 14).toNat
  have f14 := of14 (hT.1 14)
  unfold lcI lmI
  by_cases e : latI sg y t = -1
  · rw [if_pos e, if_pos e]; omega
  · rw [if_neg e, if_neg e]
    have i0 : 0 ≤ latI sg y t := by show 0 ≤ latAt _ _ _ _ _; have : latAt (sg.2 15) (sg.2 16) y t (sg.1 14).toNat ≠ -1 := e; omega
    have i1 : latI sg y t < 12 := by show latAt _ _ _ _ _ < 12; omega
    have := oa17 (hT.2 17) _ i0 i1
    have := oa18 (hT.2 18) _ i0 i1
    omega
theorem sd_lat {sg : TS} {y a b c : Int} : latOf (sd sg y) a b c = latOf sg a b c := rfl
/-- a run freshly made is the twin's -/
theorem RniE {K : KT} {h h' : MH} {sg : TS} {i y k s : Int} {q : Nat} (hk : 0 ≤ k ∧ k < 24) (hs : -1 ≤ s ∧ s ≤ 1) (hlc : 0 ≤ lcI sg (y + s) k) (H : RniQ K h h' i k s (sg.2 10 k) (lcI sg (y + s) k) (lmI sg (y + s) k) (trS sg k) (trA sg k) (trD sg k) q) : RunE K (rsq q h.1 h') (sd sg y) i (24 * (s + 1) + k) q := by
  obtain ⟨⟨f1, f2, f3, h1, h2⟩, -⟩ := H
  have e1 : (24 * (s + 1) + k) % 24 = k := by omega
  have e2 : (24 * (s + 1) + k) / 24 - 1 = s := by omega
  refine ⟨f1, f2, f3, ?_, fun c c0 c1 => ?_⟩
  · rw [e1, e2]; exact h1
  · have hc : c < sg.2 10 k := by rw [e1] at c1; exact c1
    have h3 := h2 c c0 hc
    refine ⟨?_, ?_, ?_⟩
    · rw [h3.1]; unfold stI trS; rw [e1]; rfl
    · rw [h3.2.1]
      unfold cmI rnA trA
      rw [e1, e2, sd_lat, latOf_l]
      show sg.2 12 (8 * k + c) + 1440 * s + _ = sg.2 12 (8 * k + c) + 1440 * s + _
      congr 1
      show _ = if c = 0 then 0 else if lcI sg (y + s) k ≤ c - 1 then lmI sg (y + s) k else 0
      by_cases h9 : c = 0
      · rw [if_pos h9, if_neg (by omega)]
      · rw [if_neg h9]
        by_cases h8 : lcI sg (y + s) k < c
        · rw [if_pos h8, if_pos (by omega)]
        · rw [if_neg h8, if_neg (by omega)]
    · rw [h3.2.2]
      unfold lvI rnD trD
      rw [e1, e2, sd_lat, latOf_l]
      rfl
