/-! rounds: when nothing is new -/
theorem smN_mul (g : Nat → Nat) (b : Nat) : ∀ a : Nat, smN g (a * b) = smN (fun j => smN (fun c => g (b * j + c)) b) a
  | 0 => by rw [Nat.zero_mul]; rfl
  | a + 1 => by
    rw [Nat.add_mul, Nat.one_mul, smN_add, smN_mul g b a]
    show _ = smN _ a + smN (fun c => g (b * a + c)) b
    rw [Nat.mul_comm b a]
theorem smN_ind (m : Nat) : ∀ n : Nat, smN (fun c => if c < m then 1 else 0) n ≤ m ∧ smN (fun c => if c < m then 1 else 0) n ≤ n
  | 0 => ⟨Nat.zero_le _, Nat.le_refl _⟩
  | n + 1 => by
    have ih := smN_ind m n
    show smN _ n + (if n < m then 1 else 0) ≤ m ∧ smN _ n + (if n < m then 1 else 0) ≤ n + 1
    split <;> omega
section EVS
variable {sg : TS} {f0 : Int → Int}
/-- boardable behind n rides -/
def BdN (sg : TS) (f0 : Int → Int) (n : Nat) (r c : Int) : Prop := stI sg r c ≠ sg.1 5 ∧ 0 ≤ lvI sg r c ∧ RdE sg f0 BG (EvN sg f0 BG n) (stI sg r c) (lvI sg r c)
theorem BdN.s {n : Nat} {r c : Int} (h : BdN sg f0 n r c) : BdN sg f0 (n + 1) r c := ⟨h.1, h.2.1, h.2.2.mono (EvN.mono n)⟩
/-- calls ahead of the first one boardable -/
noncomputable def evP (sg : TS) (f0 : Int → Int) (n : Nat) : Nat := smN (fun q => @ite Nat (isRunP sg ((q : Int) / 8) ∧ (q : Int) % 8 + 1 < sg.2 10 ((q : Int) / 8 % 24) ∧ ∀ c' : Int, 0 ≤ c' → c' ≤ (q : Int) % 8 → ¬ BdN sg f0 n ((q : Int) / 8) c') (Classical.propDecidable _) 1 0) 576
theorem evP_b (n : Nat) : evP sg f0 n ≤ 3 * clS sg := by
  classical
  refine Nat.le_trans ?_ (cum_b sg)
  unfold evP cum
  rw [show 576 = 72 * 8 by rfl, smN_mul]
  refine smN_le (fun j hj => ?_)
  unfold cumF
  by_cases e : isRunP sg (j : Int)
  · rw [if_pos e.1]
    refine Nat.le_trans (smN_le (g' := fun c => if c < (sg.2 10 ((j : Int) % 24) - 1).toNat then 1 else 0) (fun c hc => ?_)) (smN_ind _ 8).1
    have e1 : ((8 * j + c : Nat) : Int) / 8 = (j : Int) := by omega
    have e2 : ((8 * j + c : Nat) : Int) % 8 = (c : Int) := by omega
    rw [e1, e2]
    by_cases e3 : c < (sg.2 10 ((j : Int) % 24) - 1).toNat
    · rw [if_pos e3]; split <;> omega
    · rw [if_neg e3, if_neg (fun h9 => e3 (by have := h9.2.1; omega))]; exact Nat.le_refl _
  · refine Nat.le_trans (smN_le (g' := fun _ => 0) (fun c hc => ?_)) (by show smN (fun _ => 0) 8 ≤ _; exact Nat.le_trans (show smN (fun _ => 0) 8 ≤ 0 by decide) (Nat.zero_le _))
    have e1 : ((8 * j + c : Nat) : Int) / 8 = (j : Int) := by omega
    rw [e1, if_neg (fun h9 => e h9.1)]; exact Nat.le_refl _
theorem evP_lt (hT : TB sg) {n : Nat} (h : ¬ EvEq (EvN sg f0 BG (n + 1)) (EvN sg f0 BG (n + 2))) : evP sg f0 (n + 1) < evP sg f0 n := by
  classical
  have hx : ∃ s t, EvN sg f0 BG (n + 2) s t ∧ ¬ EvN sg f0 BG (n + 1) s t := Classical.byContradiction (fun h9 => h (fun s t => ⟨fun a => EvN.mono _ s t a, fun a => Classical.byContradiction (fun h8 => h9 ⟨s, t, a, h8⟩)⟩))
  obtain ⟨s, t, ⟨r, c, c', h1, h2, h3, h4, h5, h6, h7, h8, h9, h10⟩, hn⟩ := hx
  have r0 := h1.1
  have r1 := h1.2.1
  have hcb := oa10 (hT.2 10) (r % 24) (by omega) (by omega)
  have hno : ∀ c'' : Int, 0 ≤ c'' → c'' ≤ c' → ¬ BdN sg f0 n r c'' := fun c'' a b hB => hn ⟨r, c, c'', h1, a, by omega, h4, h5, h6, h7, hB.1, hB.2.1, hB.2.2⟩
  have e1 : (((8 * r + c').toNat : Nat) : Int) / 8 = r := by omega
  have e2 : (((8 * r + c').toNat : Nat) : Int) % 8 = c' := by omega
  unfold evP
  refine smN_lt (j := (8 * r + c').toNat) (fun q hq => ?_) (by omega) ?_
  · by_cases e : isRunP sg ((q : Int) / 8) ∧ (q : Int) % 8 + 1 < sg.2 10 ((q : Int) / 8 % 24) ∧ ∀ c' : Int, 0 ≤ c' → c' ≤ (q : Int) % 8 → ¬ BdN sg f0 (n + 1) ((q : Int) / 8) c'
    · rw [if_pos e, if_pos ⟨e.1, e.2.1, fun c9 a b hB => e.2.2 c9 a b hB.s⟩]; exact Nat.le_refl _
    · rw [if_neg e]; exact Nat.zero_le _
  · have i1 : ¬ (isRunP sg r ∧ c' + 1 < sg.2 10 (r % 24) ∧ ∀ c9 : Int, 0 ≤ c9 → c9 ≤ c' → ¬ BdN sg f0 (n + 1) r c9) := fun q => q.2.2 c' h2 (Int.le_refl _) ⟨h8, h9, h10⟩
    have i2 : isRunP sg r ∧ c' + 1 < sg.2 10 (r % 24) ∧ ∀ c9 : Int, 0 ≤ c9 → c9 ≤ c' → ¬ BdN sg f0 n r c9 := ⟨h1.2.2, by omega, hno⟩
    rw [e1, e2, if_neg i1, if_pos i2]
    exact Nat.zero_lt_one
theorem EvN.eqs {n : Nat} (h : EvEq (EvN sg f0 BG n) (EvN sg f0 BG (n + 1))) : EvEq (EvN sg f0 BG (n + 1)) (EvN sg f0 BG (n + 2)) := fun s t => ⟨fun a => EvN.mono _ s t a, fun a => AltE.mono h.sy.le s t a⟩
theorem EvN.eqk {n : Nat} (h : EvEq (EvN sg f0 BG n) (EvN sg f0 BG (n + 1))) : ∀ k : Nat, EvEq (EvN sg f0 BG n) (EvN sg f0 BG (n + k)) ∧ EvEq (EvN sg f0 BG (n + k)) (EvN sg f0 BG (n + k + 1))
  | 0 => ⟨fun _ _ => Iff.rfl, h⟩
  | k + 1 => by
    have ih := EvN.eqk h k
    exact ⟨fun s t => (ih.1 s t).trans (ih.2 s t), EvN.eqs ih.2⟩
/-- no more than so many rounds bring something new -/
theorem ev_stab (hT : TB sg) : ∃ k, k ≤ 3 * clS sg + 1 ∧ EvEq (EvN sg f0 BG k) (EvN sg f0 BG (k + 1)) := by
  apply Classical.byContradiction
  intro hn
  have key : ∀ k, k ≤ 3 * clS sg + 1 → evP sg f0 k + k ≤ evP sg f0 0 := fun k => by
    induction k with
    | zero => intro _; rw [Nat.add_zero]; exact Nat.le_refl _
    | succ k ih =>
      intro hk
      have h1 := ih (by omega)
      have h2 := evP_lt (f0 := f0) (n := k) hT (fun h9 => hn ⟨k + 1, hk, h9⟩)
      omega
  have h1 := key (3 * clS sg + 1) (Nat.le_refl _)
  have h2 := evP_b (sg := sg) (f0 := f0) 0
  omega
/-- a round under way: runs of list places below u are done, of run u the calls below c -/
def RoC (sg : TS) (f0 : Int → Int) (n : Nat) (r c : Int) : Prop := ∃ c', 0 ≤ c' ∧ c' < c ∧ BdN sg f0 n r c'
def RoP (sg : TS) (f0 : Int → Int) (n : Nat) (rix : Int → Int) (m u c : Int) : EV := fun s t => EvN sg f0 BG n s t ∨ ∃ v c', (0 ≤ v ∧ v < m) ∧ (v < u ∨ (v = u ∧ c' < c)) ∧ c' < sg.2 10 (rix v % 24) ∧ RoC sg f0 n (rix v) c' ∧ stI sg (rix v) c' = s ∧ cmI sg (rix v) c' = t ∧ s ≠ sg.1 5
variable {rix : Int → Int} {n : Nat} {m u c : Int}
theorem RoP.le (hR : RunP sg rix m) : EvLe (RoP sg f0 n rix m u c) (EvN sg f0 BG (n + 1)) := by
  rintro s t (h | ⟨v, c', h1, h2, h3, ⟨c'', h4, h5, h6⟩, h7, h8, h9⟩)
  · exact EvN.mono n s t h
  · exact ⟨rix v, c', c'', hR.1 v h1.1 h1.2, h4, h5, h3, h7, h8, h9, h6.1, h6.2.1, h6.2.2⟩
theorem RoP.y (hu : 0 ≤ u ∧ u < m) (hc : c < sg.2 10 (rix u % 24)) (h : RoC sg f0 n (rix u) c) (hs : stI sg (rix u) c ≠ sg.1 5) : EvEq (evAdd (RoP sg f0 n rix m u c) (stI sg (rix u) c) (cmI sg (rix u) c)) (RoP sg f0 n rix m u (c + 1)) := by
  intro s t
  constructor
  · rintro ((a | ⟨v, c', h1, h2, h3⟩) | ⟨rfl, rfl⟩)
    · exact Or.inl a
    · exact Or.inr ⟨v, c', h1, by omega, h3⟩
    · exact Or.inr ⟨u, c, hu, Or.inr ⟨rfl, by omega⟩, hc, h, rfl, rfl, hs⟩
  · rintro (a | ⟨v, c', h1, h2, h3, h4, h5, h6, h7⟩)
    · exact Or.inl (Or.inl a)
    · by_cases e : v = u ∧ c' = c
      · rw [e.1, e.2] at h5 h6; exact Or.inr ⟨h5.symm, h6.symm⟩
      · exact Or.inl (Or.inr ⟨v, c', h1, by omega, h3, h4, h5, h6, h7⟩)
theorem RoP.no (h : ¬ RoC sg f0 n (rix u) c) : EvEq (RoP sg f0 n rix m u c) (RoP sg f0 n rix m u (c + 1)) := by
  intro s t
  constructor
  · rintro (a | ⟨v, c', h1, h2, h3⟩)
    · exact Or.inl a
    · exact Or.inr ⟨v, c', h1, by omega, h3⟩
  · rintro (a | ⟨v, c', h1, h2, h3, h4, h5⟩)
    · exact Or.inl a
    · by_cases e : v = u ∧ c' = c
      · rw [e.1, e.2] at h4; exact absurd h4 h
      · exact Or.inr ⟨v, c', h1, by omega, h3, h4, h5⟩
theorem RoP.next (hc : sg.2 10 (rix u % 24) ≤ c) : EvEq (RoP sg f0 n rix m u c) (RoP sg f0 n rix m (u + 1) 0) := by
  intro s t
  constructor
  · rintro (a | ⟨v, c', h1, h2, h3⟩)
    · exact Or.inl a
    · exact Or.inr ⟨v, c', h1, by omega, h3⟩
  · rintro (a | ⟨v, c', h1, h2, h3, h4, h5⟩)
    · exact Or.inl a
    · refine Or.inr ⟨v, c', h1, ?_, h3, h4, h5⟩
      obtain ⟨c'', h6, h7, -⟩ := h4
      by_cases e : v = u
      · rw [e] at h3; omega
      · omega
theorem RoP.start : EvEq (EvN sg f0 BG n) (RoP sg f0 n rix m 0 0) := fun s t => ⟨Or.inl, fun h => by
  rcases h with a | ⟨v, c', h1, h2, h3, ⟨c'', h4, h5, -⟩, -⟩
  · exact a
  · omega⟩
theorem RoP.fin (hR : RunP sg rix m) (hu : m ≤ u) : EvEq (RoP sg f0 n rix m u c) (EvN sg f0 BG (n + 1)) := fun s t => ⟨RoP.le hR s t, fun h => by
  obtain ⟨r, c1, c', h1, h2, h3, h4, h5, h6, h7, h8, h9, h10⟩ := h
  obtain ⟨v, v1, v2, v3⟩ := hR.2 r h1
  refine Or.inr ⟨v, c1, ⟨v1, v2⟩, by omega, by rw [v3]; exact h4, ⟨c', h2, h3, by rw [v3]; exact ⟨h8, h9, h10⟩⟩, by rw [v3]; exact h5, by rw [v3]; exact h6, h7⟩⟩
/-- labels that agree on readiness board the same -/
theorem EvN.same {fa fb fd ga gb : Int → Int} (hF : WF sg) (h1 : CLab sg f0 (EvN sg f0 BG n) fa fb fd) (h2 : CLab sg f0 (EvN sg f0 BG (n + 1)) ga gb fd) : EvEq (EvN sg f0 BG (n + 1)) (EvN sg f0 BG (n + 2)) := fun s t => ⟨fun a => EvN.mono _ s t a, fun h => by
  obtain ⟨r, c1, c', g1, g2, g3, g4, g5, g6, g7, g8, g9, g10⟩ := h
  have r0 := g1.1
  have r1 := g1.2.1
  have hcb := oa10 (hF.1.2 10) (r % 24) (by omega) (by omega)
  have hst := hF.2.1.run g1 ⟨g2, show c' < sg.2 10 (r % 24) by omega⟩
  have hlb := lvI_b hF.1 (r := r) (c := c') ⟨r0, r1⟩ ⟨g2, by omega⟩
  exact ⟨r, c1, c', g1, g2, g3, g4, g5, g6, g7, g8, g9, ((h1 _ hst.1 hst.2 _ (by omega)).1).mp (((h2 _ hst.1 hst.2 _ (by omega)).1).mpr g10)⟩⟩
theorem CLab.sm {E : EV} {fa fb fd ga gb gd : Int → Int} (h : CLab sg f0 E fa fb fd) (hn : sg.1 1 ≤ 12) (e : ∀ i, 0 ≤ i → i < 12 → ga i = fa i ∧ gb i = fb i ∧ gd i = fd i) : CLab sg f0 E ga gb gd := fun s a b t c => by
  obtain ⟨e1, e2, e3⟩ := e s a (by omega)
  rw [e1, e2, e3]; exact h s a b t c
theorem Rng.sm {f g : Int → Int} (h : Rng f) (e : ∀ i, 0 ≤ i → i < 12 → g i = f i) : Rng g := fun j a b => by rw [e j a b]; exact h j a b
end EVS
