/-! the component's labels: what they tell; scanning tells all -/
def WkE (sg : TS) (E : EV) (s t : Int) : Prop := ∃ s' t', (0 ≤ s' ∧ s' < sg.1 1) ∧ E s' t' ∧ t' + sg.2 4 (12 * s' + s) ≤ t
/-- arrivals fa, arrivals by a ride fb, readiness fr, out of first labels f0 and events E -/
def CLab (sg : TS) (f0 : Int → Int) (E : EV) (fa fb fr : Int → Int) : Prop := ∀ s, 0 ≤ s → s < sg.1 1 → ∀ t, t < 900000 → (fr s ≤ t ↔ RdE sg f0 BG E s t) ∧ (fa s ≤ t ↔ f0 s ≤ t ∨ WkE sg E s t) ∧ (fb s ≤ t ↔ WkE sg E s t)
/-- none, or a minute -/
def Rng (f : Int → Int) : Prop := ∀ j, 0 ≤ j → j < 12 → f j = 1000000 ∨ (-2000 ≤ f j ∧ f j ≤ 300000)
def EvEq (E E' : EV) : Prop := ∀ s t, E s t ↔ E' s t
theorem EvEq.le {E E' : EV} (h : EvEq E E') : EvLe E E' := fun s t x => (h s t).mp x
theorem EvEq.sy {E E' : EV} (h : EvEq E E') : EvEq E' E := fun s t => (h s t).symm
theorem WkE.mono {sg : TS} {E E' : EV} (h : EvLe E E') {s t : Int} (w : WkE sg E s t) : WkE sg E' s t := by
  obtain ⟨s', t', a, b, c⟩ := w
  exact ⟨s', t', a, h _ _ b, c⟩
theorem CLab.cg {sg : TS} {f0 : Int → Int} {E E' : EV} {fa fb fr : Int → Int} (h : CLab sg f0 E fa fb fr) (e : EvEq E E') : CLab sg f0 E' fa fb fr := fun s a b t c => by
  obtain ⟨h1, h2, h3⟩ := h s a b t c
  have w : WkE sg E s t ↔ WkE sg E' s t := ⟨fun x => x.mono e.le, fun x => x.mono e.sy.le⟩
  have r : RdE sg f0 BG E s t ↔ RdE sg f0 BG E' s t := ⟨fun x => x.mono e.le, fun x => x.mono e.sy.le⟩
  exact ⟨h1.trans r, by rw [h2, w], h3.trans w⟩
theorem WkE_add {sg : TS} {E : EV} {s t j x : Int} (hs : 0 ≤ s ∧ s < sg.1 1) : WkE sg (evAdd E s t) j x ↔ WkE sg E j x ∨ t + sg.2 4 (12 * s + j) ≤ x := by
  constructor
  · rintro ⟨s', t', a, b | ⟨rfl, rfl⟩, c⟩
    · exact Or.inl ⟨s', t', a, b, c⟩
    · exact Or.inr c
  · rintro (⟨s', t', a, b, c⟩ | c)
    · exact ⟨s', t', a, Or.inl b, c⟩
    · exact ⟨s, t, hs, Or.inr ⟨rfl, rfl⟩, c⟩
theorem RdE_add {sg : TS} {f0 r0 : Int → Int} {E : EV} {s t j x : Int} (hs : 0 ≤ s ∧ s < sg.1 1) : RdE sg f0 r0 (evAdd E s t) j x ↔ RdE sg f0 r0 E j x ∨ (j = s ∧ t + sg.2 2 s ≤ x) ∨ (s ≠ j ∧ t + sg.2 4 (12 * s + j) ≤ x) := by
  constructor
  · rintro (a | a | ⟨t', b | ⟨e, rfl⟩, c⟩ | ⟨s', t', a, b | ⟨rfl, rfl⟩, c, d⟩)
    · exact Or.inl (Or.inl a)
    · exact Or.inl (Or.inr (Or.inl a))
    · exact Or.inl (Or.inr (Or.inr (Or.inl ⟨t', b, c⟩)))
    · exact Or.inr (Or.inl ⟨e, by rw [← e]; exact c⟩)
    · exact Or.inl (Or.inr (Or.inr (Or.inr ⟨s', t', a, b, c, d⟩)))
    · exact Or.inr (Or.inr ⟨c, d⟩)
  · rintro (a | ⟨e, c⟩ | ⟨c, d⟩)
    · exact a.mono (fun _ _ z => Or.inl z)
    · exact Or.inr (Or.inr (Or.inl ⟨t, Or.inr ⟨e, rfl⟩, by rw [e]; exact c⟩))
    · exact Or.inr (Or.inr (Or.inr ⟨s, t, hs, Or.inr ⟨rfl, rfl⟩, c, d⟩))
theorem mnz_le {x y t : Int} : mnz x y ≤ t ↔ x ≤ t ∨ y ≤ t := by unfold mnz; split <;> omega
/-- getting off at stop s at minute t told -/
theorem CLab.add {sg : TS} {f0 : Int → Int} {E : EV} {fa fb fr w : Int → Int} {s t cut : Int} (h : CLab sg f0 E fa fb fr) (hD : wyD sg) (hs : 0 ≤ s ∧ s < sg.1 1) (ht : -2000 ≤ t) (hc : s ≠ cut) (hw : ∀ j, 0 ≤ j → j < sg.1 1 → w j = sg.2 4 (12 * s + j)) : CLab sg f0 (evAdd E s t) (rcF cut s t w w fa (sg.1 1)) (rcF cut s t w w fb (sg.1 1)) (rcF cut s t w (vsO s (sg.2 2 s) w) fr (sg.1 1)) := by
  intro j j0 j1 x hx
  obtain ⟨h1, h2, h3⟩ := h j j0 j1 x hx
  rw [WkE_add hs, RdE_add hs]
  have hwj := hw j j0 j1
  have hws := hw s hs.1 hs.2
  have hss := hD.2 s hs.1 hs.2
  unfold rcF
  by_cases e : w j < 1000000
  · rw [if_pos ⟨j0, j1, hc, e⟩, if_pos ⟨j0, j1, hc, e⟩, if_pos ⟨j0, j1, hc, e⟩, mnz_le, mnz_le, mnz_le, h1, h2, h3, hwj]
    refine ⟨?_, ?_, Iff.rfl⟩
    · unfold vsO
      by_cases e2 : j = s
      · rw [if_pos e2]
        constructor
        · rintro (a | a)
          · exact Or.inl a
          · exact Or.inr (Or.inl ⟨e2, a⟩)
        · rintro (a | ⟨-, a⟩ | ⟨b, -⟩)
          · exact Or.inl a
          · exact Or.inr a
          · exact absurd e2.symm b
      · rw [if_neg e2, hwj]
        constructor
        · rintro (a | a)
          · exact Or.inl a
          · exact Or.inr (Or.inr ⟨fun e9 => e2 e9.symm, a⟩)
        · rintro (a | ⟨b, -⟩ | ⟨-, a⟩)
          · exact Or.inl a
          · exact absurd b e2
          · exact Or.inr a
    · constructor
      · rintro ((a | a) | a)
        · exact Or.inl a
        · exact Or.inr (Or.inl a)
        · exact Or.inr (Or.inr a)
      · rintro (a | a | a)
        · exact Or.inl (Or.inl a)
        · exact Or.inl (Or.inr a)
        · exact Or.inr a
  · have e3 : ¬ (0 ≤ j ∧ j < sg.1 1 ∧ s ≠ cut ∧ w j < 1000000) := fun e9 => e e9.2.2.2
    rw [if_neg e3, if_neg e3, if_neg e3, h1, h2, h3]
    have e4 : ¬ t + sg.2 4 (12 * s + j) ≤ x := by omega
    have e5 : j ≠ s := fun e9 => by rw [e9, hws, hss] at e; omega
    refine ⟨⟨Or.inl, ?_⟩, ⟨?_, ?_⟩, ⟨Or.inl, ?_⟩⟩
    · rintro (a | ⟨b, -⟩ | ⟨-, a⟩)
      · exact a
      · exact absurd b e5
      · exact absurd a e4
    · rintro (a | a)
      · exact Or.inl a
      · exact Or.inr (Or.inl a)
    · rintro (a | a | a)
      · exact Or.inl a
      · exact Or.inr a
      · exact absurd a e4
    · rintro (a | a)
      · exact a
      · exact absurd a e4
theorem Rng.rc {f w v : Int → Int} {cut s t n : Int} (h : Rng f) (ht : -2000 ≤ t ∧ t ≤ 5000) (hv : ∀ j, 0 ≤ j → j < 12 → w j < 1000000 → 0 ≤ v j ∧ v j ≤ 250000) : Rng (rcF cut s t w v f n) := by
  intro j j0 j1
  unfold rcF
  by_cases e : 0 ≤ j ∧ j < n ∧ s ≠ cut ∧ w j < 1000000
  · rw [if_pos e]
    have := hv j j0 j1 e.2.2.2
    have := h j j0 j1
    unfold mnz; split <;> omega
  · rw [if_neg e]; exact h j j0 j1
theorem Rng.b {f : Int → Int} (h : Rng f) : ∀ j, 0 ≤ j → j < 12 → -10000 ≤ f j ∧ f j ≤ 2000000 := fun j a b => by have := h j a b; omega
def E0 : EV := fun _ _ => False
/-- labels behind 'begins' -/
theorem CLab.start {sg : TS} {fa fb fr w : Int → Int} {s t cut : Int} (hT : TB sg) (hD : wyD sg) (hn : sg.1 1 ≤ 12) (hs : 0 ≤ s ∧ s < sg.1 1) (ht : 0 ≤ t ∧ t ≤ 5000) (hc : s ≠ cut) (hw : ∀ j, 0 ≤ j → j < sg.1 1 → w j = sg.2 4 (12 * s + j)) (hi : ∀ i, 0 ≤ i → i < 12 → fa i = 1000000 ∧ fb i = 1000000 ∧ fr i = 1000000) : CLab sg (b0 (sg.2 4) s t) E0 (rcF cut s t w w fa (sg.1 1)) fb (rcF cut s t w w fr (sg.1 1)) := by
  intro j j0 j1 x hx
  obtain ⟨i1, i2, i3⟩ := hi j j0 (by omega)
  have hwj := hw j j0 j1
  have hd := hD.1 (12 * s + j) (by omega) (by omega)
  have hW : ¬ WkE sg E0 j x := fun ⟨_, _, _, a, _⟩ => a
  have e : ∀ f : Int → Int, f j = 1000000 → (rcF cut s t w w f (sg.1 1) j ≤ x ↔ b0 (sg.2 4) s t j ≤ x) := fun f hf => by
    unfold rcF b0
    by_cases e : w j < 1000000
    · rw [if_pos ⟨j0, j1, hc, e⟩, mnz_le, hf, hwj]
      rw [hwj] at e
      split <;> omega
    · rw [if_neg (fun e9 => e e9.2.2.2), hf]
      rw [hwj] at e
      split <;> omega
  refine ⟨(e fr i3).trans ⟨Or.inl, ?_⟩, (e fa i1).trans ⟨Or.inl, ?_⟩, ?_⟩
  · rintro (a | a | ⟨_, a, _⟩ | ⟨_, _, _, a, _⟩)
    · exact a
    · exfalso; have b := oa2 (hT.2 2) j j0 (by omega); have e9 : BG j = 1000000 := rfl; omega
    · exact a.elim
    · exact a.elim
  · rintro (a | a)
    · exact a
    · exact absurd a hW
  · rw [i2]; exact ⟨fun a => by omega, fun a => absurd a hW⟩
/-- labels of which nothing is known yet -/
theorem CLab.none {sg : TS} {fa fb fr : Int → Int} (hT : TB sg) (hn : sg.1 1 ≤ 12) (hi : ∀ i, 0 ≤ i → i < 12 → fa i = 1000000 ∧ fb i = 1000000 ∧ fr i = 1000000) : CLab sg BG E0 fa fb fr := by
  intro j j0 j1 x hx
  obtain ⟨i1, i2, i3⟩ := hi j j0 (by omega)
  have b := oa2 (hT.2 2) j j0 (by omega)
  have e9 : BG j = 1000000 := rfl
  have hW : ¬ WkE sg E0 j x := fun ⟨_, _, _, a, _⟩ => a
  rw [i1, i2, i3]
  refine ⟨⟨fun a => by omega, ?_⟩, ⟨fun a => by omega, ?_⟩, ⟨fun a => by omega, fun a => absurd a hW⟩⟩
  · rintro (a | a | ⟨_, a, _⟩ | ⟨_, _, _, a, _⟩)
    · omega
    · omega
    · exact a.elim
    · exact a.elim
  · rintro (a | a)
    · omega
    · exact absurd a hW
theorem WkE_sp {sg : TS} {E : EV} (hD : wyD sg) {s t : Int} (hs : 0 ≤ s ∧ s < sg.1 1) : WkE sg E s t ↔ (∃ t', E s t' ∧ t' ≤ t) ∨ ∃ s' t', (0 ≤ s' ∧ s' < sg.1 1) ∧ E s' t' ∧ s' ≠ s ∧ t' + sg.2 4 (12 * s' + s) ≤ t := by
  have h0 := hD.2 s hs.1 hs.2
  constructor
  · rintro ⟨s', t', a, b, c⟩
    by_cases e : s' = s
    · subst e; exact Or.inl ⟨t', b, by omega⟩
    · exact Or.inr ⟨s', t', a, b, e, c⟩
  · rintro (⟨t', a, b⟩ | ⟨s', t', a, b, c, d⟩)
    · exact ⟨s, t', hs, a, by omega⟩
    · exact ⟨s', t', a, b, d⟩
theorem Rng.v {f : Int → Int} (h : Rng f) {s : Int} (hs : 0 ≤ s ∧ s < 12) : f s = 1000000 ∨ (-2000 ≤ f s ∧ f s ≤ 300000) := h s hs.1 hs.2
theorem CLab.ea {sg : TS} {fr mi s : Int} {fa fb fd : Int → Int} (h : CLab sg (b0 (sg.2 4) fr mi) (EvI sg (b0 (sg.2 4) fr mi) BG) fa fb fd) (hD : wyD sg) (hn : sg.1 1 ≤ 12) (hR : Rng fa) (hs : 0 ≤ s ∧ s < sg.1 1) : EA sg fr mi s (fa s) := ⟨hR.v ⟨hs.1, by omega⟩, fun t ht => by
  rw [(h s hs.1 hs.2 t ht).2.1, WkE_sp hD hs]; exact Iff.rfl⟩
theorem CLab.ean {sg : TS} {fr mi s : Int} {n : Nat} {fa fb fd : Int → Int} (h : CLab sg (b0 (sg.2 4) fr mi) (EvN sg (b0 (sg.2 4) fr mi) BG n) fa fb fd) (hD : wyD sg) (hn : sg.1 1 ≤ 12) (hR : Rng fa) (hs : 0 ≤ s ∧ s < sg.1 1) : EAn sg fr mi n s (fa s) := ⟨hR.v ⟨hs.1, by omega⟩, fun t ht => by
  rw [(h s hs.1 hs.2 t ht).2.1, WkE_sp hD hs]; exact Iff.rfl⟩
theorem CLab.byr {sg : TS} {fr mi s : Int} {fa fb fd : Int → Int} (h : CLab sg (b0 (sg.2 4) fr mi) (EvI sg (b0 (sg.2 4) fr mi) BG) fa fb fd) (hD : wyD sg) (hn : sg.1 1 ≤ 12) (hR : Rng fb) (hs : 0 ≤ s ∧ s < sg.1 1) : ByR sg fr mi s (fb s) := ⟨by have := hR.v (s := s) ⟨hs.1, by omega⟩; omega, fun t ht => by
  rw [(h s hs.1 hs.2 t ht).2.2, WkE_sp hD hs]; exact Iff.rfl⟩
/-! scanning -/
/-- boarding a run at a call: as told, or out of the events -/
def BdP (sg : TS) (f0 : Int → Int) (own : Int → Int → Prop) (E : EV) (r c : Int) : Prop := own r c ∨ (stI sg r c ≠ sg.1 5 ∧ 0 ≤ lvI sg r c ∧ RdE sg f0 BG E (stI sg r c) (lvI sg r c))
def RcP (sg : TS) (f0 : Int → Int) (own : Int → Int → Prop) (E : EV) (r c : Int) : Prop := ∃ c', 0 ≤ c' ∧ c' < c ∧ BdP sg f0 own E r c'
/-- events that tell themselves -/
def ClE (sg : TS) (f0 : Int → Int) (own : Int → Int → Prop) (E : EV) : Prop := ∀ s t, E s t ↔ ∃ r c, okR sg r ∧ c < sg.2 10 (r % 24) ∧ RcP sg f0 own E r c ∧ stI sg r c = s ∧ cmI sg r c = t ∧ s ≠ sg.1 5
theorem ClE_I (sg : TS) (f0 : Int → Int) : ClE sg f0 (fun _ _ => False) (EvI sg f0 BG) := by
  intro s t
  constructor
  · rintro ⟨n, hn⟩
    cases n with
    | zero => exact hn.elim
    | succ n =>
      obtain ⟨r, c, c', h1, h2, h3, h4, h5, h6, h7, h8, h9, h10⟩ := hn
      exact ⟨r, c, h1, h4, ⟨c', h2, h3, Or.inr ⟨h8, h9, h10.mono (fun s t x => ⟨n, x⟩)⟩⟩, h5, h6, h7⟩
  · rintro ⟨r, c, h1, h2, ⟨c', h3, h4, h5 | ⟨h5, h6, h7⟩⟩, h8, h9, h10⟩
    · exact h5.elim
    · exact EvI.alt s t ⟨r, c, c', h1, h3, h4, h2, h8, h9, h10, h5, h6, h7⟩
/-- a list of rides: places ui (runs' list), calls ci, by rising departures -/
def LstP (sg : TS) (rix : Int → Int) (n m : Int) (ui ci : Int → Int) : Prop := (∀ i, 0 ≤ i → i < m → (0 ≤ ui i ∧ ui i < n) ∧ onC sg (rix (ui i)) (ci i)) ∧ (∀ i j, 0 ≤ i → i < m → 0 ≤ j → j < m → lvI sg (rix (ui i)) (ci i) < lvI sg (rix (ui j)) (ci j) → i < j) ∧ ∀ u c, 0 ≤ u → u < n → onC sg (rix u) c → ∃ i, 0 ≤ i ∧ i < m ∧ ui i = u ∧ ci i = c
def RunP (sg : TS) (rix : Int → Int) (n : Int) : Prop := (∀ u, 0 ≤ u → u < n → okR sg (rix u)) ∧ ∀ r, okR sg r → ∃ u, 0 ≤ u ∧ u < n ∧ rix u = r
/-- events behind the first i rides -/
def ScP (sg : TS) (f0 : Int → Int) (own : Int → Int → Prop) (E : EV) (rix ui ci : Int → Int) (i : Int) : EV := fun s t => ∃ j, 0 ≤ j ∧ j < i ∧ RcP sg f0 own E (rix (ui j)) (ci j + 1) ∧ stI sg (rix (ui j)) (ci j + 1) = s ∧ cmI sg (rix (ui j)) (ci j + 1) = t ∧ s ≠ sg.1 5
/-- one is in run u behind the first i rides -/
def InP (sg : TS) (f0 : Int → Int) (own : Int → Int → Prop) (E : EV) (rix ui ci : Int → Int) (i u : Int) : Prop := ∃ j, 0 ≤ j ∧ j < i ∧ ui j = u ∧ RcP sg f0 own E (rix u) (ci j + 1)
section SCN
variable {sg : TS} {f0 : Int → Int} {own : Int → Int → Prop} {E : EV} {rix ui ci : Int → Int} {n m : Int}
theorem lv_rise (hF : WF sg) {r a c : Int} (hr : okR sg r) (ha : 0 ≤ a) (hc : a < c) (hn : c < sg.2 10 (r % 24)) : lvI sg r a < lvI sg r c := by
  have h1 := hF.2.2.1.lc hF.1 hr ha hc hn
  have h2 := hF.2.2.1.2 (r % 24) c (by have := hr.1; omega) hr.2.2.1 (by omega) hn
  have h3 := latOf_mono hF.1 (sg.1 22 + (r / 24 - 1)) (r % 24) (a := c - 1) (b := c) (by omega)
  have h4 : cmI sg r c ≤ lvI sg r c := by
    unfold cmI lvI
    rw [if_neg (show ¬ c = 0 by omega)]
    omega
  omega
theorem BdP.on (hF : WF sg) (hown : ∀ r c, own r c → 0 ≤ lvI sg r c) {r c c' : Int} (hr : okR sg r) (h0 : 0 ≤ c') (h1 : c' ≤ c) (h2 : c + 1 < sg.2 10 (r % 24)) (h : BdP sg f0 own E r c') : onC sg r c := by
  have h3 : 0 ≤ lvI sg r c' := by
    rcases h with h | h
    · exact hown _ _ h
    · exact h.2.1
  refine ⟨by omega, h2, ?_⟩
  by_cases e : c' = c
  · rw [← e]; exact h3
  · have := lv_rise hF hr h0 (show c' < c by omega) (by omega); omega
theorem ScP.le (hC : ClE sg f0 own E) (hR : RunP sg rix n) (hL : LstP sg rix n m ui ci) {i : Int} (hi : i ≤ m) : EvLe (ScP sg f0 own E rix ui ci i) E := by
  rintro s t ⟨j, a, b, c, d, e, f⟩
  have w := hL.1 j a (by omega)
  exact (hC s t).mpr ⟨rix (ui j), ci j + 1, hR.1 _ w.1.1 w.1.2, w.2.2.1, c, d, e, f⟩
/-- an event ahead of a ride's departure is told ahead of the ride -/
theorem ScP.ev (hF : WF sg) (hown : ∀ r c, own r c → 0 ≤ lvI sg r c) (hC : ClE sg f0 own E) (hR : RunP sg rix n) (hL : LstP sg rix n m ui ci) {i s t : Int} (hi : 0 ≤ i ∧ i < m) (he : E s t) (ht : t ≤ lvI sg (rix (ui i)) (ci i)) : ScP sg f0 own E rix ui ci i s t := by
  obtain ⟨r, c, h1, h2, ⟨c', h3, h4, h5⟩, h6, h7, h8⟩ := (hC s t).mp he
  obtain ⟨u, u1, u2, u3⟩ := hR.2 r h1
  have ho := h5.on hF hown h1 h3 (c := c - 1) (by omega) (by omega)
  rw [← u3] at ho
  obtain ⟨j, j1, j2, j3, j4⟩ := hL.2.2 u (c - 1) u1 u2 ho
  have h9 := hF.2.2.1.lc hF.1 h1 (show 0 ≤ c - 1 by omega) (show c - 1 < c by omega) h2
  have hlt : j < i := hL.2.1 j i j1 j2 hi.1 hi.2 (by rw [j3, j4, u3]; omega)
  refine ⟨j, j1, hlt, ?_, ?_, ?_, h8⟩
  · rw [j3, j4, u3]; exact ⟨c', h3, by omega, h5⟩
  · rw [j3, j4, u3, Int.sub_add_cancel]; exact h6
  · rw [j3, j4, u3, Int.sub_add_cancel]; exact h7
/-- what is asked at a ride is whether its next call is reached -/
theorem scan_iff (hF : WF sg) (hown : ∀ r c, own r c → 0 ≤ lvI sg r c) (hC : ClE sg f0 own E) (hR : RunP sg rix n) (hL : LstP sg rix n m ui ci) {i : Int} (hi : 0 ≤ i ∧ i < m) : (InP sg f0 own E rix ui ci i (ui i) ∨ own (rix (ui i)) (ci i) ∨ (stI sg (rix (ui i)) (ci i) ≠ sg.1 5 ∧ 0 ≤ lvI sg (rix (ui i)) (ci i) ∧ RdE sg f0 BG (ScP sg f0 own E rix ui ci i) (stI sg (rix (ui i)) (ci i)) (lvI sg (rix (ui i)) (ci i)))) ↔ RcP sg f0 own E (rix (ui i)) (ci i + 1) := by
  have w := hL.1 i hi.1 hi.2
  have hok := hR.1 _ w.1.1 w.1.2
  have hsb := fun c (a : 0 ≤ c) (b : c < sg.2 10 (rix (ui i) % 24)) => hF.2.1.run hok ⟨a, b⟩
  constructor
  · rintro (⟨j, a, b, c, c', d1, d2, d3⟩ | h | ⟨h1, h2, h3⟩)
    · refine ⟨c', d1, ?_, d3⟩
      have wj := hL.1 j a (by omega)
      by_cases e : ci i < ci j
      · have w2 := wj.2.2.1
        rw [c] at w2
        have q := lv_rise hF hok w.2.1 e (by omega)
        have q2 := hL.2.1 i j hi.1 hi.2 a (by omega) (by rw [c]; exact q)
        omega
      · omega
    · exact ⟨ci i, w.2.1, by omega, Or.inl h⟩
    · exact ⟨ci i, w.2.1, by omega, Or.inr ⟨h1, h2, h3.mono (ScP.le hC hR hL (by omega))⟩⟩
  · rintro ⟨c', h1, h2, h3⟩
    by_cases e : c' = ci i
    · subst e
      rcases h3 with h3 | ⟨h4, h5, h6⟩
      · exact Or.inr (Or.inl h3)
      · refine Or.inr (Or.inr ⟨h4, h5, ?_⟩)
        have hst := hsb (ci i) w.2.1 (by have := w.2.2.1; omega)
        have hn := of1 (hF.1.1 1)
        have hch := oa2 (hF.1.2 2) (stI sg (rix (ui i)) (ci i)) hst.1 (by omega)
        rcases h6 with a | a | ⟨t', a, b⟩ | ⟨s', t', a, b, c, d⟩
        · exact Or.inl a
        · exact Or.inr (Or.inl a)
        · exact Or.inr (Or.inr (Or.inl ⟨t', ScP.ev hF hown hC hR hL hi a (by omega), b⟩))
        · have hwy := oa4 (hF.1.2 4) (12 * s' + stI sg (rix (ui i)) (ci i)) (by omega) (by omega)
          exact Or.inr (Or.inr (Or.inr ⟨s', t', a, ScP.ev hF hown hC hR hL hi b (by omega), c, d⟩))
    · left
      have ho := h3.on hF hown hok h1 (Int.le_refl _) (by have := w.2.2.1; omega)
      obtain ⟨j, j1, j2, j3, j4⟩ := hL.2.2 (ui i) c' w.1.1 w.1.2 ho
      have q := lv_rise hF hok h1 (show c' < ci i by omega) (by have := w.2.2.1; omega)
      have hlt : j < i := hL.2.1 j i j1 j2 hi.1 hi.2 (by rw [j3, j4]; exact q)
      exact ⟨j, j1, hlt, j3, c', h1, by omega, h3⟩
theorem ScP.y {i : Int} (hi : 0 ≤ i) (h : RcP sg f0 own E (rix (ui i)) (ci i + 1)) (hc : stI sg (rix (ui i)) (ci i + 1) ≠ sg.1 5) : EvEq (evAdd (ScP sg f0 own E rix ui ci i) (stI sg (rix (ui i)) (ci i + 1)) (cmI sg (rix (ui i)) (ci i + 1))) (ScP sg f0 own E rix ui ci (i + 1)) := by
  intro s t
  constructor
  · rintro (⟨j, a, b, c⟩ | ⟨rfl, rfl⟩)
    · exact ⟨j, a, by omega, c⟩
    · exact ⟨i, hi, by omega, h, rfl, rfl, hc⟩
  · rintro ⟨j, a, b, c, d, e, f⟩
    by_cases e9 : j = i
    · subst e9; exact Or.inr ⟨d.symm, e.symm⟩
    · exact Or.inl ⟨j, a, by omega, c, d, e, f⟩
theorem ScP.no {i : Int} (h : ¬ (RcP sg f0 own E (rix (ui i)) (ci i + 1) ∧ stI sg (rix (ui i)) (ci i + 1) ≠ sg.1 5)) : EvEq (ScP sg f0 own E rix ui ci i) (ScP sg f0 own E rix ui ci (i + 1)) := by
  intro s t
  constructor
  · rintro ⟨j, a, b, c⟩; exact ⟨j, a, by omega, c⟩
  · rintro ⟨j, a, b, c, d, e, f⟩
    by_cases e9 : j = i
    · subst e9; exact absurd ⟨c, by rw [d]; exact f⟩ h
    · exact ⟨j, a, by omega, c, d, e, f⟩
theorem ScP.all (hF : WF sg) (hown : ∀ r c, own r c → 0 ≤ lvI sg r c) (hC : ClE sg f0 own E) (hR : RunP sg rix n) (hL : LstP sg rix n m ui ci) : EvEq (ScP sg f0 own E rix ui ci m) E := fun s t => ⟨ScP.le hC hR hL (Int.le_refl _) s t, fun he => by
  obtain ⟨r, c, h1, h2, ⟨c', h3, h4, h5⟩, h6, h7, h8⟩ := (hC s t).mp he
  obtain ⟨u, u1, u2, u3⟩ := hR.2 r h1
  have ho := h5.on hF hown h1 h3 (c := c - 1) (by omega) (by omega)
  rw [← u3] at ho
  obtain ⟨j, j1, j2, j3, j4⟩ := hL.2.2 u (c - 1) u1 u2 ho
  refine ⟨j, j1, j2, ?_, ?_, ?_, h8⟩
  · rw [j3, j4, u3]; exact ⟨c', h3, by omega, h5⟩
  · rw [j3, j4, u3, Int.sub_add_cancel]; exact h6
  · rw [j3, j4, u3, Int.sub_add_cancel]; exact h7⟩
theorem InP.y {i u : Int} (hi : 0 ≤ i) (h : RcP sg f0 own E (rix (ui i)) (ci i + 1)) : InP sg f0 own E rix ui ci (i + 1) u ↔ u = ui i ∨ InP sg f0 own E rix ui ci i u := by
  constructor
  · rintro ⟨j, a, b, c, d⟩
    by_cases e9 : j = i
    · subst e9; exact Or.inl c.symm
    · exact Or.inr ⟨j, a, by omega, c, d⟩
  · rintro (rfl | ⟨j, a, b, c, d⟩)
    · exact ⟨i, hi, by omega, rfl, h⟩
    · exact ⟨j, a, by omega, c, d⟩
theorem InP.no {i u : Int} (h : ¬ RcP sg f0 own E (rix (ui i)) (ci i + 1)) : InP sg f0 own E rix ui ci (i + 1) u ↔ InP sg f0 own E rix ui ci i u := by
  constructor
  · rintro ⟨j, a, b, c, d⟩
    by_cases e9 : j = i
    · subst e9; rw [← c] at d; exact absurd d h
    · exact ⟨j, a, by omega, c, d⟩
  · rintro ⟨j, a, b, c, d⟩; exact ⟨j, a, by omega, c, d⟩
end SCN
theorem RdsA.lst {K : KT} {h : MH} {e0 a e : Nat} {m : Int} {sg : TS} {rix : Int → Int} {n : Int} {p : Int → Nat} {q : Int → Nat} {ui ci : Int → Int} (L : RdsA K h e0 a e m sg rix n p (fun r c => lvI sg r c) q ui ci) (hT : TB sg) (hn : n ≤ 72) (hok : ∀ u, 0 ≤ u → u < n → okR sg (rix u)) : LstP sg rix n m ui ci := by
  refine ⟨fun i a b => ⟨(L.2.1 i a b).1, (L.2.1 i a b).2.1⟩, fun i j i0 i1 j0 j1 hlt => ?_, L.2.2.2⟩
  by_cases e : i < j
  · exact e
  · exfalso
    have wi := L.2.1 i i0 i1
    have wj := L.2.1 j j0 j1
    have ok1 := hok _ wi.1.1 wi.1.2
    have ok2 := hok _ wj.1.1 wj.1.2
    have n1 := oa10 (hT.2 10) (rix (ui i) % 24) (by have := ok1.1; omega) (by have := ok1.1; omega)
    have n2 := oa10 (hT.2 10) (rix (ui j) % 24) (by have := ok2.1; omega) (by have := ok2.1; omega)
    have a1 := wi.2.1.1
    have a2 := wi.2.1.2.1
    have b1 := wj.2.1.1
    have b2 := wj.2.1.2.1
    by_cases e2 : j = i
    · rw [e2] at hlt; omega
    · have u := L.2.2.1 j i j0 (by omega) i1
      unfold rk3 at u
      dsimp only at u
      omega
theorem RunsA.rp {K : KT} {h : MH} {e0 a e : Nat} {n : Int} {sg : TS} {rix : Int → Int} {p : Int → Nat} (L : RunsA K h e0 a e n sg rix p) : RunP sg rix n := ⟨fun u a b => (L.2.1 u a b).1, L.2.2.2⟩
