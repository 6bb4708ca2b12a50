/-! the last chance: rides out of which one still comes in time (plain words) -/
def TrB (sg : TS) (s t s' t' : Int) : Prop := (s' = s ∧ t + sg.2 2 s ≤ t') ∨ (s' ≠ s ∧ t + sg.2 4 (12 * s + s') ≤ t')
def BgN (sg : TS) (to mi : Int) : Nat → Int → Int → Prop
  | 0 => fun _ _ => False
  | n + 1 => fun r c => okR sg r ∧ onC sg r c ∧ ∃ c2, c < c2 ∧ c2 < sg.2 10 (r % 24) ∧ (cmI sg r c2 + sg.2 4 (12 * stI sg r c2 + to) ≤ mi ∨ ∃ r' c', BgN sg to mi n r' c' ∧ TrB sg (stI sg r c2) (cmI sg r c2) (stI sg r' c') (lvI sg r' c'))
def BgI (sg : TS) (to mi r c : Int) : Prop := ∃ n, BgN sg to mi n r c
theorem BgI.ok {sg : TS} {to mi r c : Int} (h : BgI sg to mi r c) : okR sg r ∧ onC sg r c := by
  obtain ⟨n, h⟩ := h
  cases n with
  | zero => exact h.elim
  | succ n => exact ⟨h.1, h.2.1⟩
theorem stN {sg : TS} (hF : WF sg) (hc : sg.1 5 = -1) {r c : Int} (hr : okR sg r) (h : 0 ≤ c ∧ c < sg.2 10 (r % 24)) : stI sg r c ≠ sg.1 5 := by
  have := hF.2.1.run hr h; omega
theorem BgI.back {sg : TS} {to mi : Int} {f0 : Int → Int} (hF : WF sg) : ∀ n s t, EvN sg f0 BG n s t → (t + sg.2 4 (12 * s + to) ≤ mi ∨ ∃ r' c', BgI sg to mi r' c' ∧ TrB sg s t (stI sg r' c') (lvI sg r' c')) → ∃ r c, BgI sg to mi r c ∧ f0 (stI sg r c) ≤ lvI sg r c := by
  intro n
  induction n with
  | zero => intro s t h; exact h.elim
  | succ n ih =>
    rintro s t ⟨k, c, c', h1, h2, h3, h4, h5, h6, h7, h8, h9, h10⟩ hw
    have hb : BgI sg to mi k c' := by
      rcases hw with hw | ⟨r', c2, ⟨m, hm⟩, ht⟩
      · exact ⟨1, h1, ⟨h2, by omega, h9⟩, c, h3, h4, Or.inl (by rw [h5, h6]; exact hw)⟩
      · exact ⟨m + 1, h1, ⟨h2, by omega, h9⟩, c, h3, h4, Or.inr ⟨r', c2, hm, by rw [h5, h6]; exact ht⟩⟩
    have hn := oa10 (hF.1.2 10) (k % 24) (by have := h1.1; omega) (by have := h1.2.1; omega)
    have lb := lvI_b hF.1 (r := k) (c := c') ⟨h1.1, h1.2.1⟩ ⟨h2, by omega⟩
    have s2 := hF.2.1.run h1 (c := c') ⟨h2, by omega⟩
    have hn1 := of1 (hF.1.1 1)
    have hch := oa2 (hF.1.2 2) (stI sg k c') (by omega) (by omega)
    rcases h10 with g | g | ⟨t', g1, g2⟩ | ⟨s', t', g0, g1, g2, g3⟩
    · exact ⟨k, c', hb, g⟩
    · exfalso; unfold BG at g; omega
    · exact ih _ _ g1 (Or.inr ⟨k, c', hb, Or.inl ⟨rfl, g2⟩⟩)
    · exact ih _ _ g1 (Or.inr ⟨k, c', hb, Or.inr ⟨fun e => g2 e.symm, g3⟩⟩)
theorem BgI.fwd {sg : TS} {to mi : Int} {f0 : Int → Int} (hF : WF sg) (hc : sg.1 5 = -1) : ∀ n r c, BgN sg to mi n r c → RdE sg f0 BG (EvI sg f0 BG) (stI sg r c) (lvI sg r c) → ∃ s t, EvI sg f0 BG s t ∧ (0 ≤ s ∧ s < sg.1 1) ∧ t + sg.2 4 (12 * s + to) ≤ mi := by
  intro n
  induction n with
  | zero => intro r c h; exact h.elim
  | succ n ih =>
    rintro r c ⟨h1, ⟨o1, o2, o3⟩, c2, h2, h3, h4⟩ hr
    have n1 := stN hF hc h1 (c := c) ⟨o1, by omega⟩
    have n2 := stN hF hc h1 (c := c2) ⟨by omega, h3⟩
    have s2 := hF.2.1.run h1 (c := c2) ⟨by omega, h3⟩
    have he : EvI sg f0 BG (stI sg r c2) (cmI sg r c2) := EvI.alt _ _ ⟨r, c2, c, h1, o1, h2, h3, rfl, rfl, n2, n1, o3, hr⟩
    rcases h4 with h4 | ⟨r', c', hb, ht⟩
    · exact ⟨_, _, he, s2, h4⟩
    · refine ih r' c' hb ?_
      rcases ht with ⟨e, ht⟩ | ⟨e, ht⟩
      · exact Or.inr (Or.inr (Or.inl ⟨_, by rw [e]; exact he, by rw [e]; exact ht⟩))
      · exact Or.inr (Or.inr (Or.inr ⟨_, _, s2, he, fun e9 => e e9.symm, ht⟩))
theorem ArB_bg {sg : TS} {fr v to mi : Int} (hF : WF sg) (hc : sg.1 5 = -1) (ht : 0 ≤ to ∧ to < sg.1 1) : ArB sg fr v to mi ↔ b0 (sg.2 4) fr v to ≤ mi ∨ ∃ r c, BgI sg to mi r c ∧ b0 (sg.2 4) fr v (stI sg r c) ≤ lvI sg r c := by
  have hto := hF.2.2.2.2 to ht.1 ht.2
  constructor
  · rintro (h | ⟨t', ⟨n, h⟩, h2⟩ | ⟨s', t', h0, ⟨n, h⟩, h2, h3⟩)
    · exact Or.inl h
    · exact Or.inr (BgI.back hF n _ _ h (Or.inl (by omega)))
    · exact Or.inr (BgI.back hF n _ _ h (Or.inl h3))
  · rintro (h | ⟨r, c, ⟨n, h⟩, h2⟩)
    · exact Or.inl h
    · obtain ⟨s, t, h3, h4, h5⟩ := BgI.fwd (f0 := b0 (sg.2 4) fr v) hF hc n r c h (Or.inl h2)
      by_cases e : s = to
      · subst e; exact Or.inr (Or.inl ⟨t, h3, by omega⟩)
      · exact Or.inr (Or.inr ⟨s, t, h4, h3, e, h5⟩)
theorem b0_ge {w : Int → Int} {fr v s : Int} (hv : v ≤ 1000000) (hw : 0 ≤ w (12 * fr + s)) : v ≤ b0 w fr v s := by
  unfold b0; split <;> omega
theorem EvN_ge {sg : TS} {fr v : Int} (hF : WF sg) (hf : 0 ≤ fr ∧ fr < sg.1 1) (hv : v ≤ 1000000) : ∀ n s t, EvN sg (b0 (sg.2 4) fr v) BG n s t → v ≤ t := by
  have hn1 := of1 (hF.1.1 1)
  intro n
  induction n with
  | zero => intro s t h; exact h.elim
  | succ n ih =>
    rintro s t ⟨k, c, c', h1, h2, h3, h4, h5, h6, h7, h8, h9, h10⟩
    have hl := hF.2.2.1.lc hF.1 h1 h2 h3 h4
    have s2 := hF.2.1.run h1 (c := c') ⟨h2, by omega⟩
    have hch := oa2 (hF.1.2 2) (stI sg k c') (by omega) (by omega)
    have hl2 : v ≤ lvI sg k c' := by
      rcases h10 with g | g | ⟨t', g1, g2⟩ | ⟨s', t', g0, g1, g2, g3⟩
      · have := b0_ge (w := sg.2 4) (fr := fr) (s := stI sg k c') hv (oa4 (hF.1.2 4) _ (by omega) (by omega)).1
        omega
      · unfold BG at g; omega
      · have := ih _ _ g1; omega
      · have := ih _ _ g1
        have := oa4 (hF.1.2 4) (12 * s' + stI sg k c') (by omega) (by omega)
        omega
    omega
theorem ArB_ge {sg : TS} {fr v to mi : Int} (hF : WF sg) (hf : 0 ≤ fr ∧ fr < sg.1 1) (ht : 0 ≤ to ∧ to < sg.1 1) (hv : v ≤ 1000000) (h : ArB sg fr v to mi) : v ≤ mi := by
  have hn1 := of1 (hF.1.1 1)
  rcases h with h | ⟨t', ⟨n, h⟩, h2⟩ | ⟨s', t', h0, ⟨n, h⟩, h2, h3⟩
  · have := b0_ge (w := sg.2 4) (fr := fr) (s := to) hv (oa4 (hF.1.2 4) _ (by omega) (by omega)).1
    omega
  · have := EvN_ge hF hf hv n _ _ h; omega
  · have := EvN_ge hF hf hv n _ _ h
    have := oa4 (hF.1.2 4) (12 * s' + to) (by omega) (by omega)
    omega
/-- the list of rides, the latest arrivals first -/
def LstA (sg : TS) (rix : Int → Int) (n m : Int) (ui ci : Int → Int) : Prop := (∀ i, 0 ≤ i → i < m → (0 ≤ ui i ∧ ui i < n) ∧ onC sg (rix (ui i)) (ci i)) ∧ (∀ i j, 0 ≤ i → i < m → 0 ≤ j → j < m → cmI sg (rix (ui j)) (ci j + 1) < cmI sg (rix (ui i)) (ci i + 1) → i < j) ∧ ∀ u c, 0 ≤ u → u < n → onC sg (rix u) c → ∃ i, 0 ≤ i ∧ i < m ∧ ui i = u ∧ ci i = c
theorem RdsA.lstA {K : KT} {h : MH} {e0 a e : Nat} {m : Int} {sg : TS} {rix : Int → Int} {n : Int} {p : Int → Nat} {q : Int → Nat} {ui ci : Int → Int} (L : RdsA K h e0 a e m sg rix n p (fun r c => -(cmI sg r (c + 1))) q ui ci) (hT : TB sg) (hn : n ≤ 72) (hok : ∀ u, 0 ≤ u → u < n → okR sg (rix u)) : LstA sg rix n m ui ci := by
  refine ⟨fun i a b => ⟨(L.2.1 i a b).1, (L.2.1 i a b).2.1⟩, fun i j i0 i1 j0 j1 hlt => ?_, L.2.2.2⟩
  by_cases e : i < j
  · exact e
  · exfalso
    have wi := L.2.1 i i0 i1
    have wj := L.2.1 j j0 j1
    have ok1 := hok _ wi.1.1 wi.1.2
    have ok2 := hok _ wj.1.1 wj.1.2
    have n1 := oa10 (hT.2 10) (rix (ui i) % 24) (by have := ok1.1; omega) (by have := ok1.1; omega)
    have n2 := oa10 (hT.2 10) (rix (ui j) % 24) (by have := ok2.1; omega) (by have := ok2.1; omega)
    have a1 := wi.2.1.1
    have a2 := wi.2.1.2.1
    have a3 := wj.2.1.1
    have a4 := wj.2.1.2.1
    by_cases e2 : i = j
    · rw [e2] at hlt; omega
    · have o : rk3 (-(cmI sg (rix (ui j)) (ci j + 1))) (ui j) (ci j) < rk3 (-(cmI sg (rix (ui i)) (ci i + 1))) (ui i) (ci i) := L.2.2.1 j i j0 (by omega) i1
      unfold rk3 at o
      omega
/-- ready minutes told by the rides read so far -/
def RdyP (sg : TS) (to mi : Int) (rix ui ci : Int → Int) (i k t : Int) : Prop := ∃ j, 0 ≤ j ∧ j < i ∧ BgI sg to mi (rix (ui j)) (ci j) ∧ stI sg (rix (ui j)) (ci j) = k ∧ t ≤ lvI sg (rix (ui j)) (ci j)
def GdP (sg : TS) (to mi : Int) (rix ui ci : Int → Int) (i u : Int) : Prop := ∃ j, 0 ≤ j ∧ j < i ∧ ui j = u ∧ BgI sg to mi (rix u) (ci j)
/-- what is asked at a stop k behind a ride that comes to stop s at minute t -/
def AskP (sg : TS) (to mi : Int) (rix ui ci : Int → Int) (i s t k : Int) : Prop := sg.2 4 (12 * s + k) < 1000000 ∧ ((k = to ∧ t + sg.2 4 (12 * s + k) ≤ mi) ∨ RdyP sg to mi rix ui ci i k (if k = s then t + sg.2 2 s else t + sg.2 4 (12 * s + k)))
theorem cm_lv {sg : TS} (hF : WF sg) {r c : Int} (hr : okR sg r) (h0 : 0 ≤ c) (h1 : c < sg.2 10 (r % 24)) : cmI sg r c ≤ lvI sg r c := by
  have h2 := hF.2.2.1.2 (r % 24) c (by have := hr.1; omega) hr.2.2.1 h0 h1
  have h3 := latOf_mono hF.1 (sg.1 22 + (r / 24 - 1)) (r % 24) (a := c - 1) (b := c) (by omega)
  have h4 := latOf_b hF.1 (sg.1 22 + (r / 24 - 1)) (r % 24) c
  unfold cmI lvI
  split <;> omega
theorem good_iff {sg : TS} {to mi : Int} {rix ui ci : Int → Int} {n m i : Int} (hF : WF sg) (hc : sg.1 5 = -1) (hmi : mi ≤ 100000) (ht : 0 ≤ to ∧ to < sg.1 1) (hL : LstA sg rix n m ui ci) (hR : RunP sg rix n) (hn : n ≤ 72) (hinj : ∀ i j, 0 ≤ i → i < n → 0 ≤ j → j < n → rix i = rix j → i = j) (hi : 0 ≤ i ∧ i < m) : BgI sg to mi (rix (ui i)) (ci i) ↔ GdP sg to mi rix ui ci i (ui i) ∨ ∃ k, (0 ≤ k ∧ k < sg.1 1) ∧ AskP sg to mi rix ui ci i (stI sg (rix (ui i)) (ci i + 1)) (cmI sg (rix (ui i)) (ci i + 1)) k := by
  obtain ⟨hu, hon⟩ := hL.1 i hi.1 hi.2
  have hok := hR.1 _ hu.1 hu.2
  obtain ⟨o1, o2, o3⟩ := id hon
  have hn8 := oa10 (hF.1.2 10) (rix (ui i) % 24) (by have := hok.1; omega) (by have := hok.1; omega)
  have hs := hF.2.1.run hok (c := ci i + 1) ⟨by omega, o2⟩
  have hw0 := hF.2.2.2.2 _ hs.1 hs.2
  have hn1 := of1 (hF.1.1 1)
  -- the same run, behind the next call
  have arr : ∀ c c', 0 ≤ c → c < c' → c' < sg.2 10 (rix (ui i) % 24) → cmI sg (rix (ui i)) c < cmI sg (rix (ui i)) c' := fun c c' a b e => by
    have h1 := hF.2.2.1.lc hF.1 hok a b e
    have h2 : cmI sg (rix (ui i)) c ≤ lvI sg (rix (ui i)) c := cm_lv hF hok a (by omega)
    omega
  constructor
  · rintro ⟨n0, hb⟩
    cases n0 with
    | zero => exact hb.elim
    | succ n0 =>
      obtain ⟨-, -, c2, h2, h3, h4⟩ := hb
      by_cases e : c2 = ci i + 1
      · subst e
        rcases h4 with h4 | ⟨r', c', hb, htr⟩
        · have hcb := cmI_b hF.1 (r := rix (ui i)) (c := ci i + 1) ⟨hok.1, hok.2.1⟩ ⟨by omega, by omega⟩
          exact Or.inr ⟨to, ht, by omega, Or.inl ⟨rfl, h4⟩⟩
        · have hbo := BgI.ok ⟨n0, hb⟩
          obtain ⟨u', u0, u1, u2⟩ := hR.2 r' hbo.1
          obtain ⟨j, j0, j1, j2, j3⟩ := hL.2.2 u' c' u0 u1 (by rw [u2]; exact hbo.2)
          have hs' := hF.2.1.run hbo.1 (c := c') ⟨hbo.2.1, by have := hbo.2.2.1; omega⟩
          have hl := hF.2.2.1.lc hF.1 hbo.1 hbo.2.1 (show c' < c' + 1 by omega) hbo.2.2.1
          have hlb := lvI_b hF.1 (r := r') (c := c') ⟨hbo.1.1, hbo.1.2.1⟩ ⟨hbo.2.1, by have := hbo.2.2.1; have := oa10 (hF.1.2 10) (r' % 24) (by have := hbo.1.1; omega) (by have := hbo.1.1; omega); omega⟩
          have hch := oa2 (hF.1.2 2) (stI sg (rix (ui i)) (ci i + 1)) (by omega) (by omega)
          have hwb := oa4 (hF.1.2 4) (12 * stI sg (rix (ui i)) (ci i + 1) + stI sg r' c') (by omega) (by omega)
          have hcb := cmI_b hF.1 (r := rix (ui i)) (c := ci i + 1) ⟨hok.1, hok.2.1⟩ ⟨by omega, by omega⟩
          have hji : j < i := by
            refine hL.2.1 j i j0 j1 hi.1 hi.2 ?_
            rw [j2, j3, u2]
            rcases htr with ⟨-, h9⟩ | ⟨-, h9⟩ <;> omega
          refine Or.inr ⟨stI sg r' c', hs', ?_, Or.inr ⟨j, j0, hji, by rw [j2, j3, u2]; exact ⟨n0, hb⟩, by rw [j2, j3, u2], ?_⟩⟩
          · rcases htr with ⟨e9, h9⟩ | ⟨-, h9⟩
            · rw [e9, hw0]; decide
            · omega
          · rw [j2, j3, u2]
            rcases htr with ⟨e9, h9⟩ | ⟨e9, h9⟩
            · rw [if_pos e9]; exact h9
            · rw [if_neg e9]; exact h9
      · -- one call on in the same run
        have hon2 : onC sg (rix (ui i)) (ci i + 1) := ⟨by omega, by omega, by
          have h5 := hF.2.2.1.lc hF.1 hok o1 (show ci i < ci i + 1 by omega) (by omega)
          have h6 : cmI sg (rix (ui i)) (ci i + 1) ≤ lvI sg (rix (ui i)) (ci i + 1) := cm_lv hF hok (by omega) (by omega)
          omega⟩
        obtain ⟨j, j0, j1, j2, j3⟩ := hL.2.2 (ui i) (ci i + 1) hu.1 hu.2 hon2
        have hji : j < i := by
          refine hL.2.1 j i j0 j1 hi.1 hi.2 ?_
          rw [j2, j3]
          exact arr _ _ (by omega) (by omega) (by omega)
        exact Or.inl ⟨j, j0, hji, j2, by rw [j3]; exact ⟨n0 + 1, hok, hon2, c2, by omega, h3, h4⟩⟩
  · rintro (⟨j, j0, j1, j2, n0, hb⟩ | ⟨k, hk, hw, h4 | ⟨j, j0, j1, ⟨n0, hb⟩, j3, j4⟩⟩)
    · obtain ⟨hu', hon'⟩ := hL.1 j j0 (by omega)
      rw [j2] at hon'
      have hlt : ci i ≤ ci j := by
        by_cases e : ci i ≤ ci j
        · exact e
        · exfalso
          have h5 := arr (ci j + 1) (ci i + 1) (by have := hon'.1; omega) (by omega) o2
          have := hL.2.1 i j hi.1 hi.2 j0 (by omega) (by rw [j2]; exact h5)
          omega
      cases n0 with
      | zero => exact hb.elim
      | succ n0 =>
        obtain ⟨-, -, c2, h2, h3, h4⟩ := hb
        exact ⟨n0 + 1, hok, hon, c2, by omega, h3, h4⟩
    · refine ⟨1, hok, hon, ci i + 1, by omega, o2, Or.inl ?_⟩
      rw [← h4.1]; exact h4.2
    · refine ⟨n0 + 1, hok, hon, ci i + 1, by omega, o2, Or.inr ⟨_, _, hb, ?_⟩⟩
      rw [j3]
      by_cases e : k = stI sg (rix (ui i)) (ci i + 1)
      · rw [if_pos e] at j4; exact Or.inl ⟨e, j4⟩
      · rw [if_neg e] at j4; exact Or.inr ⟨e, j4⟩
/-- the last minute -/
def LsV (sg : TS) (fr to mi L : Int) : Prop := L ≤ mi ∧ ∀ v, -100000 ≤ v → v ≤ 100000 → (ArB sg fr v to mi ↔ v ≤ L)
def GoI (b : Int) (P : Prop) : Prop := b = 1 ↔ P
theorem GoI.step {b b' k : Int} {A : Prop} {P : Int → Prop} (h : GoI b (A ∨ ∃ j, (0 ≤ j ∧ j < k) ∧ P j)) (h0 : b = 0) (hk : 0 ≤ k) (hb : b' = 1 ↔ P k) : GoI b' (A ∨ ∃ j, (0 ≤ j ∧ j < k + 1) ∧ P j) := by
  have hn : ¬ (A ∨ ∃ j, (0 ≤ j ∧ j < k) ∧ P j) := fun h9 => by have := h.mpr h9; omega
  unfold GoI
  rw [hb]
  constructor
  · exact fun h9 => Or.inr ⟨k, ⟨hk, by omega⟩, h9⟩
  · rintro (h9 | ⟨j, h8, h9⟩)
    · exact absurd (Or.inl h9) hn
    · by_cases e : j = k
      · rw [← e]; exact h9
      · exact absurd (Or.inr ⟨j, ⟨h8.1, by omega⟩, h9⟩) hn
theorem GoI.to {b : Int} {P R : Prop} (h : GoI b P) (e : P ↔ R) : GoI b R := Iff.trans h e
theorem GoI.y {b : Int} {P : Prop} (h : GoI b P) (e : b ≠ 0) (hb : b = 0 ∨ b = 1) : P := h.mp (by omega)
theorem GoI.n {b : Int} {P : Prop} (h : GoI b P) (e : b = 0) : ¬ P := fun h9 => by have := h.mpr h9; omega
section LAST
variable {sg : TS} {to mi i : Int} {rix ui ci : Int → Int}
def RdyF (sg : TS) (to mi : Int) (rix ui ci : Int → Int) (i : Int) (rd : Int → Int) : Prop := ∀ k, 0 ≤ k → k < 12 → (rd k = -1000000 ∨ (0 ≤ rd k ∧ rd k ≤ 4500)) ∧ ∀ t, -900000 < t → (t ≤ rd k ↔ RdyP sg to mi rix ui ci i k t)
theorem RdyP_s {k t : Int} (hi : 0 ≤ i) : RdyP sg to mi rix ui ci (i + 1) k t ↔ RdyP sg to mi rix ui ci i k t ∨ (BgI sg to mi (rix (ui i)) (ci i) ∧ stI sg (rix (ui i)) (ci i) = k ∧ t ≤ lvI sg (rix (ui i)) (ci i)) := by
  constructor
  · rintro ⟨j, j0, j1, j2⟩
    by_cases e : j = i
    · subst e; exact Or.inr j2
    · exact Or.inl ⟨j, j0, by omega, j2⟩
  · rintro (⟨j, j0, j1, j2⟩ | h)
    · exact ⟨j, j0, by omega, j2⟩
    · exact ⟨i, hi, by omega, h⟩
theorem RdyF.z : RdyF sg to mi rix ui ci 0 (fun _ => -1000000) := fun k a b => ⟨Or.inl rfl, fun t c => ⟨fun h => by dsimp only at h; omega, fun ⟨j, h1, h2, _⟩ => by omega⟩⟩
theorem RdyF.cg {rd rd' : Int → Int} (H : RdyF sg to mi rix ui ci i rd) (e : ∀ k, 0 ≤ k → k < 12 → rd' k = rd k) : RdyF sg to mi rix ui ci i rd' := fun k a b => by rw [e k a b]; exact H k a b
theorem RdyF.n {rd : Int → Int} (H : RdyF sg to mi rix ui ci i rd) (hi : 0 ≤ i) (hb : ¬ BgI sg to mi (rix (ui i)) (ci i)) : RdyF sg to mi rix ui ci (i + 1) rd := fun k a b => ⟨(H k a b).1, fun t c => by
  rw [RdyP_s hi, (H k a b).2 t c]
  exact ⟨Or.inl, fun h => h.elim id (fun h9 => absurd h9.1 hb)⟩⟩
theorem RdyF.y {rd : Int → Int} (H : RdyF sg to mi rix ui ci i rd) (hi : 0 ≤ i) (hb : BgI sg to mi (rix (ui i)) (ci i)) (hl : 0 ≤ lvI sg (rix (ui i)) (ci i) ∧ lvI sg (rix (ui i)) (ci i) ≤ 4500) : RdyF sg to mi rix ui ci (i + 1) (upz rd (stI sg (rix (ui i)) (ci i)) (if rd (stI sg (rix (ui i)) (ci i)) < lvI sg (rix (ui i)) (ci i) then lvI sg (rix (ui i)) (ci i) else rd (stI sg (rix (ui i)) (ci i)))) := fun k a b => by
  obtain ⟨h1, h2⟩ := H k a b
  unfold upz
  by_cases e : k = stI sg (rix (ui i)) (ci i)
  · rw [if_pos e, ← e]
    refine ⟨by split <;> omega, fun t c => ?_⟩
    rw [RdyP_s hi, ← h2 t c]
    constructor
    · intro h
      split at h
      · exact Or.inr ⟨hb, e.symm, h⟩
      · exact Or.inl h
    · rintro (h | ⟨-, -, h⟩)
      · split <;> omega
      · split <;> omega
  · rw [if_neg e]
    refine ⟨h1, fun t c => ?_⟩
    rw [RdyP_s hi, ← h2 t c]
    exact ⟨Or.inl, fun h => h.elim id (fun h9 => absurd h9.2.1.symm e)⟩
theorem GdP_s {u : Int} (hi : 0 ≤ i) : GdP sg to mi rix ui ci (i + 1) u ↔ GdP sg to mi rix ui ci i u ∨ (u = ui i ∧ BgI sg to mi (rix (ui i)) (ci i)) := by
  constructor
  · rintro ⟨j, j0, j1, j2, j3⟩
    by_cases e : j = i
    · subst e; exact Or.inr ⟨j2.symm, by rw [j2]; exact j3⟩
    · exact Or.inl ⟨j, j0, by omega, j2, j3⟩
  · rintro (⟨j, j0, j1, j2⟩ | ⟨h1, h2⟩)
    · exact ⟨j, j0, by omega, j2⟩
    · exact ⟨i, hi, by omega, h1.symm, by rw [h1]; exact h2⟩
/-- what lastBy answers out of the ready minutes -/
def lbK (w rd : Int → Int) (b : Int) : Nat → Int
  | 0 => b
  | k + 1 => if w (k : Int) < 1000000 then (if lbK w rd b k < rd (k : Int) - w (k : Int) then rd (k : Int) - w (k : Int) else lbK w rd b k) else lbK w rd b k
theorem lbK_s {w rd : Int → Int} {b : Int} {k : Nat} : lbK w rd b (k + 1) = if w (k : Int) < 1000000 then (if lbK w rd b k < rd (k : Int) - w (k : Int) then rd (k : Int) - w (k : Int) else lbK w rd b k) else lbK w rd b k := rfl
theorem lbK_le {w rd : Int → Int} {b v : Int} : ∀ k : Nat, v ≤ lbK w rd b k ↔ v ≤ b ∨ ∃ j : Int, (0 ≤ j ∧ j < (k : Int)) ∧ w j < 1000000 ∧ v + w j ≤ rd j
  | 0 => ⟨Or.inl, fun h => h.elim id (fun ⟨j, h1, _⟩ => by omega)⟩
  | k + 1 => by
    have ih := lbK_le (w := w) (rd := rd) (b := b) (v := v) k
    have e : v ≤ lbK w rd b (k + 1) ↔ v ≤ lbK w rd b k ∨ (w (k : Int) < 1000000 ∧ v + w (k : Int) ≤ rd (k : Int)) := by
      rw [lbK_s]
      by_cases h : w (k : Int) < 1000000
      · rw [if_pos h]; split <;> omega
      · rw [if_neg h]; omega
    rw [e, ih]
    constructor
    · rintro ((h | ⟨j, h1, h2⟩) | h)
      · exact Or.inl h
      · exact Or.inr ⟨j, by omega, h2⟩
      · exact Or.inr ⟨(k : Int), by omega, h⟩
    · rintro (h | ⟨j, h1, h2⟩)
      · exact Or.inl (Or.inl h)
      · by_cases e : j = (k : Int)
        · rw [e] at h2; exact Or.inr h2
        · exact Or.inl (Or.inr ⟨j, by omega, h2⟩)
theorem lbK_b {w rd : Int → Int} {b : Int} (hb : -1000000 ≤ b ∧ b ≤ 20000) (hw : ∀ j, 0 ≤ j → j < 12 → 0 ≤ w j) (hr : ∀ j, 0 ≤ j → j < 12 → rd j ≤ 5000) : ∀ k : Nat, k ≤ 12 → -1000000 ≤ lbK w rd b k ∧ lbK w rd b k ≤ 20000
  | 0, _ => hb
  | k + 1, hk => by
    have ih := lbK_b hb hw hr k (by omega)
    have h1 := hw (k : Int) (by omega) (by omega)
    have h2 := hr (k : Int) (by omega) (by omega)
    unfold lbK
    split
    · split <;> omega
    · exact ih
theorem LsV.mk {rd w : Int → Int} {fr m n : Int} (hF : WF sg) (hc : sg.1 5 = -1) (hf : 0 ≤ fr ∧ fr < sg.1 1) (ht : 0 ≤ to ∧ to < sg.1 1) (hmi : -1000 ≤ mi ∧ mi ≤ 10000) (hL : LstA sg rix n m ui ci) (hR : RunP sg rix n) (H : RdyF sg to mi rix ui ci m rd) (hw : ∀ j, 0 ≤ j → j < sg.1 1 → w j = sg.2 4 (12 * fr + j)) (b : Int) (hb : b = if w to < 1000000 then mi - w to else -1000000) : LsV sg fr to mi (lbK w rd b (sg.1 1).toNat) := by
  have hn1 := of1 (hF.1.1 1)
  have hwb : ∀ j, 0 ≤ j → j < sg.1 1 → 0 ≤ w j ∧ (w j = 1000000 ∨ w j ≤ 250000) := fun j a c => by
    have h1 := oa4 (hF.1.2 4) (12 * fr + j) (by omega) (by omega)
    have h2 := hF.2.2.2.1 (12 * fr + j) (by omega) (by omega)
    rw [hw j a c]; omega
  have key : ∀ v, -100000 ≤ v → v ≤ 100000 → (ArB sg fr v to mi ↔ v ≤ lbK w rd b (sg.1 1).toNat) := fun v v0 v1 => by
    rw [ArB_bg hF hc ht, lbK_le]
    have hbe : ∀ s, 0 ≤ s → s < sg.1 1 → ∀ t, t < 900000 → (b0 (sg.2 4) fr v s ≤ t ↔ w s < 1000000 ∧ v + w s ≤ t) := fun s a c t d => by
      have h1 := hwb s a c
      have h2 := hw s a c
      unfold b0
      rw [← h2]
      split <;> omega
    have h1 := hbe to ht.1 ht.2 mi (by omega)
    have e1 : b0 (sg.2 4) fr v to ≤ mi ↔ v ≤ b := by
      rw [h1, hb]
      have := hwb to ht.1 ht.2
      split <;> omega
    rw [e1]
    refine or_congr Iff.rfl ⟨?_, ?_⟩
    · rintro ⟨r, c, hbg, hle⟩
      obtain ⟨ok, on⟩ := hbg.ok
      obtain ⟨u, u0, u1, u2⟩ := hR.2 r ok
      obtain ⟨j, j0, j1, j2, j3⟩ := hL.2.2 u c u0 u1 (by rw [u2]; exact on)
      have hs := hF.2.1.run ok (c := c) ⟨on.1, by have := on.2.1; omega⟩
      have hn8 := oa10 (hF.1.2 10) (r % 24) (by have := ok.1; omega) (by have := ok.1; omega)
      have lb := lvI_b hF.1 (r := r) (c := c) ⟨ok.1, ok.2.1⟩ ⟨on.1, by have := on.2.1; omega⟩
      have h2 := (hbe _ hs.1 hs.2 _ (by omega)).mp hle
      refine ⟨stI sg r c, ⟨hs.1, by omega⟩, h2.1, ?_⟩
      have h3 := hwb _ hs.1 hs.2
      exact ((H _ hs.1 (by omega)).2 _ (by omega)).mpr ⟨j, j0, j1, by rw [j2, j3, u2]; exact hbg, by rw [j2, j3, u2], by rw [j2, j3, u2]; exact h2.2⟩
    · rintro ⟨s, s0, s1, s2⟩
      have h3 := hwb s s0.1 (by omega)
      obtain ⟨j, j0, j1, j2, j3, j4⟩ := ((H s s0.1 (by omega)).2 _ (by omega)).mp s2
      obtain ⟨ok, on⟩ := j2.ok
      have hn8 := oa10 (hF.1.2 10) (rix (ui j) % 24) (by have := ok.1; omega) (by have := ok.1; omega)
      have lb := lvI_b hF.1 (r := rix (ui j)) (c := ci j) ⟨ok.1, ok.2.1⟩ ⟨on.1, by have := on.2.1; omega⟩
      refine ⟨_, _, j2, ?_⟩
      rw [j3]
      exact (hbe s s0.1 (by omega) _ (by omega)).mpr ⟨s1, j4⟩
  refine ⟨?_, key⟩
  have hlb := lbK_b (w := fun j => if 0 ≤ j ∧ j < sg.1 1 then w j else 1000000) (rd := rd) (b := b) (by rw [hb]; have := hwb to ht.1 ht.2; split <;> omega) (fun j a c => by split; { exact (hwb j a (by omega)).1 }; { decide }) (fun j a c => by have := (H j a c).1; omega) (sg.1 1).toNat (by omega)
  have hcg : ∀ k : Nat, (k : Int) ≤ sg.1 1 → lbK (fun j => if 0 ≤ j ∧ j < sg.1 1 then w j else 1000000) rd b k = lbK w rd b k := by
    intro k
    induction k with
    | zero => intro _; rfl
    | succ k ih =>
      intro hk
      rw [lbK_s, lbK_s]
      rw [if_pos (show 0 ≤ (k : Int) ∧ (k : Int) < sg.1 1 by omega), ih (by omega)]
  rw [hcg _ (by omega)] at hlb
  by_cases e : lbK w rd b (sg.1 1).toNat ≤ mi
  · exact e
  · exfalso
    have h1 := (key (lbK w rd b (sg.1 1).toNat) (by omega) (by omega)).mpr (Int.le_refl _)
    have h2 := ArB_ge hF hf ht (by omega) h1
    omega
end LAST
