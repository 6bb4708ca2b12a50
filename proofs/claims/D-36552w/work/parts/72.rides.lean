/-! Lastbus.byDepartures, byArrivalsBackward: rides in a list, sorted -/
def onC (sg : TS) (r c : Int) : Prop := 0 ≤ c ∧ c + 1 < sg.2 10 (r % 24) ∧ 0 ≤ lvI sg r c
def cumF (sg : TS) : Nat → Nat := fun j => if (j : Int) % 24 < sg.1 8 then (sg.2 10 ((j : Int) % 24) - 1).toNat else 0
def cum (sg : TS) (r : Nat) : Nat := smN (cumF sg) r
theorem cum_le (sg : TS) {a b : Nat} (h : a ≤ b) : cum sg a ≤ cum sg b := by
  have e : b = a + (b - a) := by omega
  unfold cum
  rw [e, smN_add]; omega
theorem cum_s {sg : TS} {r : Int} (hr : okR sg r) : cum sg (r + 1).toNat = cum sg r.toNat + (sg.2 10 (r % 24) - 1).toNat := by
  have e : (r + 1).toNat = r.toNat + 1 := by have := hr.1; omega
  rw [e]
  show cum sg r.toNat + cumF sg r.toNat = _
  congr 1
  unfold cumF
  have e2 : ((r.toNat : Nat) : Int) = r := by have := hr.1; omega
  rw [e2, if_pos hr.2.2.1]
theorem cum_b (sg : TS) : cum sg 72 ≤ 3 * clS sg := smN_3 (fun i k hi hk => by
  show cumF sg (24 * i + k) ≤ _
  unfold cumF
  have e : ((24 * i + k : Nat) : Int) % 24 = (k : Int) := by omega
  rw [e]
  exact Nat.le_refl _)
theorem ex_rk {q : Int → Nat} {F : Int → Int} {m : Int} (inj : ∀ i j, 0 ≤ i → i < j → j < m → q i < q j) : ∃ rk : Nat → Int, ∀ i, 0 ≤ i → i < m → rk (q i) = F i := by
  classical
  refine ⟨fun x => if e : ∃ i, (0 ≤ i ∧ i < m) ∧ q i = x then F (Classical.choose e) else 0, fun i i0 i1 => ?_⟩
  have e : ∃ j, (0 ≤ j ∧ j < m) ∧ q j = q i := ⟨i, ⟨i0, i1⟩, rfl⟩
  show (if e : _ then _ else _) = _
  rw [dif_pos e]
  have s := Classical.choose_spec e
  generalize Classical.choose e = j at s
  by_cases h1 : i < j
  · have := inj i j i0 h1 s.1.2; omega
  · by_cases h2 : j < i
    · have := inj j i s.1.1 h2 i1; omega
    · have : j = i := by omega
      rw [this]
theorem skol {P : Int → Int → Prop} {m : Int} (h : ∀ i, 0 ≤ i → i < m → ∃ j, P i j) : ∃ J : Int → Int, ∀ i, 0 ≤ i → i < m → P i (J i) := by
  classical
  refine ⟨fun i => if e : 0 ≤ i ∧ i < m then Classical.choose (h i e.1 e.2) else 0, fun i i0 i1 => ?_⟩
  show P i (dite _ _ _)
  rw [dif_pos ⟨i0, i1⟩]
  exact Classical.choose_spec (h i i0 i1)
/-- the rides of the runs p (numbers rix) in a list: of list place ui i, call ci i, by rising rank -/
def RdsA (K : KT) (h : MH) (e0 a e : Nat) (m : Int) (sg : TS) (rix : Int → Int) (n : Int) (p : Int → Nat) (kf : Int → Int → Int) (q : Int → Nat) (ui ci : Int → Int) : Prop := LsB K h e0 a e m q ∧ (∀ i, 0 ≤ i → i < m → (0 ≤ ui i ∧ ui i < n) ∧ onC sg (rix (ui i)) (ci i) ∧ h.2.2 (q i) = some (true, .inr (8, [.ref (p (ui i)), vi (ci i), vi (kf (rix (ui i)) (ci i))]))) ∧ (∀ i j, 0 ≤ i → i < j → j < m → rk3 (kf (rix (ui i)) (ci i)) (ui i) (ci i) < rk3 (kf (rix (ui j)) (ci j)) (ui j) (ci j)) ∧ ∀ u c, 0 ≤ u → u < n → onC sg (rix u) c → ∃ i, 0 ≤ i ∧ i < m ∧ ui i = u ∧ ci i = c
def RdsQ (K : KT) (h h' : MH) (e0 : Nat) (sg : TS) (rix : Int → Int) (n : Int) (p : Int → Nat) (kf : Int → Int → Int) (a : Nat) : Prop := ∃ (e : Nat) (m : Int) (q : Int → Nat) (ui ci : Int → Int), RdsA K h' e0 a e m sg rix n p kf q ui ci ∧ (0 ≤ m ∧ m ≤ 63) ∧ (h.1 ≤ h'.1 ∧ h'.1 ≤ h.1 + 140) ∧ (h.2.1 ≤ h'.2.1 ∧ h'.2.1 ≤ h.2.1 + 7700) ∧ (∀ b, b < h.1 → h'.2.2 b = h.2.2 b) ∧ h.1 ≤ a
theorem RdsA.up {K : KT} {h h' : MH} {e0 a e : Nat} {m : Int} {sg : TS} {rix : Int → Int} {n : Int} {p : Int → Nat} {kf : Int → Int → Int} {q : Int → Nat} {ui ci : Int → Int} (L : RdsA K h e0 a e m sg rix n p kf q ui ci) (e1 : ∀ b c, h.2.2 b = some c → h'.2.2 b = some c) : RdsA K h' e0 a e m sg rix n p kf q ui ci := ⟨L.1.up e1, fun i a b => ⟨(L.2.1 i a b).1, (L.2.1 i a b).2.1, e1 _ _ (L.2.1 i a b).2.2⟩, L.2.2⟩
theorem RunsA.up {K : KT} {h h' : MH} {e0 a e : Nat} {n : Int} {sg : TS} {rix : Int → Int} {p : Int → Nat} (L : RunsA K h e0 a e n sg rix p) (e1 : ∀ b c, h.2.2 b = some c → h'.2.2 b = some c) : RunsA K h' e0 a e n sg rix p := ⟨L.1.up e1, fun i a b => ⟨(L.2.1 i a b).1, (L.2.1 i a b).2.up e1⟩, L.2.2⟩
def RbI (K : KT) (h g : MH) (e0 : Nat) (sg : TS) (rix : Int → Int) (p : Int → Nat) (kf : Int → Int → Int) (n u c m : Int) (e2 : Nat) (q : Int → Nat) (ui ci : Int → Int) : Prop := LsB K g e0 h.1 e2 m q ∧ (e2 = e0 ∨ h.1 + 1 < e2) ∧ (∀ i, 0 ≤ i → i < m → (0 ≤ ui i ∧ ui i < n) ∧ onC sg (rix (ui i)) (ci i) ∧ (exc h.1 e2 g).2.2 (q i) = some (true, .inr (8, [.ref (p (ui i)), vi (ci i), vi (kf (rix (ui i)) (ci i))])) ∧ (ui i < u ∨ (ui i = u ∧ ci i < c))) ∧ (∀ i j, 0 ≤ i → i < j → j < m → q i < q j ∧ (ui i < ui j ∨ (ui i = ui j ∧ ci i < ci j))) ∧ (∀ u' c', 0 ≤ u' → u' < n → onC sg (rix u') c' → (u' < u ∨ (u' = u ∧ c' < c)) → ∃ i, 0 ≤ i ∧ i < m ∧ ui i = u' ∧ ci i = c') ∧ 0 ≤ m
section RBI
variable {K : KT} {h g g' : MH} {e0 : Nat} {sg : TS} {rix : Int → Int} {p : Int → Nat} {kf : Int → Int → Int} {n u c m : Int} {e2 : Nat} {q : Int → Nat} {ui ci : Int → Int}
theorem RbI.it (I : RbI K h g e0 sg rix p kf n u c m e2 q ui ci) (e1 : ∀ b x, g.2.2 b = some x → (∀ w fs, x ≠ (w, .inr (15, fs))) → g'.2.2 b = some x) : RbI K h g' e0 sg rix p kf n u c m e2 q ui ci := by
  obtain ⟨⟨w, cap, mc, f, ho, he, hrest⟩, i2, i3, i4, i5, i6⟩ := I
  refine ⟨⟨w, cap, mc, f, e1 _ _ ho (fun w fs e9 => by injection e9 with _ e9; injection e9 with e9; injection e9 with e9 _; omega), e1 _ _ he (fun w fs e9 => by injection e9 with _ e9; injection e9), hrest⟩, i2, fun i a b => ?_, i4, i5, i6⟩
  have := i3 i a b
  have x := exc_at this.2.2.1
  exact ⟨this.1, this.2.1, exc_mk (e1 _ _ x.1 (fun w fs e9 => by injection e9 with _ e9; injection e9 with e9; injection e9 with e9 _; omega)) x.2.1 x.2.2, this.2.2.2⟩
theorem RbI.skip (I : RbI K h g e0 sg rix p kf n u c m e2 q ui ci) (hn : ¬ onC sg (rix u) c) : RbI K h g e0 sg rix p kf n u (c + 1) m e2 q ui ci := by
  obtain ⟨i1, i2, i3, i4, i5, i6⟩ := I
  refine ⟨i1, i2, fun i a b => ?_, i4, fun u' c' a b d x => ?_, i6⟩
  · have := i3 i a b; exact ⟨this.1, this.2.1, this.2.2.1, by have := this.2.2.2; omega⟩
  · by_cases e : u' = u ∧ c' = c
    · rw [e.1, e.2] at d; exact absurd d hn
    · exact i5 u' c' a b d (by omega)
theorem RbI.next (I : RbI K h g e0 sg rix p kf n u c m e2 q ui ci) (hc : sg.2 10 (rix u % 24) ≤ c + 1) : RbI K h g e0 sg rix p kf n (u + 1) 0 m e2 q ui ci := by
  obtain ⟨i1, i2, i3, i4, i5, i6⟩ := I
  refine ⟨i1, i2, fun i a b => ?_, i4, fun u' c' a b d x => ?_, i6⟩
  · have := i3 i a b; exact ⟨this.1, this.2.1, this.2.2.1, by have := this.2.2.2; omega⟩
  · have d1 := d.1
    have d2 := d.2.1
    refine i5 u' c' a b d ?_
    by_cases e : u' = u
    · rw [e] at d2; omega
    · omega
theorem RbI.add {v e' : Nat} (I : RbI K h g e0 sg rix p kf n u c m e2 q ui ci) (hu : 0 ≤ u ∧ u < n) (ho : onC sg (rix u) c) (L : LsB K g' e0 h.1 e' (m + 1) (upn q m v)) (he : e' = e2 ∨ h.1 + 1 < e') (hv : (exc h.1 e' g').2.2 v = some (true, .inr (8, [.ref (p u), vi c, vi (kf (rix u) c)]))) (hq : ∀ i, 0 ≤ i → i < m → q i < v) (hEx : ∀ b x, (exc h.1 e2 g).2.2 b = some x → (exc h.1 e' g').2.2 b = some x) : RbI K h g' e0 sg rix p kf n u (c + 1) (m + 1) e' (upn q m v) (upi ui m u) (upi ci m c) := by
  obtain ⟨i1, i2, i3, i4, i5, i6⟩ := I
  refine ⟨L, by omega, fun i a b => ?_, fun i j a b d => ?_, fun u' c' a b d x => ?_, by omega⟩
  · unfold upi
    by_cases e : i = m
    · rw [if_pos e, if_pos e, e, upn_at]; exact ⟨hu, ho, hv, by omega⟩
    · rw [if_neg e, if_neg e, upn_ne e]
      have := i3 i a (by omega)
      exact ⟨this.1, this.2.1, hEx _ _ this.2.2.1, by have := this.2.2.2; omega⟩
  · unfold upi
    by_cases e : j = m
    · rw [if_neg (by omega), if_pos e, if_neg (by omega), if_pos e, e, upn_at, upn_ne (by omega)]
      have := (i3 i a (by omega)).2.2.2
      exact ⟨hq i a (by omega), this⟩
    · rw [if_neg (by omega), if_neg e, if_neg (by omega), if_neg e, upn_ne (by omega), upn_ne e]; exact i4 i j a b (by omega)
  · unfold upi
    by_cases e : u' = u ∧ c' = c
    · exact ⟨m, by omega, by omega, by rw [if_pos rfl, e.1], by rw [if_pos rfl, e.2]⟩
    · obtain ⟨i, y1, y2, y3, y4⟩ := i5 u' c' a b d (by omega)
      exact ⟨i, y1, by omega, by rw [if_neg (by omega)]; exact y3, by rw [if_neg (by omega)]; exact y4⟩
/-- each two of these ranks differ -/
theorem rk3_ne {k u c k' u' c' : Int} (h1 : 0 ≤ u ∧ u < 100) (h2 : 0 ≤ c ∧ c < 10) (h3 : 0 ≤ u' ∧ u' < 100) (h4 : 0 ≤ c' ∧ c' < 10) (h : u < u' ∨ (u = u' ∧ c < c')) : rk3 k u c ≠ rk3 k' u' c' := by
  unfold rk3; omega
theorem RbI.fin {h' : MH} {rk : Nat → Int} (I : RbI K h g e0 sg rix p kf n n 0 m e2 q ui ci) (hk : ∀ i, 0 ≤ i → i < m → rk (q i) = rk3 (kf (rix (ui i)) (ci i)) (ui i) (ci i)) (S : SrtQ K g h' rk e0 h.1 e2 m q) (hwf : ∀ b e, g.2.2 b = some e → b < g.1) : ∃ q' ui' ci', RdsA K h' e0 h.1 e2 m sg rix n p kf q' ui' ci' := by
  obtain ⟨i1, i2, i3, i4, i5, i6⟩ := I
  obtain ⟨p', s1, s2, s3, s4, s5, s6, s7⟩ := S
  obtain ⟨J, hJ⟩ := skol (P := fun i j => (0 ≤ j ∧ j < m) ∧ p' i = q j) (fun i a b => by obtain ⟨j, x, y, z⟩ := s4.1 i a b; exact ⟨j, ⟨x, y⟩, z⟩)
  refine ⟨p', fun i => ui (J i), fun i => ci (J i), s1, fun i a b => ?_, fun i j a b d => ?_, fun u c a b d => ?_⟩
  · obtain ⟨j1, j2⟩ := hJ i a b
    have w := i3 (J i) j1.1 j1.2
    have x := exc_at w.2.2.1
    exact ⟨w.1, w.2.1, by rw [j2]; exact (s7 _ ⟨hwf _ _ x.1, Or.inl x.2.2, x.2.1⟩).trans x.1⟩
  · obtain ⟨j1, j2⟩ := hJ i a (by omega)
    obtain ⟨k1, k2⟩ := hJ j (by omega) d
    have w := s3 i j a b d
    rw [j2, k2, hk _ j1.1 j1.2, hk _ k1.1 k1.2] at w
    exact w
  · obtain ⟨i, x1, x2, x3, x4⟩ := i5 u c a b d (Or.inl b)
    obtain ⟨j, y1, y2, y3⟩ := s4.2.1 i x1 x2
    refine ⟨j, y1, y2, ?_⟩
    obtain ⟨j1, j2⟩ := hJ j y1 y2
    have e : J j = i := by
      have e9 : q (J j) = q i := by rw [← j2, y3]
      by_cases l1 : J j < i
      · have := (i4 _ _ j1.1 l1 x2).1; omega
      · by_cases l2 : i < J j
        · have := (i4 _ _ x1 l2 j1.2).1; omega
        · omega
    show ui (J j) = u ∧ ci (J j) = c
    rw [e]; exact ⟨x3, x4⟩
end RBI
theorem grC_63 {n : Int} (h : 0 ≤ n ∧ n ≤ 63) : (grC n).toNat ≤ 100 := by unfold grC; (repeat' split) <;> omega
/-- what a run's cells are -/
theorem RunsA.run {K : KT} {h : MH} {e0 a e : Nat} {n : Int} {sg : TS} {rix : Int → Int} {p : Int → Nat} (L : RunsA K h e0 a e n sg rix p) {u : Int} (hu : 0 ≤ u ∧ u < n) : okR sg (rix u) ∧ ∃ f1 f2 f3, RunC K h u (rix u % 24) (rix u / 24 - 1) (sg.2 10 (rix u % 24)).toNat f1 f2 f3 (p u) ∧ ∀ c, 0 ≤ c → c < sg.2 10 (rix u % 24) → f1 c = stI sg (rix u) c ∧ f2 c = cmI sg (rix u) c ∧ f3 c = lvI sg (rix u) c := ⟨(L.2.1 u hu.1 hu.2).1, (L.2.1 u hu.1 hu.2).2⟩
theorem RunsA.num {K : KT} {h : MH} {e0 a e : Nat} {n : Int} {sg : TS} {rix : Int → Int} {p : Int → Nat} (L : RunsA K h e0 a e n sg rix p) : n ≤ 72 := by
  have key : ∀ k : Nat, (k : Int) < n → (k : Int) ≤ rix k := fun k => by
    induction k with
    | zero => intro hk; exact (L.2.1 0 (by omega) hk).1.1
    | succ j ih =>
      intro hk
      have := ih (by omega)
      have := L.2.2.1 (j : Int) ((j + 1 : Nat) : Int) (by omega) (by omega) hk
      omega
  by_cases e : n ≤ 0
  · omega
  · have k1 := key (n - 1).toNat (by omega)
    have := (L.2.1 (n - 1) (by omega) (by omega)).1.2.1
    have e2 : (((n - 1).toNat : Nat) : Int) = n - 1 := by omega
    rw [e2] at k1
    omega

theorem c_byDep (K : KT) (d : Nat) (h : MH) (e0 a e : Nat) (n : Int) (sg : TS) (rix : Int → Int) (p : Int → Nat) (hd : 14 ≤ d) (hT : TB sg) (hC : clOk sg) (hcl : clS sg ≤ 21) (hU : kV K 11 = vi 0) (hV : kV K 12 = vi 1) (hR : RunsA K h e0 a e n sg rix p) (hE : E0A K h e0) (hz : h.1 + 140 ≤ kC K ∧ h.2.1 + 7700 ≤ kS K) : Mt K yiX1_byDepartures d [.ref a] h (Rr fun r h' => RdsQ K h h' e0 sg rix n p (fun r c => lvI sg r c) r) := by
  have hR0 := hR
  have hn72 := hR.num
  have k0 := hE.1
  have hE2 := hE.2
  obtain ⟨wr, capr, mca, frr, hro, hre, hae, h0, hw, hcap, hrf, hrno⟩ := hR.1
  have hcb := cum_b sg
  refine mt_ofQ (by decide) (Nat.le_of_ble_eq_true rfl) (fun Q hQ => ?_)
  show MW K yiX1_byDepartures d h 0 [some (.ref a), none, none, none, none] [] Q
  refine mw_wf (fun hwf => ?_)
  have l_hro := hwf _ _ hro
  have l_hre := hwf _ _ hre
  have l_hE2 := hwf _ _ hE2
  have fR : ∀ b, (b < h.1) → h.2.2 b = h.2.2 b := fun _ _ => rfl
  refine m_new (y := yiX1_byDepartures) kc_14 3 dX1_byDepartures_0 q199 q200 q126 _ rfl ⟨by omega, by omega⟩ (hp_new fun g1 g1H => ?_)
  have hro : g1.2.2 a = some (true, .inr (14, [(vi mca), (.ref e), (vi n)])) := (g1H.2.2.2 _ (by omega)).trans hro
  have hre : g1.2.2 e = some (wr, oaE K capr frr) := (g1H.2.2.2 _ (by omega)).trans hre
  have hE2 : g1.2.2 e0 = some (false, oaE K 0 (fun _ => none)) := (g1H.2.2.2 _ (by omega)).trans hE2
  have fR : ∀ b, (b < h.1) → g1.2.2 b = h.2.2 b := fun b hb => (g1H.2.2.2 b (by omega)).trans (fR b hb)
  have fg1 : g1.2.2 h.1 = some (true, .inr (14, [(vi 0), .null, (vi 0)])) := g1H.2.2.1
  have g11 := g1H.1
  have g12 := g1H.2.1
  refine m_dup (y := yiX1_byDepartures) dX1_byDepartures_3 rfl ?_
  refine m_invI (y := yiX1_byDepartures) [] dX1_byDepartures_4 q201 q202 q126 q203 rfl rfl (c_J2_init K 3 g1 h.1 e0 (by omega) k0 fg1) pdJ2_init ⟨Nat.le_of_ble_eq_true rfl, by decide, by omega⟩ (kk_v fun h4 q4 => ?_) kx_v
  obtain q4 := q4
  have y4 := q4.1
  have z4 := q4.2.1
  have u4 := q4.2.2.1
  have hro : h4.2.2 a = some (true, .inr (14, [(vi mca), (.ref e), (vi n)])) := (q4.2.2.2 _ (by omega)).trans hro
  have hre : h4.2.2 e = some (wr, oaE K capr frr) := (q4.2.2.2 _ (by omega)).trans hre
  have hE2 : h4.2.2 e0 = some (false, oaE K 0 (fun _ => none)) := (q4.2.2.2 _ (by omega)).trans hE2
  have fR : ∀ b, (b < h.1) → h4.2.2 b = h.2.2 b := fun b hb => (q4.2.2.2 b (by omega)).trans (fR b hb)
  refine mw_wf (fun hwf4 => ?_)
  have l_u44 := hwf4 _ _ u4
  have hup : ∀ g' : MH, (∀ b, b < h.1 → g'.2.2 b = h.2.2 b) → ∀ b c, h.2.2 b = some c → g'.2.2 b = some c := fun g' q b c e9 => (q b (hwf _ _ e9)).trans e9
  refine m_astore_n (y := yiX1_byDepartures) dX1_byDepartures_7 (by decide) rfl ?_
  show MW K yiX1_byDepartures d h4 8 [some (.ref a), some (.ref h.1), none, none, none] [] Q
  refine m_aload_n (y := yiX1_byDepartures) dX1_byDepartures_8 rfl ?_
  refine m_invF (y := yiX1_byDepartures) (rB := (RJ2, TJ2, 3)) [] dX1_byDepartures_9 hro rfl q1932 q1934 q1933 rfl q1936 q717 q1938 q1937 q1935 q126 q719 ⟨by decide, by decide⟩ (by show _ = some 0; decide +kernel) (c_J2_iterator K 2 h4 _ _ _ _ (by omega) hro ⟨by omega, by omega⟩) pdJ2_iterator ⟨Nat.le_of_ble_eq_true rfl, by decide, by omega⟩ (kk_r fun r9 h9 q9 => ?_) kx_r
  obtain ⟨rfl, q9⟩ := q9
  have y9 := q9.1
  have z9 := q9.2.1
  have it9 := q9.2.2.1
  have hro : h9.2.2 a = some (true, .inr (14, [(vi mca), (.ref e), (vi n)])) := (q9.2.2.2 _ (by omega)).trans hro
  have hre : h9.2.2 e = some (wr, oaE K capr frr) := (q9.2.2.2 _ (by omega)).trans hre
  have hE2 : h9.2.2 e0 = some (false, oaE K 0 (fun _ => none)) := (q9.2.2.2 _ (by omega)).trans hE2
  have u4 : h9.2.2 h.1 = some (true, .inr (14, [(vi 0), (.ref e0), (vi 0)])) := (q9.2.2.2 _ (by omega)).trans u4
  have fR : ∀ b, (b < h.1) → h9.2.2 b = h.2.2 b := fun b hb => (q9.2.2.2 b (by omega)).trans (fR b hb)
  refine mw_wf (fun hwf9 => ?_)
  have l_it99 := hwf9 _ _ it9
  refine m_astore_n (y := yiX1_byDepartures) dX1_byDepartures_14 (by decide) rfl ?_
  show MW K yiX1_byDepartures d h9 15 [some (.ref a), some (.ref h.1), some (.ref h4.1), none, none] [] Q
  have L15 : ∀ (N : Nat) (u l m : Int) (e2 : Nat) (q2 : Int → Nat) (ui ci : Int → Int) (g : MH), (n - u).toNat = N → (g.2.2 a = some (true, .inr (14, [(vi mca), (.ref e), (vi n)]))) → (g.2.2 e = some (wr, oaE K capr frr)) → (g.2.2 e0 = some (false, oaE K 0 (fun _ => none))) → (g.2.2 h4.1 = some (true, .inr (15, [(vi u), (vi l), (vi mca), (.ref a)]))) → (∀ b, (b < h.1) → g.2.2 b = h.2.2 b) → (0 ≤ u ∧ u ≤ n) → (RbI K h g e0 sg rix p (fun r c => lvI sg r c) n u 0 m e2 q2 ui ci) → ((∀ v, 0 ≤ v → v < n → u ≤ v → m ≤ cum sg (rix v).toNat) ∧ m ≤ cum sg 72) → ((h.1 + 2 ≤ g.1 ∧ (g.1 : Int) ≤ h.1 + 2 + 2 * m) ∧ h.2.1 + 7 ≤ g.2.1 ∧ (g.2.1 : Int) ≤ h.2.1 + 7 + 113 * m) → MW K yiX1_byDepartures d g 15 [some (.ref a), some (.ref h.1), some (.ref h4.1), none, none] [] Q := by
    intro N
    induction N using Nat.strongRecOn with
    | _ N ih15 =>
    intro u l m e2 q2 ui ci g hN15 hro hre hE2 it9 fR hu hI hm hg
    refine mw_wf (fun hwf15 => ?_)
    have l_hro15 := hwf15 _ _ hro
    have l_hre15 := hwf15 _ _ hre
    have l_hE215 := hwf15 _ _ hE2
    have l_it915 := hwf15 _ _ it9
    have hI0 := hI
    have it90 := it9
    refine m_aload_n (y := yiX1_byDepartures) dX1_byDepartures_15 rfl ?_
    refine m_invF (y := yiX1_byDepartures) (rB := (RJ28, TJ28, 4)) [] dX1_byDepartures_16 it9 rfl q744 q746 q745 rfl q748 q750 q751 q749 q747 q156 q752 ⟨by decide, by decide⟩ (by show _ = some 0; decide +kernel) (c_J28_hasNext K 0 g _ _ _ _ _ _ _ it9 hro ⟨by omega, by omega, by omega⟩) pdJ28_hasNext ⟨Nat.le_of_ble_eq_true rfl, by decide, by omega⟩ (kk_z fun r16 h16 q16 => ?_) kx_z
    obtain ⟨rfl, rfl⟩ := q16
    refine mw_top (x' := bz (u ≠ n)) rfl ?_
    refine j_bz_eq (y := yiX1_byDepartures) 88 dX1_byDepartures_21 (by decide) (fun c21 => ?_) (fun c21 => ?_)
    · obtain ⟨w2, cap2, mc2, fx2, ho2, he2, hae2, h02, hw2, hcap2, hf2, hno2⟩ := id hI0.1
      have ho2 : g.2.2 h.1 = some (true, .inr (14, [(vi mc2), (.ref e2), (vi m)])) := ho2
      have l_ho2 := hwf15 _ _ ho2
      refine m_aload_n (y := yiX1_byDepartures) dX1_byDepartures_88 rfl ?_
      have eu : u = n := by omega
      have hI2 : RbI K h g e0 sg rix p (fun r c => lvI sg r c) n n 0 m e2 q2 ui ci := eu ▸ hI0
      obtain ⟨rk, hrk⟩ := ex_rk (q := q2) (m := m) (F := fun i => rk3 ((fun r c => lvI sg r c) (rix (ui i)) (ci i)) (ui i) (ci i)) (fun i j a b c => (hI2.2.2.2.1 i j a b c).1)
      have hbd : ∀ i, 0 ≤ i → i < m → (-10000 ≤ (fun r c => lvI sg r c) (rix (ui i)) (ci i) ∧ (fun r c => lvI sg r c) (rix (ui i)) (ci i) ≤ 10000) ∧ (0 ≤ ui i ∧ ui i < 100) ∧ 0 ≤ ci i ∧ ci i < 10 := fun i a b => by { have w := hI2.2.2.1 i a b; have hok := (hR0.run w.1).1; have hnb := oa10 (hT.2 10) (rix (ui i) % 24) (by have := hok.1; omega) (by have := hok.1; omega); have w1 := w.2.1.1; have w2 := w.2.1.2.1; have v := lvI_b hT (r := rix (ui i)) (c := ci i) ⟨hok.1, hok.2.1⟩ ⟨w1, by omega⟩; refine ⟨?_, ⟨w.1.1, by omega⟩, w1, by omega⟩; dsimp only; exact ⟨by omega, by omega⟩ }
      have hrs : ∀ i, 0 ≤ i → i < m → RdS g rk (q2 i) := fun i a b => by { have w := hI2.2.2.1 i a b; have x := exc_at w.2.2.1; obtain ⟨-, f1, f2, f3, hRC', -⟩ := hR0.run w.1; obtain ⟨sa', aa', da', v1, -⟩ := hRC'.up (hup _ fR); have hb := hbd i a b; exact ⟨_, ui i, ci i, ⟨p (ui i), _, _, sa', aa', da', x.1, v1⟩, hb.1, hb.2.1, hb.2.2, hrk i a b⟩ }
      have hin : Inj rk q2 0 m := fun i j a b c => by { rw [hrk i a (by omega), hrk j (by omega) c]; exact rk3_ne (hbd i a (by omega)).2.1 (hbd i a (by omega)).2.2 (hbd j (by omega) c).2.1 (hbd j (by omega) c).2.2 (hI2.2.2.2.1 i j a b c).2 }
      refine m_invS (y := yiX1_byDepartures) [(.ref h.1)] dX1_byDepartures_89 q1966 q1967 q169 q1968 (c_J34_sort K 13 g rk e0 h.1 e2 m q2 (by omega) hU hV ⟨k0, hE2⟩ hI2.1 hrs (by omega) hin ⟨by omega, by omega⟩) pdJ34_sort ⟨Nat.le_of_ble_eq_true rfl, by decide, by omega⟩ (kk_v fun h89 q89 => ?_) kx_v
      obtain q89 := q89
      have q89fr : ∀ b, b < h.1 → h89.2.2 b = g.2.2 b := fun b hb => q89.fr b ⟨by omega, by have := hI2.2.1; omega, by omega⟩
      have hro : h89.2.2 a = some (true, .inr (14, [(vi mca), (.ref e), (vi n)])) := (q89fr _ (by omega)).trans hro
      have hre : h89.2.2 e = some (wr, oaE K capr frr) := (q89fr _ (by omega)).trans hre
      have hE2 : h89.2.2 e0 = some (false, oaE K 0 (fun _ => none)) := (q89fr _ (by omega)).trans hE2
      have fR : ∀ b, (b < h.1) → h89.2.2 b = h.2.2 b := fun b hb => (q89fr b (by omega)).trans (fR b hb)
      refine mw_wf (fun hwf89 => ?_)
      refine m_aload_n (y := yiX1_byDepartures) dX1_byDepartures_92 rfl ?_
      subst hQ; exact m_aret (y := yiX1_byDepartures) (x := (some h.1)) dX1_byDepartures_93 rfl (Or.inl ⟨_, rfl⟩) ⟨h.1, rfl, (by { obtain ⟨q', ui', ci', hA'⟩ := hI2.fin hrk q89 hwf15; have s5 := q89.sz; exact ⟨e2, m, q', ui', ci', hA', by omega, by omega, by omega, fR, Nat.le_refl _⟩ })⟩
    · refine m_aload_n (y := yiX1_byDepartures) dX1_byDepartures_24 rfl ?_
      refine m_invF (y := yiX1_byDepartures) (rB := (RJ28, TJ28, 4)) [] dX1_byDepartures_25 it9 rfl q757 q759 q758 rfl q760 q762 q763 q761 q747 q156 q764 ⟨by decide, by decide⟩ (by show _ = some 0; decide +kernel) (c_J28_next K 1 g _ _ _ _ _ _ _ _ _ _ _ (by omega) it9 hro hre ⟨by omega, by omega, by omega⟩ ⟨by omega, by omega, by omega, by omega⟩ (hrf _ (by omega) (by omega))) pdJ28_next ⟨Nat.le_of_ble_eq_true rfl, by decide, by omega⟩ (kk_r fun r25 h25 q25 => ?_) kx_r
      obtain ⟨rfl, q25⟩ := q25
      have y25 := q25.1
      have z25 := q25.2.1
      have it9 := q25.2.2.1
      have hro : h25.2.2 a = some (true, .inr (14, [(vi mca), (.ref e), (vi n)])) := (q25.2.2.2 _ (by omega)).trans hro
      have hre : h25.2.2 e = some (wr, oaE K capr frr) := (q25.2.2.2 _ (by omega)).trans hre
      have hE2 : h25.2.2 e0 = some (false, oaE K 0 (fun _ => none)) := (q25.2.2.2 _ (by omega)).trans hE2
      have fR : ∀ b, (b < h.1) → h25.2.2 b = h.2.2 b := fun b hb => (q25.2.2.2 b (by omega)).trans (fR b hb)
      refine mw_wf (fun hwf25 => ?_)
      have l_it925 := hwf25 _ _ it9
      obtain ⟨hok, f1, f2, f3, hRC, hfx⟩ := hR0.run (u := u) ⟨by omega, by omega⟩
      have hok1 := hok.1
      have hok2 := hok.2.1
      have hnb := oa10 (hT.2 10) (rix u % 24) (by omega) (by omega)
      have hn1 := hC (rix u % 24) (by omega) hok.2.2.1
      have hlb : ∀ c, 0 ≤ c → c < sg.2 10 (rix u % 24) → -1440 ≤ lvI sg (rix u) c ∧ lvI sg (rix u) c ≤ 4500 := fun c a b => lvI_b hT ⟨hok1, hok2⟩ ⟨a, by omega⟩
      have hmb : ∀ c, 0 ≤ c → c < sg.2 10 (rix u % 24) → -1440 ≤ cmI sg (rix u) c ∧ cmI sg (rix u) c ≤ 4500 := fun c a b => cmI_b hT ⟨hok1, hok2⟩ ⟨a, by omega⟩
      obtain ⟨sa, aa, da, hpu0, hsa0, haa0, hda0⟩ := id hRC
      have la0 := hwf _ _ haa0
      have ld0 := hwf _ _ hda0
      have lp0 := hwf _ _ hpu0
      have hpu : h25.2.2 (p u) = some (true, .inr (7, [(vi u), (vi (rix u % 24)), (vi (rix u / 24 - 1)), (.ref sa), (.ref aa), (.ref da)])) := (fR _ lp0).trans hpu0
      have l_hpu := hwf25 _ _ hpu
      have hda : h25.2.2 da = some (true, ia K ((sg.2 10 (rix u % 24)).toNat) f3) := (fR _ ld0).trans hda0
      have l_hda := hwf25 _ _ hda
      have haa : h25.2.2 aa = some (true, ia K ((sg.2 10 (rix u % 24)).toNat) f2) := (fR _ la0).trans haa0
      have l_haa := hwf25 _ _ haa
      refine m_cast (y := yiX1_byDepartures) dX1_byDepartures_30 hpu rfl q1881 (Or.inl rfl) ?_
      refine m_astore_n (y := yiX1_byDepartures) dX1_byDepartures_33 (by decide) rfl ?_
      show MW K yiX1_byDepartures d h25 34 [some (.ref a), some (.ref h.1), some (.ref h4.1), some (.ref (p u)), none] [] Q
      refine j_iconst (y := yiX1_byDepartures) dX1_byDepartures_34 ?_
      refine j_istore (y := yiX1_byDepartures) [some (.ref a), some (.ref h.1), some (.ref h4.1), some (.ref (p u)), some (vi 0)] dX1_byDepartures_35 (by decide) rfl rfl ?_
      have L37 : ∀ (N : Nat) (c m : Int) (e2 : Nat) (q2 : Int → Nat) (ui ci : Int → Int) (gb : MH), (sg.2 10 (rix u % 24) - c).toNat = N → (gb.2.2 a = some (true, .inr (14, [(vi mca), (.ref e), (vi n)]))) → (gb.2.2 e = some (wr, oaE K capr frr)) → (gb.2.2 e0 = some (false, oaE K 0 (fun _ => none))) → (gb.2.2 h4.1 = some (true, .inr (15, [(vi (u + 1)), (vi u), (vi mca), (.ref a)]))) → (gb.2.2 (p u) = some (true, .inr (7, [(vi u), (vi (rix u % 24)), (vi (rix u / 24 - 1)), (.ref sa), (.ref aa), (.ref da)]))) → (gb.2.2 da = some (true, ia K ((sg.2 10 (rix u % 24)).toNat) f3)) → (gb.2.2 aa = some (true, ia K ((sg.2 10 (rix u % 24)).toNat) f2)) → (∀ b, (b < h.1) → gb.2.2 b = h.2.2 b) → (0 ≤ c ∧ c + 1 ≤ sg.2 10 (rix u % 24)) → (RbI K h gb e0 sg rix p (fun r c => lvI sg r c) n u c m e2 q2 ui ci) → (m ≤ cum sg (rix u).toNat + c) → ((h.1 + 2 ≤ gb.1 ∧ (gb.1 : Int) ≤ h.1 + 2 + 2 * m) ∧ h.2.1 + 7 ≤ gb.2.1 ∧ (gb.2.1 : Int) ≤ h.2.1 + 7 + 113 * m) → MW K yiX1_byDepartures d gb 37 [some (.ref a), some (.ref h.1), some (.ref h4.1), some (.ref (p u)), some (vi c)] [] Q := by
        intro N
        induction N using Nat.strongRecOn with
        | _ N ih37 =>
        intro c m e2 q2 ui ci gb hN37 hro hre hE2 it9 hpu hda haa fR hc hJ hm2 hg2
        refine mw_wf (fun hwf37 => ?_)
        have l_hro37 := hwf37 _ _ hro
        have l_hre37 := hwf37 _ _ hre
        have l_hE237 := hwf37 _ _ hE2
        have l_it937 := hwf37 _ _ it9
        have l_hpu37 := hwf37 _ _ hpu
        have l_hda37 := hwf37 _ _ hda
        have l_haa37 := hwf37 _ _ haa
        have hJ0 := hJ
        obtain ⟨j1, j2, j3, j4, j5, j6⟩ := hJ
        obtain ⟨w2, cap2, mc2, fx2, ho2, he2, hae2, h02, hw2, hcap2, hf2, hno2⟩ := id j1
        have l_he2 := hwf37 _ _ he2
        have hcs := cum_s hok
        have hc72 := cum_le sg (a := (rix u + 1).toNat) (b := 72) (by omega)
        have hq2 : ∀ i, 0 ≤ i → i < m → q2 i < gb.1 ∧ ∃ w fs, gb.2.2 (q2 i) = some (w, .inr (8, fs)) := fun i a b => by { have u9 := exc_at (j3 i a b).2.2.1; exact ⟨hwf37 _ _ u9.1, _, _, u9.1⟩ }
        have ho2 : gb.2.2 h.1 = some (true, .inr (14, [(vi mc2), (.ref e2), (vi m)])) := ho2
        have l_ho2 := hwf37 _ _ ho2
        refine j_iload (y := yiX1_byDepartures) dX1_byDepartures_37 rfl ?_
        refine m_aload_n (y := yiX1_byDepartures) dX1_byDepartures_39 rfl ?_
        refine m_invV (y := yiX1_byDepartures) (rB := (RX8, TX8, 6)) [] dX1_byDepartures_40 hpu rfl q1939 q1940 q1941 q167 q1942 rfl (c_X8_many K 0 gb (p u) u (rix u % 24) (rix u / 24 - 1) (sg.2 10 (rix u % 24)).toNat f1 f2 f3 (hRC.up (hup _ fR))) pdX8_many ⟨Nat.le_of_ble_eq_true rfl, by decide, by omega⟩ (kk_z fun r40 h40 q40 => ?_) kx_z
        obtain ⟨rfl, rfl⟩ := q40
        refine mw_top (x' := (((sg.2 10 (rix u % 24)).toNat : Nat) : Int)) rfl ?_
        refine j_iconst (y := yiX1_byDepartures) dX1_byDepartures_43 ?_
        refine j_isub (y := yiX1_byDepartures) dX1_byDepartures_44 ?_
        refine j_icmp_ge (y := yiX1_byDepartures) 85 dX1_byDepartures_45 (by decide) ⟨⟨by omega, by omega⟩, ⟨by omega, by omega⟩⟩ (fun c45 => ?_) (fun c45 => ?_)
        · refine m_goto (y := yiX1_byDepartures) 15 dX1_byDepartures_85 (by decide) ?_
          refine mw_forget 3 ?_
          refine mw_forget 4 ?_
          exact ih15 _ (by omega) _ _ _ _ _ _ _ _ rfl hro hre hE2 it9 fR (by omega) (hJ0.next (by omega)) (⟨fun v a9 b9 x9 => by { have := hR0.2.2.1 u v (by omega) (by omega) b9; have w9 := cum_le sg (a := (rix u + 1).toNat) (b := (rix v).toNat) (by omega); omega }, by omega⟩) (by omega)
        · have hl3 := hfx c (by omega) (by omega)
          have hl4 := hlb c (by omega) (by omega)
          have hm4 := hmb (c + 1) (by omega) (by omega)
          have hl5 := hfx (c + 1) (by omega) (by omega)
          refine m_aload_n (y := yiX1_byDepartures) dX1_byDepartures_48 rfl ?_
          refine j_iload (y := yiX1_byDepartures) dX1_byDepartures_49 rfl ?_
          refine m_invV (y := yiX1_byDepartures) (rB := (RX8, TX8, 6)) [(vi c)] dX1_byDepartures_51 hpu rfl q1943 q1944 q1945 q167 q1946 rfl (c_X8_canGetOn K 1 gb (p u) u (rix u % 24) (rix u / 24 - 1) (sg.2 10 (rix u % 24)).toNat f1 f2 f3 c (by omega) (hRC.up (hup _ fR)) ⟨by omega, by omega⟩ (by omega) ⟨by omega, by omega⟩) pdX8_canGetOn ⟨Nat.le_of_ble_eq_true rfl, by decide, by omega⟩ (kk_z fun r51 h51 q51 => ?_) kx_z
          obtain ⟨rfl, rfl⟩ := q51
          refine mw_top (x' := bz (c < (((sg.2 10 (rix u % 24)).toNat : Nat) : Int) - 1 ∧ 0 ≤ f3 c)) rfl ?_
          refine j_bz_eq (y := yiX1_byDepartures) 79 dX1_byDepartures_54 (by decide) (fun c54 => ?_) (fun c54 => ?_)
          · refine j_iinc (y := yiX1_byDepartures) [some (.ref a), some (.ref h.1), some (.ref h4.1), some (.ref (p u)), some (vi (c + 1))] dX1_byDepartures_79 rfl (by decide) rfl rfl ?_
            refine m_goto (y := yiX1_byDepartures) 37 dX1_byDepartures_82 (by decide) ?_
            exact ih37 _ (by omega) _ _ _ _ _ _ _ rfl hro hre hE2 it9 hpu hda haa fR (by omega) (by first | exact hJ0.skip (fun h9 => c54 ⟨by have := h9.2.1; omega, by rw [hl3.2.2]; exact h9.2.2⟩) | exact hJ0.add ⟨by omega, by omega⟩ ⟨by omega, by omega, by rw [← hl3.2.2]; exact c54.2⟩ p4 (by omega) (exc_mk ((p5 _ ⟨by omega, by omega, by omega⟩).trans hq9) (by omega) (by omega)) (fun i a b => (hq2 i a b).1) (fun b x e9 => by { have u9 := exc_at e9; have v9 := hwf37 _ _ u9.1; exact exc_mk ((p5 b ⟨by omega, u9.2.1, Or.inl u9.2.2⟩).trans ((fg9 b v9).trans u9.1)) u9.2.1 (by omega) })) (by omega) (by omega)
          · refine m_aload_n (y := yiX1_byDepartures) dX1_byDepartures_57 rfl ?_
            refine m_new (y := yiX1_byDepartures) kc_8 3 dX1_byDepartures_58 q1948 q1949 q168 _ rfl ⟨by omega, by omega⟩ (hp_new fun g2 g2H => ?_)
            have hro : g2.2.2 a = some (true, .inr (14, [(vi mca), (.ref e), (vi n)])) := (g2H.2.2.2 _ (by omega)).trans hro
            have hre : g2.2.2 e = some (wr, oaE K capr frr) := (g2H.2.2.2 _ (by omega)).trans hre
            have hE2 : g2.2.2 e0 = some (false, oaE K 0 (fun _ => none)) := (g2H.2.2.2 _ (by omega)).trans hE2
            have it9 : g2.2.2 h4.1 = some (true, .inr (15, [(vi (u + 1)), (vi u), (vi mca), (.ref a)])) := (g2H.2.2.2 _ (by omega)).trans it9
            have hpu : g2.2.2 (p u) = some (true, .inr (7, [(vi u), (vi (rix u % 24)), (vi (rix u / 24 - 1)), (.ref sa), (.ref aa), (.ref da)])) := (g2H.2.2.2 _ (by omega)).trans hpu
            have hda : g2.2.2 da = some (true, ia K ((sg.2 10 (rix u % 24)).toNat) f3) := (g2H.2.2.2 _ (by omega)).trans hda
            have haa : g2.2.2 aa = some (true, ia K ((sg.2 10 (rix u % 24)).toNat) f2) := (g2H.2.2.2 _ (by omega)).trans haa
            have ho2 : g2.2.2 h.1 = some (true, .inr (14, [(vi mc2), (.ref e2), (vi m)])) := (g2H.2.2.2 _ (by omega)).trans ho2
            have fR : ∀ b, (b < h.1) → g2.2.2 b = h.2.2 b := fun b hb => (g2H.2.2.2 b (by omega)).trans (fR b hb)
            have fg2 : g2.2.2 gb.1 = some (true, .inr (8, [.null, (vi 0), (vi 0)])) := g2H.2.2.1
            have g21 := g2H.1
            have g22 := g2H.2.1
            have fg0 : ∀ b, b < gb.1 → g2.2.2 b = gb.2.2 b := fun b hb => g2H.2.2.2 b (by omega)
            refine m_dup (y := yiX1_byDepartures) dX1_byDepartures_61 rfl ?_
            refine m_aload_n (y := yiX1_byDepartures) dX1_byDepartures_62 rfl ?_
            refine j_iload (y := yiX1_byDepartures) dX1_byDepartures_63 rfl ?_
            refine m_aload_n (y := yiX1_byDepartures) dX1_byDepartures_65 rfl ?_
            refine m_getfN (y := yiX1_byDepartures) kc_7 5 (by decide) dX1_byDepartures_66 q1914 hpu rfl ?_
            refine j_iload (y := yiX1_byDepartures) dX1_byDepartures_69 rfl ?_
            refine j_iald (y := yiX1_byDepartures) dX1_byDepartures_71 hda (by omega) ⟨by omega, by omega⟩ ?_
            refine mw_top (x' := (lvI sg (rix u) c)) (hl3.2.2) ?_
            refine m_invI (y := yiX1_byDepartures) [(.ref (p u)), (vi c), (vi (lvI sg (rix u) c))] dX1_byDepartures_72 q1950 q1951 q168 q1952 rfl rfl (c_X9_init K 1 g2 gb.1 (p u) c (lvI sg (rix u) c) (by omega) fg2) pdX9_init ⟨Nat.le_of_ble_eq_true rfl, by decide, by omega⟩ (kk_v fun h72 q72 => ?_) kx_v
            obtain q72 := q72
            have y72 := q72.1
            have z72 := q72.2.1
            have hq9 := q72.2.2.1
            have hro : h72.2.2 a = some (true, .inr (14, [(vi mca), (.ref e), (vi n)])) := (q72.2.2.2 _ (by omega)).trans hro
            have hre : h72.2.2 e = some (wr, oaE K capr frr) := (q72.2.2.2 _ (by omega)).trans hre
            have hE2 : h72.2.2 e0 = some (false, oaE K 0 (fun _ => none)) := (q72.2.2.2 _ (by omega)).trans hE2
            have it9 : h72.2.2 h4.1 = some (true, .inr (15, [(vi (u + 1)), (vi u), (vi mca), (.ref a)])) := (q72.2.2.2 _ (by omega)).trans it9
            have hpu : h72.2.2 (p u) = some (true, .inr (7, [(vi u), (vi (rix u % 24)), (vi (rix u / 24 - 1)), (.ref sa), (.ref aa), (.ref da)])) := (q72.2.2.2 _ (by omega)).trans hpu
            have hda : h72.2.2 da = some (true, ia K ((sg.2 10 (rix u % 24)).toNat) f3) := (q72.2.2.2 _ (by omega)).trans hda
            have haa : h72.2.2 aa = some (true, ia K ((sg.2 10 (rix u % 24)).toNat) f2) := (q72.2.2.2 _ (by omega)).trans haa
            have ho2 : h72.2.2 h.1 = some (true, .inr (14, [(vi mc2), (.ref e2), (vi m)])) := (q72.2.2.2 _ (by omega)).trans ho2
            have fR : ∀ b, (b < h.1) → h72.2.2 b = h.2.2 b := fun b hb => (q72.2.2.2 b (by omega)).trans (fR b hb)
            refine mw_wf (fun hwf72 => ?_)
            have l_hq972 := hwf72 _ _ hq9
            have fg9 : ∀ b, b < gb.1 → h72.2.2 b = gb.2.2 b := fun b hb => (q72.2.2.2 b (by omega)).trans (fg0 b hb)
            have gr9 := grC_63 (n := m) (by omega)
            refine m_invV (y := yiX1_byDepartures) (rB := (RJ2, TJ2, 3)) [(.ref gb.1)] dX1_byDepartures_75 ho2 rfl q953 q954 q955 q126 q956 rfl (c_Ladd K 6 h72 e0 h.1 e2 gb.1 m q2 8 (r := _) (by omega) ⟨k0, hE2⟩ (j1.up (fun b x e9 => (fg9 b (hwf37 b _ e9)).trans e9)) (by omega) rfl (by decide) ⟨_, _, hq9⟩ (fun i a b => by { obtain ⟨w, fs, u9⟩ := (hq2 i a b).2; exact ⟨w, fs, (fg9 _ (hq2 i a b).1).trans u9⟩ }) ⟨by omega, by omega⟩) pdJ2_add ⟨Nat.le_of_ble_eq_true rfl, by decide, by omega⟩ (kk_z fun r75 h75 q75 => ?_) kx_z
            obtain ⟨rfl, e5, p1, p3, p3', p4, p5⟩ := q75
            have hro : h75.2.2 a = some (true, .inr (14, [(vi mca), (.ref e), (vi n)])) := (p5 _ (by omega)).trans hro
            have hre : h75.2.2 e = some (wr, oaE K capr frr) := (p5 _ (by omega)).trans hre
            have hE2 : h75.2.2 e0 = some (false, oaE K 0 (fun _ => none)) := (p5 _ (by omega)).trans hE2
            have it9 : h75.2.2 h4.1 = some (true, .inr (15, [(vi (u + 1)), (vi u), (vi mca), (.ref a)])) := (p5 _ (by omega)).trans it9
            have hpu : h75.2.2 (p u) = some (true, .inr (7, [(vi u), (vi (rix u % 24)), (vi (rix u / 24 - 1)), (.ref sa), (.ref aa), (.ref da)])) := (p5 _ (by omega)).trans hpu
            have hda : h75.2.2 da = some (true, ia K ((sg.2 10 (rix u % 24)).toNat) f3) := (p5 _ (by omega)).trans hda
            have haa : h75.2.2 aa = some (true, ia K ((sg.2 10 (rix u % 24)).toNat) f2) := (p5 _ (by omega)).trans haa
            have fR : ∀ b, (b < h.1) → h75.2.2 b = h.2.2 b := fun b hb => (p5 b (by omega)).trans (fR b hb)
            refine mw_wf (fun hwf75 => ?_)
            refine m_pop (y := yiX1_byDepartures) dX1_byDepartures_78 rfl ?_
            refine j_iinc (y := yiX1_byDepartures) [some (.ref a), some (.ref h.1), some (.ref h4.1), some (.ref (p u)), some (vi (c + 1))] dX1_byDepartures_79 rfl (by decide) rfl rfl ?_
            refine m_goto (y := yiX1_byDepartures) 37 dX1_byDepartures_82 (by decide) ?_
            exact ih37 _ (by omega) _ _ _ _ _ _ _ rfl hro hre hE2 it9 hpu hda haa fR (by omega) (by first | exact hJ0.skip (fun h9 => c54 ⟨by have := h9.2.1; omega, by rw [hl3.2.2]; exact h9.2.2⟩) | exact hJ0.add ⟨by omega, by omega⟩ ⟨by omega, by omega, by rw [← hl3.2.2]; exact c54.2⟩ p4 (by omega) (exc_mk ((p5 _ ⟨by omega, by omega, by omega⟩).trans hq9) (by omega) (by omega)) (fun i a b => (hq2 i a b).1) (fun b x e9 => by { have u9 := exc_at e9; have v9 := hwf37 _ _ u9.1; exact exc_mk ((p5 b ⟨by omega, u9.2.1, Or.inl u9.2.2⟩).trans ((fg9 b v9).trans u9.1)) u9.2.1 (by omega) })) (by omega) (by omega)
      exact L37 _ 0 m e2 q2 ui ci _ rfl hro hre hE2 it9 hpu hda haa fR (by omega) (hI0.it (fun b x e9 e8 => (q25.2.2.2 b (fun e6 => by { rw [e6, it90] at e9; exact e8 _ _ (Option.some.inj e9).symm })).trans e9)) (by have := hm.1 u (by omega) (by omega) (by omega); omega) (by omega)
  exact L15 _ 0 (-1) 0 e0 (fun _ => 0) (fun _ => 0) (fun _ => 0) _ rfl hro hre hE2 it9 fR (by omega) (⟨⟨false, 0, 0, _, u4, hE2, by omega, fun _ => rfl, fun h9 => absurd rfl h9, ⟨by omega, by omega, by omega⟩, fun i a b => by omega, fun _ _ => rfl⟩, Or.inl rfl, fun i a b => by omega, fun i j a b c => by omega, fun u' c' a b c d => by have := c.1; omega, by omega⟩) (⟨fun v a b c => by omega, by omega⟩) (by omega)

theorem c_byArr (K : KT) (d : Nat) (h : MH) (e0 a e : Nat) (n : Int) (sg : TS) (rix : Int → Int) (p : Int → Nat) (hd : 14 ≤ d) (hT : TB sg) (hC : clOk sg) (hcl : clS sg ≤ 21) (hU : kV K 11 = vi 0) (hV : kV K 12 = vi 1) (hR : RunsA K h e0 a e n sg rix p) (hE : E0A K h e0) (hz : h.1 + 140 ≤ kC K ∧ h.2.1 + 7700 ≤ kS K) : Mt K yiX1_byArrivalsBackward d [.ref a] h (Rr fun r h' => RdsQ K h h' e0 sg rix n p (fun r c => -(cmI sg r (c + 1))) r) := by
  have hR0 := hR
  have hn72 := hR.num
  have k0 := hE.1
  have hE2 := hE.2
  obtain ⟨wr, capr, mca, frr, hro, hre, hae, h0, hw, hcap, hrf, hrno⟩ := hR.1
  have hcb := cum_b sg
  refine mt_ofQ (by decide) (Nat.le_of_ble_eq_true rfl) (fun Q hQ => ?_)
  show MW K yiX1_byArrivalsBackward d h 0 [some (.ref a), none, none, none, none] [] Q
  refine mw_wf (fun hwf => ?_)
  have l_hro := hwf _ _ hro
  have l_hre := hwf _ _ hre
  have l_hE2 := hwf _ _ hE2
  have fR : ∀ b, (b < h.1) → h.2.2 b = h.2.2 b := fun _ _ => rfl
  refine m_new (y := yiX1_byArrivalsBackward) kc_14 3 dX1_byArrivalsBackward_0 q199 q200 q126 _ rfl ⟨by omega, by omega⟩ (hp_new fun g1 g1H => ?_)
  have hro : g1.2.2 a = some (true, .inr (14, [(vi mca), (.ref e), (vi n)])) := (g1H.2.2.2 _ (by omega)).trans hro
  have hre : g1.2.2 e = some (wr, oaE K capr frr) := (g1H.2.2.2 _ (by omega)).trans hre
  have hE2 : g1.2.2 e0 = some (false, oaE K 0 (fun _ => none)) := (g1H.2.2.2 _ (by omega)).trans hE2
  have fR : ∀ b, (b < h.1) → g1.2.2 b = h.2.2 b := fun b hb => (g1H.2.2.2 b (by omega)).trans (fR b hb)
  have fg1 : g1.2.2 h.1 = some (true, .inr (14, [(vi 0), .null, (vi 0)])) := g1H.2.2.1
  have g11 := g1H.1
  have g12 := g1H.2.1
  refine m_dup (y := yiX1_byArrivalsBackward) dX1_byArrivalsBackward_3 rfl ?_
  refine m_invI (y := yiX1_byArrivalsBackward) [] dX1_byArrivalsBackward_4 q201 q202 q126 q203 rfl rfl (c_J2_init K 3 g1 h.1 e0 (by omega) k0 fg1) pdJ2_init ⟨Nat.le_of_ble_eq_true rfl, by decide, by omega⟩ (kk_v fun h4 q4 => ?_) kx_v
  obtain q4 := q4
  have y4 := q4.1
  have z4 := q4.2.1
  have u4 := q4.2.2.1
  have hro : h4.2.2 a = some (true, .inr (14, [(vi mca), (.ref e), (vi n)])) := (q4.2.2.2 _ (by omega)).trans hro
  have hre : h4.2.2 e = some (wr, oaE K capr frr) := (q4.2.2.2 _ (by omega)).trans hre
  have hE2 : h4.2.2 e0 = some (false, oaE K 0 (fun _ => none)) := (q4.2.2.2 _ (by omega)).trans hE2
  have fR : ∀ b, (b < h.1) → h4.2.2 b = h.2.2 b := fun b hb => (q4.2.2.2 b (by omega)).trans (fR b hb)
  refine mw_wf (fun hwf4 => ?_)
  have l_u44 := hwf4 _ _ u4
  have hup : ∀ g' : MH, (∀ b, b < h.1 → g'.2.2 b = h.2.2 b) → ∀ b c, h.2.2 b = some c → g'.2.2 b = some c := fun g' q b c e9 => (q b (hwf _ _ e9)).trans e9
  refine m_astore_n (y := yiX1_byArrivalsBackward) dX1_byArrivalsBackward_7 (by decide) rfl ?_
  show MW K yiX1_byArrivalsBackward d h4 8 [some (.ref a), some (.ref h.1), none, none, none] [] Q
  refine m_aload_n (y := yiX1_byArrivalsBackward) dX1_byArrivalsBackward_8 rfl ?_
  refine m_invF (y := yiX1_byArrivalsBackward) (rB := (RJ2, TJ2, 3)) [] dX1_byArrivalsBackward_9 hro rfl q1932 q1934 q1933 rfl q1936 q717 q1938 q1937 q1935 q126 q719 ⟨by decide, by decide⟩ (by show _ = some 0; decide +kernel) (c_J2_iterator K 2 h4 _ _ _ _ (by omega) hro ⟨by omega, by omega⟩) pdJ2_iterator ⟨Nat.le_of_ble_eq_true rfl, by decide, by omega⟩ (kk_r fun r9 h9 q9 => ?_) kx_r
  obtain ⟨rfl, q9⟩ := q9
  have y9 := q9.1
  have z9 := q9.2.1
  have it9 := q9.2.2.1
  have hro : h9.2.2 a = some (true, .inr (14, [(vi mca), (.ref e), (vi n)])) := (q9.2.2.2 _ (by omega)).trans hro
  have hre : h9.2.2 e = some (wr, oaE K capr frr) := (q9.2.2.2 _ (by omega)).trans hre
  have hE2 : h9.2.2 e0 = some (false, oaE K 0 (fun _ => none)) := (q9.2.2.2 _ (by omega)).trans hE2
  have u4 : h9.2.2 h.1 = some (true, .inr (14, [(vi 0), (.ref e0), (vi 0)])) := (q9.2.2.2 _ (by omega)).trans u4
  have fR : ∀ b, (b < h.1) → h9.2.2 b = h.2.2 b := fun b hb => (q9.2.2.2 b (by omega)).trans (fR b hb)
  refine mw_wf (fun hwf9 => ?_)
  have l_it99 := hwf9 _ _ it9
  refine m_astore_n (y := yiX1_byArrivalsBackward) dX1_byArrivalsBackward_14 (by decide) rfl ?_
  show MW K yiX1_byArrivalsBackward d h9 15 [some (.ref a), some (.ref h.1), some (.ref h4.1), none, none] [] Q
  have L15 : ∀ (N : Nat) (u l m : Int) (e2 : Nat) (q2 : Int → Nat) (ui ci : Int → Int) (g : MH), (n - u).toNat = N → (g.2.2 a = some (true, .inr (14, [(vi mca), (.ref e), (vi n)]))) → (g.2.2 e = some (wr, oaE K capr frr)) → (g.2.2 e0 = some (false, oaE K 0 (fun _ => none))) → (g.2.2 h4.1 = some (true, .inr (15, [(vi u), (vi l), (vi mca), (.ref a)]))) → (∀ b, (b < h.1) → g.2.2 b = h.2.2 b) → (0 ≤ u ∧ u ≤ n) → (RbI K h g e0 sg rix p (fun r c => -(cmI sg r (c + 1))) n u 0 m e2 q2 ui ci) → ((∀ v, 0 ≤ v → v < n → u ≤ v → m ≤ cum sg (rix v).toNat) ∧ m ≤ cum sg 72) → ((h.1 + 2 ≤ g.1 ∧ (g.1 : Int) ≤ h.1 + 2 + 2 * m) ∧ h.2.1 + 7 ≤ g.2.1 ∧ (g.2.1 : Int) ≤ h.2.1 + 7 + 113 * m) → MW K yiX1_byArrivalsBackward d g 15 [some (.ref a), some (.ref h.1), some (.ref h4.1), none, none] [] Q := by
    intro N
    induction N using Nat.strongRecOn with
    | _ N ih15 =>
    intro u l m e2 q2 ui ci g hN15 hro hre hE2 it9 fR hu hI hm hg
    refine mw_wf (fun hwf15 => ?_)
    have l_hro15 := hwf15 _ _ hro
    have l_hre15 := hwf15 _ _ hre
    have l_hE215 := hwf15 _ _ hE2
    have l_it915 := hwf15 _ _ it9
    have hI0 := hI
    have it90 := it9
    refine m_aload_n (y := yiX1_byArrivalsBackward) dX1_byArrivalsBackward_15 rfl ?_
    refine m_invF (y := yiX1_byArrivalsBackward) (rB := (RJ28, TJ28, 4)) [] dX1_byArrivalsBackward_16 it9 rfl q744 q746 q745 rfl q748 q750 q751 q749 q747 q156 q752 ⟨by decide, by decide⟩ (by show _ = some 0; decide +kernel) (c_J28_hasNext K 0 g _ _ _ _ _ _ _ it9 hro ⟨by omega, by omega, by omega⟩) pdJ28_hasNext ⟨Nat.le_of_ble_eq_true rfl, by decide, by omega⟩ (kk_z fun r16 h16 q16 => ?_) kx_z
    obtain ⟨rfl, rfl⟩ := q16
    refine mw_top (x' := bz (u ≠ n)) rfl ?_
    refine j_bz_eq (y := yiX1_byArrivalsBackward) 91 dX1_byArrivalsBackward_21 (by decide) (fun c21 => ?_) (fun c21 => ?_)
    · obtain ⟨w2, cap2, mc2, fx2, ho2, he2, hae2, h02, hw2, hcap2, hf2, hno2⟩ := id hI0.1
      have ho2 : g.2.2 h.1 = some (true, .inr (14, [(vi mc2), (.ref e2), (vi m)])) := ho2
      have l_ho2 := hwf15 _ _ ho2
      refine m_aload_n (y := yiX1_byArrivalsBackward) dX1_byArrivalsBackward_91 rfl ?_
      have eu : u = n := by omega
      have hI2 : RbI K h g e0 sg rix p (fun r c => -(cmI sg r (c + 1))) n n 0 m e2 q2 ui ci := eu ▸ hI0
      obtain ⟨rk, hrk⟩ := ex_rk (q := q2) (m := m) (F := fun i => rk3 ((fun r c => -(cmI sg r (c + 1))) (rix (ui i)) (ci i)) (ui i) (ci i)) (fun i j a b c => (hI2.2.2.2.1 i j a b c).1)
      have hbd : ∀ i, 0 ≤ i → i < m → (-10000 ≤ (fun r c => -(cmI sg r (c + 1))) (rix (ui i)) (ci i) ∧ (fun r c => -(cmI sg r (c + 1))) (rix (ui i)) (ci i) ≤ 10000) ∧ (0 ≤ ui i ∧ ui i < 100) ∧ 0 ≤ ci i ∧ ci i < 10 := fun i a b => by { have w := hI2.2.2.1 i a b; have hok := (hR0.run w.1).1; have hnb := oa10 (hT.2 10) (rix (ui i) % 24) (by have := hok.1; omega) (by have := hok.1; omega); have w1 := w.2.1.1; have w2 := w.2.1.2.1; have v := cmI_b hT (r := rix (ui i)) (c := ci i + 1) ⟨hok.1, hok.2.1⟩ ⟨by omega, by omega⟩; refine ⟨?_, ⟨w.1.1, by omega⟩, w1, by omega⟩; dsimp only; exact ⟨by omega, by omega⟩ }
      have hrs : ∀ i, 0 ≤ i → i < m → RdS g rk (q2 i) := fun i a b => by { have w := hI2.2.2.1 i a b; have x := exc_at w.2.2.1; obtain ⟨-, f1, f2, f3, hRC', -⟩ := hR0.run w.1; obtain ⟨sa', aa', da', v1, -⟩ := hRC'.up (hup _ fR); have hb := hbd i a b; exact ⟨_, ui i, ci i, ⟨p (ui i), _, _, sa', aa', da', x.1, v1⟩, hb.1, hb.2.1, hb.2.2, hrk i a b⟩ }
      have hin : Inj rk q2 0 m := fun i j a b c => by { rw [hrk i a (by omega), hrk j (by omega) c]; exact rk3_ne (hbd i a (by omega)).2.1 (hbd i a (by omega)).2.2 (hbd j (by omega) c).2.1 (hbd j (by omega) c).2.2 (hI2.2.2.2.1 i j a b c).2 }
      refine m_invS (y := yiX1_byArrivalsBackward) [(.ref h.1)] dX1_byArrivalsBackward_92 q1966 q1967 q169 q1968 (c_J34_sort K 13 g rk e0 h.1 e2 m q2 (by omega) hU hV ⟨k0, hE2⟩ hI2.1 hrs (by omega) hin ⟨by omega, by omega⟩) pdJ34_sort ⟨Nat.le_of_ble_eq_true rfl, by decide, by omega⟩ (kk_v fun h92 q92 => ?_) kx_v
      obtain q92 := q92
      have q92fr : ∀ b, b < h.1 → h92.2.2 b = g.2.2 b := fun b hb => q92.fr b ⟨by omega, by have := hI2.2.1; omega, by omega⟩
      have hro : h92.2.2 a = some (true, .inr (14, [(vi mca), (.ref e), (vi n)])) := (q92fr _ (by omega)).trans hro
      have hre : h92.2.2 e = some (wr, oaE K capr frr) := (q92fr _ (by omega)).trans hre
      have hE2 : h92.2.2 e0 = some (false, oaE K 0 (fun _ => none)) := (q92fr _ (by omega)).trans hE2
      have fR : ∀ b, (b < h.1) → h92.2.2 b = h.2.2 b := fun b hb => (q92fr b (by omega)).trans (fR b hb)
      refine mw_wf (fun hwf92 => ?_)
      refine m_aload_n (y := yiX1_byArrivalsBackward) dX1_byArrivalsBackward_95 rfl ?_
      subst hQ; exact m_aret (y := yiX1_byArrivalsBackward) (x := (some h.1)) dX1_byArrivalsBackward_96 rfl (Or.inl ⟨_, rfl⟩) ⟨h.1, rfl, (by { obtain ⟨q', ui', ci', hA'⟩ := hI2.fin hrk q92 hwf15; have s5 := q92.sz; exact ⟨e2, m, q', ui', ci', hA', by omega, by omega, by omega, fR, Nat.le_refl _⟩ })⟩
    · refine m_aload_n (y := yiX1_byArrivalsBackward) dX1_byArrivalsBackward_24 rfl ?_
      refine m_invF (y := yiX1_byArrivalsBackward) (rB := (RJ28, TJ28, 4)) [] dX1_byArrivalsBackward_25 it9 rfl q757 q759 q758 rfl q760 q762 q763 q761 q747 q156 q764 ⟨by decide, by decide⟩ (by show _ = some 0; decide +kernel) (c_J28_next K 1 g _ _ _ _ _ _ _ _ _ _ _ (by omega) it9 hro hre ⟨by omega, by omega, by omega⟩ ⟨by omega, by omega, by omega, by omega⟩ (hrf _ (by omega) (by omega))) pdJ28_next ⟨Nat.le_of_ble_eq_true rfl, by decide, by omega⟩ (kk_r fun r25 h25 q25 => ?_) kx_r
      obtain ⟨rfl, q25⟩ := q25
      have y25 := q25.1
      have z25 := q25.2.1
      have it9 := q25.2.2.1
      have hro : h25.2.2 a = some (true, .inr (14, [(vi mca), (.ref e), (vi n)])) := (q25.2.2.2 _ (by omega)).trans hro
      have hre : h25.2.2 e = some (wr, oaE K capr frr) := (q25.2.2.2 _ (by omega)).trans hre
      have hE2 : h25.2.2 e0 = some (false, oaE K 0 (fun _ => none)) := (q25.2.2.2 _ (by omega)).trans hE2
      have fR : ∀ b, (b < h.1) → h25.2.2 b = h.2.2 b := fun b hb => (q25.2.2.2 b (by omega)).trans (fR b hb)
      refine mw_wf (fun hwf25 => ?_)
      have l_it925 := hwf25 _ _ it9
      obtain ⟨hok, f1, f2, f3, hRC, hfx⟩ := hR0.run (u := u) ⟨by omega, by omega⟩
      have hok1 := hok.1
      have hok2 := hok.2.1
      have hnb := oa10 (hT.2 10) (rix u % 24) (by omega) (by omega)
      have hn1 := hC (rix u % 24) (by omega) hok.2.2.1
      have hlb : ∀ c, 0 ≤ c → c < sg.2 10 (rix u % 24) → -1440 ≤ lvI sg (rix u) c ∧ lvI sg (rix u) c ≤ 4500 := fun c a b => lvI_b hT ⟨hok1, hok2⟩ ⟨a, by omega⟩
      have hmb : ∀ c, 0 ≤ c → c < sg.2 10 (rix u % 24) → -1440 ≤ cmI sg (rix u) c ∧ cmI sg (rix u) c ≤ 4500 := fun c a b => cmI_b hT ⟨hok1, hok2⟩ ⟨a, by omega⟩
      obtain ⟨sa, aa, da, hpu0, hsa0, haa0, hda0⟩ := id hRC
      have la0 := hwf _ _ haa0
      have ld0 := hwf _ _ hda0
      have lp0 := hwf _ _ hpu0
      have hpu : h25.2.2 (p u) = some (true, .inr (7, [(vi u), (vi (rix u % 24)), (vi (rix u / 24 - 1)), (.ref sa), (.ref aa), (.ref da)])) := (fR _ lp0).trans hpu0
      have l_hpu := hwf25 _ _ hpu
      have hda : h25.2.2 da = some (true, ia K ((sg.2 10 (rix u % 24)).toNat) f3) := (fR _ ld0).trans hda0
      have l_hda := hwf25 _ _ hda
      have haa : h25.2.2 aa = some (true, ia K ((sg.2 10 (rix u % 24)).toNat) f2) := (fR _ la0).trans haa0
      have l_haa := hwf25 _ _ haa
      refine m_cast (y := yiX1_byArrivalsBackward) dX1_byArrivalsBackward_30 hpu rfl q1881 (Or.inl rfl) ?_
      refine m_astore_n (y := yiX1_byArrivalsBackward) dX1_byArrivalsBackward_33 (by decide) rfl ?_
      show MW K yiX1_byArrivalsBackward d h25 34 [some (.ref a), some (.ref h.1), some (.ref h4.1), some (.ref (p u)), none] [] Q
      refine j_iconst (y := yiX1_byArrivalsBackward) dX1_byArrivalsBackward_34 ?_
      refine j_istore (y := yiX1_byArrivalsBackward) [some (.ref a), some (.ref h.1), some (.ref h4.1), some (.ref (p u)), some (vi 0)] dX1_byArrivalsBackward_35 (by decide) rfl rfl ?_
      have L37 : ∀ (N : Nat) (c m : Int) (e2 : Nat) (q2 : Int → Nat) (ui ci : Int → Int) (gb : MH), (sg.2 10 (rix u % 24) - c).toNat = N → (gb.2.2 a = some (true, .inr (14, [(vi mca), (.ref e), (vi n)]))) → (gb.2.2 e = some (wr, oaE K capr frr)) → (gb.2.2 e0 = some (false, oaE K 0 (fun _ => none))) → (gb.2.2 h4.1 = some (true, .inr (15, [(vi (u + 1)), (vi u), (vi mca), (.ref a)]))) → (gb.2.2 (p u) = some (true, .inr (7, [(vi u), (vi (rix u % 24)), (vi (rix u / 24 - 1)), (.ref sa), (.ref aa), (.ref da)]))) → (gb.2.2 da = some (true, ia K ((sg.2 10 (rix u % 24)).toNat) f3)) → (gb.2.2 aa = some (true, ia K ((sg.2 10 (rix u % 24)).toNat) f2)) → (∀ b, (b < h.1) → gb.2.2 b = h.2.2 b) → (0 ≤ c ∧ c + 1 ≤ sg.2 10 (rix u % 24)) → (RbI K h gb e0 sg rix p (fun r c => -(cmI sg r (c + 1))) n u c m e2 q2 ui ci) → (m ≤ cum sg (rix u).toNat + c) → ((h.1 + 2 ≤ gb.1 ∧ (gb.1 : Int) ≤ h.1 + 2 + 2 * m) ∧ h.2.1 + 7 ≤ gb.2.1 ∧ (gb.2.1 : Int) ≤ h.2.1 + 7 + 113 * m) → MW K yiX1_byArrivalsBackward d gb 37 [some (.ref a), some (.ref h.1), some (.ref h4.1), some (.ref (p u)), some (vi c)] [] Q := by
        intro N
        induction N using Nat.strongRecOn with
        | _ N ih37 =>
        intro c m e2 q2 ui ci gb hN37 hro hre hE2 it9 hpu hda haa fR hc hJ hm2 hg2
        refine mw_wf (fun hwf37 => ?_)
        have l_hro37 := hwf37 _ _ hro
        have l_hre37 := hwf37 _ _ hre
        have l_hE237 := hwf37 _ _ hE2
        have l_it937 := hwf37 _ _ it9
        have l_hpu37 := hwf37 _ _ hpu
        have l_hda37 := hwf37 _ _ hda
        have l_haa37 := hwf37 _ _ haa
        have hJ0 := hJ
        obtain ⟨j1, j2, j3, j4, j5, j6⟩ := hJ
        obtain ⟨w2, cap2, mc2, fx2, ho2, he2, hae2, h02, hw2, hcap2, hf2, hno2⟩ := id j1
        have l_he2 := hwf37 _ _ he2
        have hcs := cum_s hok
        have hc72 := cum_le sg (a := (rix u + 1).toNat) (b := 72) (by omega)
        have hq2 : ∀ i, 0 ≤ i → i < m → q2 i < gb.1 ∧ ∃ w fs, gb.2.2 (q2 i) = some (w, .inr (8, fs)) := fun i a b => by { have u9 := exc_at (j3 i a b).2.2.1; exact ⟨hwf37 _ _ u9.1, _, _, u9.1⟩ }
        have ho2 : gb.2.2 h.1 = some (true, .inr (14, [(vi mc2), (.ref e2), (vi m)])) := ho2
        have l_ho2 := hwf37 _ _ ho2
        refine j_iload (y := yiX1_byArrivalsBackward) dX1_byArrivalsBackward_37 rfl ?_
        refine m_aload_n (y := yiX1_byArrivalsBackward) dX1_byArrivalsBackward_39 rfl ?_
        refine m_invV (y := yiX1_byArrivalsBackward) (rB := (RX8, TX8, 6)) [] dX1_byArrivalsBackward_40 hpu rfl q1939 q1940 q1941 q167 q1942 rfl (c_X8_many K 0 gb (p u) u (rix u % 24) (rix u / 24 - 1) (sg.2 10 (rix u % 24)).toNat f1 f2 f3 (hRC.up (hup _ fR))) pdX8_many ⟨Nat.le_of_ble_eq_true rfl, by decide, by omega⟩ (kk_z fun r40 h40 q40 => ?_) kx_z
        obtain ⟨rfl, rfl⟩ := q40
        refine mw_top (x' := (((sg.2 10 (rix u % 24)).toNat : Nat) : Int)) rfl ?_
        refine j_iconst (y := yiX1_byArrivalsBackward) dX1_byArrivalsBackward_43 ?_
        refine j_isub (y := yiX1_byArrivalsBackward) dX1_byArrivalsBackward_44 ?_
        refine j_icmp_ge (y := yiX1_byArrivalsBackward) 88 dX1_byArrivalsBackward_45 (by decide) ⟨⟨by omega, by omega⟩, ⟨by omega, by omega⟩⟩ (fun c45 => ?_) (fun c45 => ?_)
        · refine m_goto (y := yiX1_byArrivalsBackward) 15 dX1_byArrivalsBackward_88 (by decide) ?_
          refine mw_forget 3 ?_
          refine mw_forget 4 ?_
          exact ih15 _ (by omega) _ _ _ _ _ _ _ _ rfl hro hre hE2 it9 fR (by omega) (hJ0.next (by omega)) (⟨fun v a9 b9 x9 => by { have := hR0.2.2.1 u v (by omega) (by omega) b9; have w9 := cum_le sg (a := (rix u + 1).toNat) (b := (rix v).toNat) (by omega); omega }, by omega⟩) (by omega)
        · have hl3 := hfx c (by omega) (by omega)
          have hl4 := hlb c (by omega) (by omega)
          have hm4 := hmb (c + 1) (by omega) (by omega)
          have hl5 := hfx (c + 1) (by omega) (by omega)
          refine m_aload_n (y := yiX1_byArrivalsBackward) dX1_byArrivalsBackward_48 rfl ?_
          refine j_iload (y := yiX1_byArrivalsBackward) dX1_byArrivalsBackward_49 rfl ?_
          refine m_invV (y := yiX1_byArrivalsBackward) (rB := (RX8, TX8, 6)) [(vi c)] dX1_byArrivalsBackward_51 hpu rfl q1943 q1944 q1945 q167 q1946 rfl (c_X8_canGetOn K 1 gb (p u) u (rix u % 24) (rix u / 24 - 1) (sg.2 10 (rix u % 24)).toNat f1 f2 f3 c (by omega) (hRC.up (hup _ fR)) ⟨by omega, by omega⟩ (by omega) ⟨by omega, by omega⟩) pdX8_canGetOn ⟨Nat.le_of_ble_eq_true rfl, by decide, by omega⟩ (kk_z fun r51 h51 q51 => ?_) kx_z
          obtain ⟨rfl, rfl⟩ := q51
          refine mw_top (x' := bz (c < (((sg.2 10 (rix u % 24)).toNat : Nat) : Int) - 1 ∧ 0 ≤ f3 c)) rfl ?_
          refine j_bz_eq (y := yiX1_byArrivalsBackward) 82 dX1_byArrivalsBackward_54 (by decide) (fun c54 => ?_) (fun c54 => ?_)
          · refine j_iinc (y := yiX1_byArrivalsBackward) [some (.ref a), some (.ref h.1), some (.ref h4.1), some (.ref (p u)), some (vi (c + 1))] dX1_byArrivalsBackward_82 rfl (by decide) rfl rfl ?_
            refine m_goto (y := yiX1_byArrivalsBackward) 37 dX1_byArrivalsBackward_85 (by decide) ?_
            exact ih37 _ (by omega) _ _ _ _ _ _ _ rfl hro hre hE2 it9 hpu hda haa fR (by omega) (by first | exact hJ0.skip (fun h9 => c54 ⟨by have := h9.2.1; omega, by rw [hl3.2.2]; exact h9.2.2⟩) | exact hJ0.add ⟨by omega, by omega⟩ ⟨by omega, by omega, by rw [← hl3.2.2]; exact c54.2⟩ p4 (by omega) (exc_mk ((p5 _ ⟨by omega, by omega, by omega⟩).trans hq9) (by omega) (by omega)) (fun i a b => (hq2 i a b).1) (fun b x e9 => by { have u9 := exc_at e9; have v9 := hwf37 _ _ u9.1; exact exc_mk ((p5 b ⟨by omega, u9.2.1, Or.inl u9.2.2⟩).trans ((fg9 b v9).trans u9.1)) u9.2.1 (by omega) })) (by omega) (by omega)
          · refine m_aload_n (y := yiX1_byArrivalsBackward) dX1_byArrivalsBackward_57 rfl ?_
            refine m_new (y := yiX1_byArrivalsBackward) kc_8 3 dX1_byArrivalsBackward_58 q1948 q1949 q168 _ rfl ⟨by omega, by omega⟩ (hp_new fun g2 g2H => ?_)
            have hro : g2.2.2 a = some (true, .inr (14, [(vi mca), (.ref e), (vi n)])) := (g2H.2.2.2 _ (by omega)).trans hro
            have hre : g2.2.2 e = some (wr, oaE K capr frr) := (g2H.2.2.2 _ (by omega)).trans hre
            have hE2 : g2.2.2 e0 = some (false, oaE K 0 (fun _ => none)) := (g2H.2.2.2 _ (by omega)).trans hE2
            have it9 : g2.2.2 h4.1 = some (true, .inr (15, [(vi (u + 1)), (vi u), (vi mca), (.ref a)])) := (g2H.2.2.2 _ (by omega)).trans it9
            have hpu : g2.2.2 (p u) = some (true, .inr (7, [(vi u), (vi (rix u % 24)), (vi (rix u / 24 - 1)), (.ref sa), (.ref aa), (.ref da)])) := (g2H.2.2.2 _ (by omega)).trans hpu
            have hda : g2.2.2 da = some (true, ia K ((sg.2 10 (rix u % 24)).toNat) f3) := (g2H.2.2.2 _ (by omega)).trans hda
            have haa : g2.2.2 aa = some (true, ia K ((sg.2 10 (rix u % 24)).toNat) f2) := (g2H.2.2.2 _ (by omega)).trans haa
            have ho2 : g2.2.2 h.1 = some (true, .inr (14, [(vi mc2), (.ref e2), (vi m)])) := (g2H.2.2.2 _ (by omega)).trans ho2
            have fR : ∀ b, (b < h.1) → g2.2.2 b = h.2.2 b := fun b hb => (g2H.2.2.2 b (by omega)).trans (fR b hb)
            have fg2 : g2.2.2 gb.1 = some (true, .inr (8, [.null, (vi 0), (vi 0)])) := g2H.2.2.1
            have g21 := g2H.1
            have g22 := g2H.2.1
            have fg0 : ∀ b, b < gb.1 → g2.2.2 b = gb.2.2 b := fun b hb => g2H.2.2.2 b (by omega)
            refine m_dup (y := yiX1_byArrivalsBackward) dX1_byArrivalsBackward_61 rfl ?_
            refine m_aload_n (y := yiX1_byArrivalsBackward) dX1_byArrivalsBackward_62 rfl ?_
            refine j_iload (y := yiX1_byArrivalsBackward) dX1_byArrivalsBackward_63 rfl ?_
            refine m_aload_n (y := yiX1_byArrivalsBackward) dX1_byArrivalsBackward_65 rfl ?_
            refine m_getfN (y := yiX1_byArrivalsBackward) kc_7 4 (by decide) dX1_byArrivalsBackward_66 q1910 hpu rfl ?_
            refine j_iload (y := yiX1_byArrivalsBackward) dX1_byArrivalsBackward_69 rfl ?_
            refine j_iconst (y := yiX1_byArrivalsBackward) dX1_byArrivalsBackward_71 ?_
            refine j_iadd (y := yiX1_byArrivalsBackward) dX1_byArrivalsBackward_72 ?_
            refine j_iald (y := yiX1_byArrivalsBackward) dX1_byArrivalsBackward_73 haa (by omega) ⟨by omega, by omega⟩ ?_
            refine j_ineg (y := yiX1_byArrivalsBackward) dX1_byArrivalsBackward_74 ?_
            refine mw_top (x' := (-(cmI sg (rix u) (c + 1)))) ((by rw [hl5.2.1])) ?_
            refine m_invI (y := yiX1_byArrivalsBackward) [(.ref (p u)), (vi c), (vi (-(cmI sg (rix u) (c + 1))))] dX1_byArrivalsBackward_75 q1950 q1951 q168 q1952 rfl rfl (c_X9_init K 1 g2 gb.1 (p u) c (-(cmI sg (rix u) (c + 1))) (by omega) fg2) pdX9_init ⟨Nat.le_of_ble_eq_true rfl, by decide, by omega⟩ (kk_v fun h75 q75 => ?_) kx_v
            obtain q75 := q75
            have y75 := q75.1
            have z75 := q75.2.1
            have hq9 := q75.2.2.1
            have hro : h75.2.2 a = some (true, .inr (14, [(vi mca), (.ref e), (vi n)])) := (q75.2.2.2 _ (by omega)).trans hro
            have hre : h75.2.2 e = some (wr, oaE K capr frr) := (q75.2.2.2 _ (by omega)).trans hre
            have hE2 : h75.2.2 e0 = some (false, oaE K 0 (fun _ => none)) := (q75.2.2.2 _ (by omega)).trans hE2
            have it9 : h75.2.2 h4.1 = some (true, .inr (15, [(vi (u + 1)), (vi u), (vi mca), (.ref a)])) := (q75.2.2.2 _ (by omega)).trans it9
            have hpu : h75.2.2 (p u) = some (true, .inr (7, [(vi u), (vi (rix u % 24)), (vi (rix u / 24 - 1)), (.ref sa), (.ref aa), (.ref da)])) := (q75.2.2.2 _ (by omega)).trans hpu
            have hda : h75.2.2 da = some (true, ia K ((sg.2 10 (rix u % 24)).toNat) f3) := (q75.2.2.2 _ (by omega)).trans hda
            have haa : h75.2.2 aa = some (true, ia K ((sg.2 10 (rix u % 24)).toNat) f2) := (q75.2.2.2 _ (by omega)).trans haa
            have ho2 : h75.2.2 h.1 = some (true, .inr (14, [(vi mc2), (.ref e2), (vi m)])) := (q75.2.2.2 _ (by omega)).trans ho2
            have fR : ∀ b, (b < h.1) → h75.2.2 b = h.2.2 b := fun b hb => (q75.2.2.2 b (by omega)).trans (fR b hb)
            refine mw_wf (fun hwf75 => ?_)
            have l_hq975 := hwf75 _ _ hq9
            have fg9 : ∀ b, b < gb.1 → h75.2.2 b = gb.2.2 b := fun b hb => (q75.2.2.2 b (by omega)).trans (fg0 b hb)
            have gr9 := grC_63 (n := m) (by omega)
            refine m_invV (y := yiX1_byArrivalsBackward) (rB := (RJ2, TJ2, 3)) [(.ref gb.1)] dX1_byArrivalsBackward_78 ho2 rfl q953 q954 q955 q126 q956 rfl (c_Ladd K 6 h75 e0 h.1 e2 gb.1 m q2 8 (r := _) (by omega) ⟨k0, hE2⟩ (j1.up (fun b x e9 => (fg9 b (hwf37 b _ e9)).trans e9)) (by omega) rfl (by decide) ⟨_, _, hq9⟩ (fun i a b => by { obtain ⟨w, fs, u9⟩ := (hq2 i a b).2; exact ⟨w, fs, (fg9 _ (hq2 i a b).1).trans u9⟩ }) ⟨by omega, by omega⟩) pdJ2_add ⟨Nat.le_of_ble_eq_true rfl, by decide, by omega⟩ (kk_z fun r78 h78 q78 => ?_) kx_z
            obtain ⟨rfl, e5, p1, p3, p3', p4, p5⟩ := q78
            have hro : h78.2.2 a = some (true, .inr (14, [(vi mca), (.ref e), (vi n)])) := (p5 _ (by omega)).trans hro
            have hre : h78.2.2 e = some (wr, oaE K capr frr) := (p5 _ (by omega)).trans hre
            have hE2 : h78.2.2 e0 = some (false, oaE K 0 (fun _ => none)) := (p5 _ (by omega)).trans hE2
            have it9 : h78.2.2 h4.1 = some (true, .inr (15, [(vi (u + 1)), (vi u), (vi mca), (.ref a)])) := (p5 _ (by omega)).trans it9
            have hpu : h78.2.2 (p u) = some (true, .inr (7, [(vi u), (vi (rix u % 24)), (vi (rix u / 24 - 1)), (.ref sa), (.ref aa), (.ref da)])) := (p5 _ (by omega)).trans hpu
            have hda : h78.2.2 da = some (true, ia K ((sg.2 10 (rix u % 24)).toNat) f3) := (p5 _ (by omega)).trans hda
            have haa : h78.2.2 aa = some (true, ia K ((sg.2 10 (rix u % 24)).toNat) f2) := (p5 _ (by omega)).trans haa
            have fR : ∀ b, (b < h.1) → h78.2.2 b = h.2.2 b := fun b hb => (p5 b (by omega)).trans (fR b hb)
            refine mw_wf (fun hwf78 => ?_)
            refine m_pop (y := yiX1_byArrivalsBackward) dX1_byArrivalsBackward_81 rfl ?_
            refine j_iinc (y := yiX1_byArrivalsBackward) [some (.ref a), some (.ref h.1), some (.ref h4.1), some (.ref (p u)), some (vi (c + 1))] dX1_byArrivalsBackward_82 rfl (by decide) rfl rfl ?_
            refine m_goto (y := yiX1_byArrivalsBackward) 37 dX1_byArrivalsBackward_85 (by decide) ?_
            exact ih37 _ (by omega) _ _ _ _ _ _ _ rfl hro hre hE2 it9 hpu hda haa fR (by omega) (by first | exact hJ0.skip (fun h9 => c54 ⟨by have := h9.2.1; omega, by rw [hl3.2.2]; exact h9.2.2⟩) | exact hJ0.add ⟨by omega, by omega⟩ ⟨by omega, by omega, by rw [← hl3.2.2]; exact c54.2⟩ p4 (by omega) (exc_mk ((p5 _ ⟨by omega, by omega, by omega⟩).trans hq9) (by omega) (by omega)) (fun i a b => (hq2 i a b).1) (fun b x e9 => by { have u9 := exc_at e9; have v9 := hwf37 _ _ u9.1; exact exc_mk ((p5 b ⟨by omega, u9.2.1, Or.inl u9.2.2⟩).trans ((fg9 b v9).trans u9.1)) u9.2.1 (by omega) })) (by omega) (by omega)
      exact L37 _ 0 m e2 q2 ui ci _ rfl hro hre hE2 it9 hpu hda haa fR (by omega) (hI0.it (fun b x e9 e8 => (q25.2.2.2 b (fun e6 => by { rw [e6, it90] at e9; exact e8 _ _ (Option.some.inj e9).symm })).trans e9)) (by have := hm.1 u (by omega) (by omega) (by omega); omega) (by omega)
  exact L15 _ 0 (-1) 0 e0 (fun _ => 0) (fun _ => 0) (fun _ => 0) _ rfl hro hre hE2 it9 fR (by omega) (⟨⟨false, 0, 0, _, u4, hE2, by omega, fun _ => rfl, fun h9 => absurd rfl h9, ⟨by omega, by omega, by omega⟩, fun i a b => by omega, fun _ _ => rfl⟩, Or.inl rfl, fun i a b => by omega, fun i j a b c => by omega, fun u' c' a b c d => by have := c.1; omega, by omega⟩) (⟨fun v a b c => by omega, by omega⟩) (by omega)
