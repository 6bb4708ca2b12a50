/-! the twin: onBoard -/
/-- getting off a run behind a call, ahead of call k -/
def obK (sg : TS) (R c k : Int) : EV := fun s t => ∃ j, c < j ∧ j < k ∧ stI sg R j = s ∧ cmI sg R j = t
def EvO (sg : TS) (E0 : EV) : Nat → EV
  | 0 => E0
  | n + 1 => fun s t => E0 s t ∨ AltE sg BG BG (EvO sg E0 n) s t
def ArO (sg : TS) (E : EV) (s t : Int) : Prop := (∃ t', E s t' ∧ t' ≤ t) ∨ ∃ s' t', (0 ≤ s' ∧ s' < sg.1 1) ∧ E s' t' ∧ s' ≠ s ∧ t' + sg.2 4 (12 * s' + s) ≤ t
def EAo (sg : TS) (E0 : EV) (s v : Int) : Prop := (v = 1000000 ∨ (-2000 ≤ v ∧ v ≤ 300000)) ∧ ∀ t, t < 900000 → (v ≤ t ↔ ∃ n, ArO sg (EvO sg E0 n) s t)
theorem EAo.uniq {sg : TS} {E0 : EV} {s v w : Int} (h1 : EAo sg E0 s v) (h2 : EAo sg E0 s w) : v = w := by
  have a := h1.1; have b := h2.1
  by_cases e1 : v < 900000
  · have := (h2.2 v e1).mpr ((h1.2 v e1).mp (by omega))
    have := (h1.2 w (by omega)).mpr ((h2.2 w (by omega)).mp (by omega))
    omega
  · by_cases e2 : w < 900000
    · have := (h1.2 w e2).mpr ((h2.2 w e2).mp (by omega)); omega
    · omega
theorem BGn (s t : Int) (h : t < 900000) : ¬ BG s ≤ t := by show ¬ (1000000 : Int) ≤ t; omega
theorem Lab.skip {sg : TS} {f r : Int → Int} {E : EV} (h : Lab sg BG BG E f r) {s t : Int} (hs : 0 ≤ s ∧ s < sg.1 1) (ht : t < 900000) (hr : r s ≤ t) : Lab sg BG BG (evAdd E s t) f r := by
  obtain ⟨t0, q1, q2⟩ := ((h.1 s t hs.1 hs.2 ht).mp hr).resolve_left (BGn s t ht)
  constructor
  · intro s2 t2 a1 a2 a3
    rw [h.1 s2 t2 a1 a2 a3]
    constructor
    · rintro (g | ⟨t', g1, g2⟩)
      · exact Or.inl g
      · exact Or.inr ⟨t', Or.inl g1, g2⟩
    · rintro (g | ⟨t', g1 | ⟨rfl, rfl⟩, g2⟩)
      · exact Or.inl g
      · exact Or.inr ⟨t', g1, g2⟩
      · exact Or.inr ⟨t0, q1, by omega⟩
  · intro v t2 a1 a2 a3
    rw [h.2 v t2 a1 a2 a3]
    constructor
    · rintro (g | ⟨s', t', g0, g1, g2⟩)
      · exact Or.inl g
      · exact Or.inr ⟨s', t', g0, Or.inl g1, g2⟩
    · rintro (g | ⟨s', t', g0, g1 | ⟨rfl, rfl⟩, g2, g3⟩)
      · exact Or.inl g
      · exact Or.inr ⟨s', t', g0, g1, g2, g3⟩
      · exact Or.inr ⟨s', t0, g0, q1, g2, by omega⟩
theorem obK_s {sg : TS} {R c k : Int} (hk : c < k) : evAdd (obK sg R c k) (stI sg R k) (cmI sg R k) = obK sg R c (k + 1) := by
  funext s t
  apply propext
  constructor
  · rintro (⟨j, a, b, e⟩ | ⟨rfl, rfl⟩)
    · exact ⟨j, a, by omega, e⟩
    · exact ⟨k, hk, by omega, rfl, rfl⟩
  · rintro ⟨j, a, b, e1, e2⟩
    by_cases e : j = k
    · subst e; exact Or.inr ⟨e1.symm, e2.symm⟩
    · exact Or.inl ⟨j, a, by omega, e1, e2⟩
/-- first labels that tell E0 count as E0 -/
theorem EvO_eq {sg : TS} (hF : WF sg) {E0 : EV} {f0 r0 : Int → Int} (h0 : Lab sg BG BG E0 f0 r0) (n : Nat) : ∀ s t, EvO sg E0 n s t ↔ E0 s t ∨ EvN sg f0 r0 n s t := by
  obtain ⟨hT, hS, hM, hW⟩ := hF
  have hn1 := of1 (hT.1 1)
  have rd : ∀ (E : EV) (E' : EV), (∀ s t, E' s t ↔ E0 s t ∨ E s t) → ∀ s t, 0 ≤ s → s < sg.1 1 → t < 890000 → (RdE sg BG BG E' s t ↔ RdE sg f0 r0 E s t) := by
    intro E E' he s t a1 a2 a3
    have hch := oa2 (hT.2 2) s a1 (by omega)
    have l1 := h0.1 s (t - sg.2 2 s) a1 a2 (by omega)
    have l2 := h0.2 s t a1 a2 (by omega)
    constructor
    · rintro (g | g | ⟨t', g1, g2⟩ | ⟨s', t', g0, g1, g2, g3⟩)
      · exact absurd g (BGn s t (by omega))
      · exact absurd (show BG s ≤ t - sg.2 2 s by omega) (BGn s _ (by omega))
      · rcases (he _ _).mp g1 with g | g
        · exact Or.inr (Or.inl (by have := l1.mpr (Or.inr ⟨t', g, by omega⟩); omega))
        · exact Or.inr (Or.inr (Or.inl ⟨t', g, g2⟩))
      · rcases (he _ _).mp g1 with g | g
        · exact Or.inl (l2.mpr (Or.inr ⟨s', t', g0, g, g2, g3⟩))
        · exact Or.inr (Or.inr (Or.inr ⟨s', t', g0, g, g2, g3⟩))
    · rintro (g | g | ⟨t', g1, g2⟩ | ⟨s', t', g0, g1, g2, g3⟩)
      · obtain ⟨s', t', g0, g1, g2, g3⟩ := (l2.mp g).resolve_left (BGn s t (by omega))
        exact Or.inr (Or.inr (Or.inr ⟨s', t', g0, (he _ _).mpr (Or.inl g1), g2, g3⟩))
      · obtain ⟨t', g1, g2⟩ := (l1.mp (by omega)).resolve_left (BGn s _ (by omega))
        exact Or.inr (Or.inr (Or.inl ⟨t', (he _ _).mpr (Or.inl g1), by omega⟩))
      · exact Or.inr (Or.inr (Or.inl ⟨t', (he _ _).mpr (Or.inr g1), g2⟩))
      · exact Or.inr (Or.inr (Or.inr ⟨s', t', g0, (he _ _).mpr (Or.inr g1), g2, g3⟩))
  induction n with
  | zero => intro s t; exact ⟨Or.inl, fun h => h.elim id (fun g => g.elim)⟩
  | succ n ih =>
    intro s t
    have key : AltE sg BG BG (EvO sg E0 n) s t ↔ AltE sg f0 r0 (EvN sg f0 r0 n) s t := by
      constructor
      · rintro ⟨k, c, c', h1, h2, h3, h4, h5, h6, h7, h8, h9, h10⟩
        have hn := oa10 (hT.2 10) (k % 24) (by have := h1.1; omega) (by have := h1.2.1; omega)
        have s2 := hS.run h1 (c := c') ⟨h2, by omega⟩
        have b2 := lvI_b hT (r := k) (c := c') ⟨h1.1, h1.2.1⟩ ⟨by omega, by omega⟩
        exact ⟨k, c, c', h1, h2, h3, h4, h5, h6, h7, h8, h9, (rd _ _ ih _ _ s2.1 s2.2 (by omega)).mp h10⟩
      · rintro ⟨k, c, c', h1, h2, h3, h4, h5, h6, h7, h8, h9, h10⟩
        have hn := oa10 (hT.2 10) (k % 24) (by have := h1.1; omega) (by have := h1.2.1; omega)
        have s2 := hS.run h1 (c := c') ⟨h2, by omega⟩
        have b2 := lvI_b hT (r := k) (c := c') ⟨h1.1, h1.2.1⟩ ⟨by omega, by omega⟩
        exact ⟨k, c, c', h1, h2, h3, h4, h5, h6, h7, h8, h9, (rd _ _ ih _ _ s2.1 s2.2 (by omega)).mpr h10⟩
    exact or_congr Iff.rfl key
theorem Lab.eao {sg : TS} (hF : WF sg) {E0 : EV} {f0 r0 f r : Int → Int} (h0 : Lab sg BG BG E0 f0 r0) (h : Lab sg f0 r0 (EvI sg f0 r0) f r) (hf : okA 23 f) (hr : okA 24 r) (hD : Dich f ∧ Dich r) {s : Int} (hs : 0 ≤ s ∧ s < sg.1 1) : EAo sg E0 s (if f s < r s then f s else r s) := by
  have hn := of1 (hF.1.1 1)
  have d1 := hD.1 s hs.1 (by omega); have d2 := hD.2 s hs.1 (by omega)
  have b1 := oa23 hf s hs.1 (by omega); have b2 := oa24 hr s hs.1 (by omega)
  refine ⟨by split <;> omega, fun t ht => ?_⟩
  have e : (if f s < r s then f s else r s) ≤ t ↔ f s ≤ t ∨ r s ≤ t := by split <;> omega
  rw [e, h.1 s t hs.1 hs.2 ht, h.2 s t hs.1 hs.2 ht, h0.1 s t hs.1 hs.2 ht, h0.2 s t hs.1 hs.2 ht]
  have hB := BGn s t ht
  constructor
  · rintro (((g | ⟨s', t', g0, g1, g2, g3⟩) | ⟨s', t', g0, ⟨n, g1⟩, g2, g3⟩) | ((g | ⟨t', g1, g2⟩) | ⟨t', ⟨n, g1⟩, g2⟩))
    · exact absurd g hB
    · exact ⟨0, Or.inr ⟨s', t', g0, g1, g2, g3⟩⟩
    · exact ⟨n, Or.inr ⟨s', t', g0, (EvO_eq hF h0 n _ _).mpr (Or.inr g1), g2, g3⟩⟩
    · exact absurd g hB
    · exact ⟨0, Or.inl ⟨t', g1, g2⟩⟩
    · exact ⟨n, Or.inl ⟨t', (EvO_eq hF h0 n _ _).mpr (Or.inr g1), g2⟩⟩
  · rintro ⟨n, ⟨t', g1, g2⟩ | ⟨s', t', g0, g1, g2, g3⟩⟩
    · rcases (EvO_eq hF h0 n _ _).mp g1 with g | g
      · exact Or.inr (Or.inl (Or.inr ⟨t', g, g2⟩))
      · exact Or.inr (Or.inr ⟨t', ⟨n, g⟩, g2⟩)
    · rcases (EvO_eq hF h0 n _ _).mp g1 with g | g
      · exact Or.inl (Or.inl (Or.inr ⟨s', t', g0, g, g2, g3⟩))
      · exact Or.inl (Or.inr ⟨s', t', g0, ⟨n, g⟩, g2, g3⟩)
theorem cmI_0 {sg : TS} (hT : TB sg) {t c : Int} (ht : 0 ≤ t ∧ t < 24) (hc : 0 ≤ c ∧ c < 8) : 0 ≤ cmI sg (24 + t) c := by
  have e1 : (24 + t) % 24 = t := by omega
  have e2 : (24 + t) / 24 = 1 := by omega
  unfold cmI
  rw [e1, e2]
  have := oa12 (hT.2 12) (8 * t + c) (by omega) (by omega)
  have := latOf_b hT (sg.1 22 + (1 - 1)) t (c - 1)
  split <;> omega
/-- labels behind getting off the run -/
def obI (sg : TS) (R c k : Int) (f r : Int → Int) : Prop := okA 23 f ∧ okA 24 r ∧ (Dich f ∧ Dich r) ∧ Lab sg BG BG (obK sg R c k) f r
theorem obI.off {sg : TS} {t c k : Int} {f r : Int → Int} (h : obI sg (24 + t) c k f r) (hF : WF sg) (hcut : sg.1 5 = -1) (ht : 0 ≤ t ∧ t < 24) (hj : okR sg (24 + t)) (hk : 0 ≤ c ∧ c < k ∧ k < sg.2 10 ((24 + t) % 24)) {x x2 : Int} {f2 r2 : Int → Int} (hq : okA 23 f2 ∧ okA 24 r2 ∧ ((x2 = x ∧ f2 = f ∧ r2 = r ∧ (stI sg (24 + t) k = sg.1 5 ∨ r (stI sg (24 + t) k) ≤ cmI sg (24 + t) k)) ∨ (x2 = 1 ∧ f2 = gofF sg f (stI sg (24 + t) k) (cmI sg (24 + t) k) ∧ r2 = upz r (stI sg (24 + t) k) (cmI sg (24 + t) k) ∧ stI sg (24 + t) k ≠ sg.1 5 ∧ cmI sg (24 + t) k < r (stI sg (24 + t) k)))) : obI sg (24 + t) c (k + 1) f2 r2 := by
  obtain ⟨hT, hS, hM, hW⟩ := hF
  obtain ⟨-, -, ⟨d1, d2⟩, hL⟩ := h
  obtain ⟨q1, q2, q3⟩ := hq
  have hn := oa10 (hT.2 10) ((24 + t) % 24) (by omega) (by omega)
  have hn1 := of1 (hT.1 1)
  have hs := hS.run hj (c := k) ⟨by omega, hk.2.2⟩
  have b1 := cmI_b hT (r := 24 + t) (c := k) ⟨by omega, by omega⟩ ⟨by omega, by omega⟩
  have b0 := cmI_0 hT ht (c := k) ⟨by omega, by omega⟩
  rcases q3 with ⟨-, rfl, rfl, h9⟩ | ⟨-, rfl, rfl, h9, h10⟩
  · refine ⟨q1, q2, ⟨d1, d2⟩, ?_⟩
    rw [← obK_s hk.2.1]
    exact hL.skip hs (by omega) (by rcases h9 with h9 | h9
                                    · omega
                                    · exact h9)
  · refine ⟨q1, q2, ⟨fun v a1 a2 => ?_, fun v a1 a2 => ?_⟩, by rw [← obK_s hk.2.1]; exact hL.add hs h10⟩
    · have e1 := d1 v a1 a2
      have e2 := hW.1 (12 * stI sg (24 + t) k + v) (by omega) (by omega)
      unfold gofF
      split
      · next hc => right; omega
      · exact e1
    · have e1 := d2 v a1 a2
      unfold upz
      split
      · right; omega
      · exact e1
theorem obI.wc {sg : TS} {t c k : Int} {f r : Int → Int} (h : obI sg (24 + t) c k f r) (hF : WF sg) (ht : 0 ≤ t ∧ t < 24) (hk : 0 ≤ c ∧ k ≤ 8) : WC sg f r := by
  obtain ⟨hT, hS, hM, hW⟩ := hF
  obtain ⟨o1, o2, ⟨d1, d2⟩, hL⟩ := h
  have hn1 := of1 (hT.1 1)
  intro s v a1 a2 a3 a4 a5 a6
  obtain ⟨t', ⟨j, g1, g2, g3, g4⟩, g5⟩ := ((hL.1 s (r s) a1 a2 a6).mp (Int.le_refl _)).resolve_left (BGn s _ a6)
  have p0 := cmI_0 hT ht (c := j) ⟨by omega, by omega⟩
  have w1 := hW.1 (12 * s + v) (by omega) (by omega)
  have e1 := oa23 o1 v a3 (by omega)
  have e2 := d2 s a1 (by omega)
  rcases w1 with w | w
  · omega
  · exact (hL.2 v _ a3 a4 (by omega)).mpr (Or.inr ⟨s, t', ⟨a1, a2⟩, ⟨j, g1, g2, g3, g4⟩, a5, by omega⟩)
theorem lab_teI {a b : TS} (h : tt a = tt b) {f0 r0 f r : Int → Int} (hL : Lab a f0 r0 (EvI a f0 r0) f r) : Lab b f0 r0 (EvI b f0 r0) f r := by
  unfold Lab at hL ⊢
  rw [EvI_te h, te_1 h, te_4 h] at hL
  exact hL
theorem c_onBoard (K : KT) (d : Nat) (h : MH) (m : Nat) (sg : TS) (day t c to : Int) (hd : 5 ≤ d) (hF : WF sg) (hcut : sg.1 5 = -1) (h1 : In day) (h2 : In t) (h3 : In c) (h4 : In to) : Mt K yiX2_onBoard d [.ref m, vi day, vi t, vi c, vi to] (tov K h m sg) (Rz (Qy K h m sg (fun th v => (¬ (((0 ≤ t ∧ t ≤ sg.1 8 - 1) ∧ (0 ≤ c ∧ c ≤ sg.2 10 t - 1)) ∧ (0 ≤ to ∧ to ≤ sg.1 1 - 1)) ∧ th = 1) ∨ ((((0 ≤ t ∧ t ≤ sg.1 8 - 1) ∧ (0 ≤ c ∧ c ≤ sg.2 10 t - 1)) ∧ (0 ≤ to ∧ to ≤ sg.1 1 - 1)) ∧ ¬ (0 ≤ day ∧ day ≤ 27) ∧ th = 2) ∨ ((((0 ≤ t ∧ t ≤ sg.1 8 - 1) ∧ (0 ≤ c ∧ c ≤ sg.2 10 t - 1)) ∧ (0 ≤ to ∧ to ≤ sg.1 1 - 1)) ∧ (0 ≤ day ∧ day ≤ 27) ∧ ¬ (sg.2 7 (28 * sg.2 9 t + day) ≠ 0 ∧ c ≠ sg.2 10 t - 1) ∧ th = 3) ∨ ((((0 ≤ t ∧ t ≤ sg.1 8 - 1) ∧ (0 ≤ c ∧ c ≤ sg.2 10 t - 1)) ∧ (0 ≤ to ∧ to ≤ sg.1 1 - 1)) ∧ (0 ≤ day ∧ day ≤ 27) ∧ (sg.2 7 (28 * sg.2 9 t + day) ≠ 0 ∧ c ≠ sg.2 10 t - 1) ∧ ∃ a, EAo (sd sg day) (obK (sd sg day) (24 + t) c (sg.2 10 t)) to a ∧ th = (if 1000000 ≤ a then 4 else 0) ∧ (a < 1000000 → v = a))))) := by
  have hT := hF.1
  have := h1.1; have := h1.2; have := h2.1; have := h2.2; have := h3.1; have := h3.2; have := h4.1; have := h4.2; have f1' := of1 (hT.1 1); have f8' := of8 (hT.1 8); have b10 := oa10 (hT.2 10) t
  refine mt_ofQ (by decide) (Nat.le_of_ble_eq_true rfl) (fun Q hQ => ?_)
  show MW K yiX2_onBoard d (tov K h m (ovr sg [] [])) 0 [some (.ref m), some (vi day), some (vi t), some (vi c), some (vi to), none] [] Q
  refine m_aload_n dX2_onBoard_0 rfl ?_
  refine j_iload_n dX2_onBoard_1 rfl ?_
  refine j_iload_n dX2_onBoard_2 rfl ?_
  refine t_inv [(vi t), (vi c)] dX2_onBoard_3 q3337 q3339 qs83 q3340 rfl (c_isNoCall K 2 h m _ _ _ (by omega) hT ⟨by omega, by omega⟩ ⟨by omega, by omega⟩) pdX2_isNoCall ⟨Nat.le_of_ble_eq_true rfl, by decide, by omega⟩ (kk_z fun r3 h3 q3 => ?_) kx_z
  obtain ⟨rfl, rfl⟩ := q3
  refine mw_tov (b := ovr sg [(0, (if ¬ (0 ≤ t ∧ t ≤ (sg.1 8) - 1) ∨ ¬ (0 ≤ c ∧ c ≤ (sg.2 10) t - 1) then 1 else 0))] []) (ovr_ovr _ _ _ _ _) ?_
  refine mw_top (x' := bz (¬ (0 ≤ t ∧ t ≤ (sg.1 8) - 1) ∨ ¬ (0 ≤ c ∧ c ≤ (sg.2 10) t - 1))) rfl ?_
  refine j_bz_ne 71 dX2_onBoard_6 (by decide) (fun c6 => ?_) (fun c6 => ?_)
  · refine mw_tov (b := ovr sg [(0, 1)] []) (by rw [if_pos c6]) ?_
    refine j_iconst dX2_onBoard_71 ?_
    subst hQ; exact j_iret dX2_onBoard_72 rfl (⟨_, rfl, (Scr.ovr sg rfl rfl), (hT.ovr (fa1 (mf0 (v := 1) ⟨by first | decide | omega | (split <;> omega) | assumption, by first | decide | omega | (split <;> omega) | assumption⟩) fa0) fa0), by first | exact Or.inl ⟨by omega, rfl⟩ | exact Or.inr (Or.inl ⟨by omega, by omega, rfl⟩) | exact Or.inr (Or.inr (Or.inl ⟨by omega, by omega, by omega, rfl⟩))⟩)
  · refine mw_tov (b := ovr sg [(0, 0)] []) (by rw [if_neg c6]) ?_
    refine m_aload_n dX2_onBoard_9 rfl ?_
    refine j_iload dX2_onBoard_10 rfl ?_
    refine t_inv [(vi to)] dX2_onBoard_12 q3269 q3271 qs78 q3272 rfl (c_isNoStop K 1 h m _ _ (by omega) (hT.1 1) ⟨by omega, by omega⟩) pdX2_isNoStop ⟨Nat.le_of_ble_eq_true rfl, by decide, by omega⟩ (kk_z fun r12 h12 q12 => ?_) kx_z
    obtain ⟨rfl, rfl⟩ := q12
    refine mw_tov (b := ovr sg [(0, (if ¬ (0 ≤ to ∧ to ≤ (sg.1 1) - 1) then 1 else 0))] []) (ovr_ovr _ _ _ _ _) ?_
    refine mw_top (x' := bz (¬ (0 ≤ to ∧ to ≤ (sg.1 1) - 1))) rfl ?_
    refine j_bz_ne 71 dX2_onBoard_15 (by decide) (fun c15 => ?_) (fun c15 => ?_)
    · refine mw_tov (b := ovr sg [(0, 1)] []) (by rw [if_pos c15]) ?_
      refine j_iconst dX2_onBoard_71 ?_
      subst hQ; exact j_iret dX2_onBoard_72 rfl (⟨_, rfl, (Scr.ovr sg rfl rfl), (hT.ovr (fa1 (mf0 (v := 1) ⟨by first | decide | omega | (split <;> omega) | assumption, by first | decide | omega | (split <;> omega) | assumption⟩) fa0) fa0), by first | exact Or.inl ⟨by omega, rfl⟩ | exact Or.inr (Or.inl ⟨by omega, by omega, rfl⟩) | exact Or.inr (Or.inr (Or.inl ⟨by omega, by omega, by omega, rfl⟩))⟩)
    · refine mw_tov (b := ovr sg [(0, 0)] []) (by rw [if_neg c15]) ?_
      refine m_aload_n dX2_onBoard_18 rfl ?_
      refine j_iload_n dX2_onBoard_19 rfl ?_
      refine j_iconst dX2_onBoard_20 ?_
      refine t_inv [(vi day), (vi 2)] dX2_onBoard_21 q3297 q3299 qs80 q3300 rfl (c_isNoDay K 1 h m _ _ _ (by omega) ⟨by omega, by omega⟩) pdX2_isNoDay ⟨Nat.le_of_ble_eq_true rfl, by decide, by omega⟩ (kk_z fun r21 h21 q21 => ?_) kx_z
      obtain ⟨rfl, rfl⟩ := q21
      refine mw_tov (b := ovr sg [(0, (if ¬ (0 ≤ day ∧ day ≤ 27) then 2 else 0))] []) (ovr_ovr _ _ _ _ _) ?_
      refine mw_top (x' := bz (¬ (0 ≤ day ∧ day ≤ 27))) rfl ?_
      refine j_bz_ne 71 dX2_onBoard_24 (by decide) (fun c24 => ?_) (fun c24 => ?_)
      · refine mw_tov (b := ovr sg [(0, 2)] []) (by rw [if_pos c24]) ?_
        refine j_iconst dX2_onBoard_71 ?_
        subst hQ; exact j_iret dX2_onBoard_72 rfl (⟨_, rfl, (Scr.ovr sg rfl rfl), (hT.ovr (fa1 (mf0 (v := 2) ⟨by first | decide | omega | (split <;> omega) | assumption, by first | decide | omega | (split <;> omega) | assumption⟩) fa0) fa0), by first | exact Or.inl ⟨by omega, rfl⟩ | exact Or.inr (Or.inl ⟨by omega, by omega, rfl⟩) | exact Or.inr (Or.inr (Or.inl ⟨by omega, by omega, by omega, rfl⟩))⟩)
      · refine mw_tov (b := ovr sg [(0, 0)] []) (by rw [if_neg c24]) ?_
        refine m_aload_n dX2_onBoard_27 rfl ?_
        refine m_aload_n dX2_onBoard_28 rfl ?_
        refine t_geta 7 4 (by decide) dX2_onBoard_29 q3100 rfl ?_
        refine j_bipush dX2_onBoard_32 (by decide) ?_
        refine m_aload_n dX2_onBoard_34 rfl ?_
        refine t_geta 9 5 (by decide) dX2_onBoard_35 q3102 rfl ?_
        refine j_iload_n dX2_onBoard_38 rfl ?_
        refine t_aldB 5 (by decide) (n := 24) (sg.2 9) dX2_onBoard_39 rfl (Nat.le_of_ble_eq_true rfl) (oa9 (hT.2 9)) ⟨by omega, by omega⟩ (fun b39 => ?_)
        refine j_imul dX2_onBoard_40 ?_
        refine j_iload_n dX2_onBoard_41 rfl ?_
        refine j_iadd dX2_onBoard_42 ?_
        refine t_zldB (sg.2 7) dX2_onBoard_43 rfl (oa7 (hT.2 7)) ⟨by omega, by omega⟩ (fun b43 => ?_)
        refine j_if_eq 59 dX2_onBoard_44 (by decide) ⟨by omega, by omega⟩ (fun c44 => ?_) (fun c44 => ?_)
        · refine j_iconst dX2_onBoard_59 ?_
          refine m_goto 64 dX2_onBoard_60 (by decide) ?_
          refine j_iconst dX2_onBoard_64 ?_
          refine t_inv [(vi 1), (vi 3)] dX2_onBoard_65 q3256 q3258 qs76 q3259 rfl (c_isThrown1 K 0 h m _ _) pdX2_isThrown ⟨Nat.le_of_ble_eq_true rfl, by decide, by omega⟩ (kk_z fun r65 h65 q65 => ?_) kx_z
          obtain ⟨rfl, rfl⟩ := q65
          refine mw_tov (b := ovr sg [(0, 3)] []) (ovr_ovr _ _ _ _ _) ?_
          refine j_if_eq 73 dX2_onBoard_68 (by decide) ⟨by decide, by decide⟩ (fun c => absurd c (by decide)) (fun _ => ?_)
          refine j_iconst dX2_onBoard_71 ?_
          subst hQ; exact j_iret dX2_onBoard_72 rfl (⟨_, rfl, (Scr.ovr sg rfl rfl), (hT.ovr (fa1 (mf0 (v := 3) ⟨by first | decide | omega | (split <;> omega) | assumption, by first | decide | omega | (split <;> omega) | assumption⟩) fa0) fa0), by first | exact Or.inl ⟨by omega, rfl⟩ | exact Or.inr (Or.inl ⟨by omega, by omega, rfl⟩) | exact Or.inr (Or.inr (Or.inl ⟨by omega, by omega, by omega, rfl⟩))⟩)
        · refine j_iload_n dX2_onBoard_47 rfl ?_
          refine m_aload_n dX2_onBoard_48 rfl ?_
          refine t_geta 10 6 (by decide) dX2_onBoard_49 q3103 rfl ?_
          refine j_iload_n dX2_onBoard_52 rfl ?_
          refine t_aldB 6 (by decide) (n := 24) (sg.2 10) dX2_onBoard_53 rfl (Nat.le_of_ble_eq_true rfl) (oa10 (hT.2 10)) ⟨by omega, by omega⟩ (fun b53 => ?_)
          refine j_iconst dX2_onBoard_54 ?_
          refine j_isub dX2_onBoard_55 ?_
          refine j_icmp_ne 63 dX2_onBoard_56 (by decide) ⟨⟨by omega, by omega⟩, ⟨by omega, by omega⟩⟩ (fun c56 => ?_) (fun c56 => ?_)
          · refine j_iconst dX2_onBoard_63 ?_
            refine j_iconst dX2_onBoard_64 ?_
            refine t_inv [(vi 0), (vi 3)] dX2_onBoard_65 q3256 q3258 qs76 q3259 rfl (c_isThrown0 K 0 h m _ _) pdX2_isThrown ⟨Nat.le_of_ble_eq_true rfl, by decide, by omega⟩ (kk_z fun r65 h65 q65 => ?_) kx_z
            obtain ⟨rfl, rfl⟩ := q65
            refine mw_tov (b := ovr sg [(0, 0)] []) (ovr_ovr _ _ _ _ _) ?_
            refine j_if_eq 73 dX2_onBoard_68 (by decide) ⟨by decide, by decide⟩ (fun _ => ?_) (fun c => absurd c (by decide))
            have hyy : 0 ≤ day ∧ day ≤ 27 := by omega
            have hF1 := hF.sd hyy
            have hj : okR (sd sg day) (24 + t) := ⟨by omega, by omega, by { have e1 : (24 + t) % 24 = t := by { omega }; have e2 : (24 + t) / 24 = 1 := by { omega }; refine ⟨by rw [e1]; show t < sg.1 8; omega, ⟨by rw [e2]; show 0 ≤ day + 1 - 1; omega, by rw [e2]; show day + 1 - 1 ≤ 27; omega⟩, ?_⟩; rw [e1, e2]; show sg.2 7 (28 * sg.2 9 t + (day + 1 - 1)) ≠ 0; rw [show day + 1 - 1 = day by omega]; omega }⟩
            refine m_aload_n dX2_onBoard_73 rfl ?_
            refine j_iload_n dX2_onBoard_74 rfl ?_
            refine t_puti 22 (by decide) [(0, 0), (22, day)] dX2_onBoard_75 q3115 rfl rfl rfl rfl ?_
            refine m_aload_n dX2_onBoard_78 rfl ?_
            refine t_inv [] dX2_onBoard_79 q3425 q3427 qs94 q3428 rfl (c_nowhere K 0 h m _ (hT.ovr (fa1 (mf0 (v := 0) ⟨by first | decide | omega | (split <;> omega) | assumption, by first | decide | omega | (split <;> omega) | assumption⟩) (fa1 (mf22 (v := day) ⟨by first | decide | omega | (split <;> omega) | assumption, by first | decide | omega | (split <;> omega) | assumption⟩) fa0)) fa0)) pdX2_nowhere ⟨Nat.le_of_ble_eq_true rfl, by decide, by omega⟩ (kk_v fun h79 q79 => ?_) kx_v
            obtain ⟨f1, r1, rfl, y1, y2, y3⟩ := q79
            refine mw_tov (b := ovr sg [(0, 0), (22, day)] [(23, f1), (24, r1)]) (ovr_ovr _ _ _ _ _) ?_
            have hTB : TB (ovr sg [(0, 0), (22, day)] []) := hT.ovr (fa1 (mf0 (v := 0) ⟨by decide, by decide⟩) (fa1 (mf22 (v := day) hyy) fa0)) fa0
            refine j_iload_n dX2_onBoard_82 rfl ?_
            refine mw_tov (b := ovr sg [(0, 0), (22, day), (25, (sg.1 25))] [(23, f1), (24, r1)]) (ovr_addF _ _ _ 25) ?_
            refine mw_tov (b := ovr (ovr sg [(0, 0), (22, day)] []) [(25, (sg.1 25))] [(23, f1), (24, r1)]) (ovr_ovr sg [(0, 0), (22, day)] [(25, (sg.1 25))] [] [(23, f1), (24, r1)]).symm ?_
            refine j_iconst dX2_onBoard_83 ?_
            refine j_iadd dX2_onBoard_84 ?_
            refine j_istore [some (.ref m), some (vi day), some (vi t), some (vi c), some (vi to), some (vi (c + 1))] dX2_onBoard_85 (by decide) rfl rfl ?_
            have L87 : ∀ (N : Nat) (k x : Int) (f r : Int → Int), (8 - k).toNat = N → (c + 1 ≤ k ∧ k ≤ sg.2 10 t) → (x = 0 ∨ x = 1) → (obI (sd sg day) (24 + t) c k f r) → MW K yiX2_onBoard d (tov K h m (ovr (ovr sg [(0, 0), (22, day)] []) [(25, x)] [(23, f), (24, r)])) 87 [some (.ref m), some (vi day), some (vi t), some (vi c), some (vi to), some (vi k)] [] Q := by
              intro N
              induction N using Nat.strongRecOn with
              | _ N ih87 =>
              intro k x f r hN87 hk hx hI
              have e10 : (ovr sg [(0, 0), (22, day)] []).2 10 t = sg.2 10 t := rfl
              refine j_iload dX2_onBoard_87 rfl ?_
              refine m_aload_n dX2_onBoard_89 rfl ?_
              refine t_geta 10 6 (by decide) dX2_onBoard_90 q3103 rfl ?_
              refine j_iload_n dX2_onBoard_93 rfl ?_
              refine t_aldB 6 (by decide) (n := 24) ((ovr sg [(0, 0), (22, day)] []).2 10) dX2_onBoard_94 rfl (Nat.le_of_ble_eq_true rfl) (oa10 (hTB.2 10)) ⟨by omega, by omega⟩ (fun b94 => ?_)
              refine j_icmp_ge 128 dX2_onBoard_95 (by decide) ⟨⟨by omega, by omega⟩, ⟨by omega, by omega⟩⟩ (fun c95 => ?_) (fun c95 => ?_)
              · have hwc : WC (ovr sg [(0, 0), (22, day)] []) f r := hI.wc hF1 ⟨by omega, by omega⟩ ⟨by omega, by omega⟩
                refine m_aload_n dX2_onBoard_128 rfl ?_
                refine t_inv [] dX2_onBoard_129 q3429 q3431 qs95 q3432 rfl (c_settle K 4 h m (ovr sg [(0, 0), (22, day)] []) x f r (by omega) ⟨hTB, hF.2.1, hF.2.2.1, hF.2.2.2⟩ hI.1 hI.2.1 hI.2.2.1 hwc) pdX2_settle ⟨Nat.le_of_ble_eq_true rfl, by decide, by omega⟩ (kk_v fun h129 q129 => ?_) kx_v
                obtain ⟨f3, r3, rfl, o1, o2, o3, o4⟩ := q129
                have hEA : EAo (sd sg day) (obK (sd sg day) (24 + t) c (sg.2 10 t)) to (if f3 to < r3 to then f3 to else r3 to) := by { have q := hI.2.2.2; rw [show k = sg.2 10 t by omega] at q; exact Lab.eao hF1 q (lab_teI (a := ovr sg [(0, 0), (22, day)] []) (b := sd sg day) rfl o4) o1 o2 o3 ⟨by omega, by show to < sg.1 1; omega⟩ }
                have c23 := oa23 o1 to (by omega) (by omega)
                have c24 := oa24 o2 to (by omega) (by omega)
                refine m_aload_n dX2_onBoard_132 rfl ?_
                refine m_aload_n dX2_onBoard_133 rfl ?_
                refine j_iload dX2_onBoard_134 rfl ?_
                refine t_inv [(vi to)] dX2_onBoard_136 q3461 q3463 qs103 q3464 rfl (c_at K 0 h m _ _ (hTB.ovr (fa1 (mf25 (v := 0) ⟨by first | decide | omega | (split <;> omega) | assumption, by first | decide | omega | (split <;> omega) | assumption⟩) fa0) (fa1 o1 (fa1 o2 fa0))) ⟨by omega, by omega⟩) pdX2_at ⟨Nat.le_of_ble_eq_true rfl, by decide, by omega⟩ (kk_z fun r136 h136 q136 => ?_) kx_z
                obtain ⟨rfl, rfl⟩ := q136
                refine mw_top (x' := (if f3 to < r3 to then f3 to else r3 to)) rfl ?_
                refine j_ldc (1000000) dX2_onBoard_139 q3264 (by decide) ?_
                refine j_icmp_lt 148 dX2_onBoard_141 (by decide) ⟨⟨by omega, by omega⟩, ⟨by omega, by omega⟩⟩ (fun c141 => ?_) (fun c141 => ?_)
                · refine j_iconst dX2_onBoard_148 ?_
                  refine j_iconst dX2_onBoard_149 ?_
                  refine t_inv [(vi 0), (vi 4)] dX2_onBoard_150 q3256 q3258 qs76 q3259 rfl (c_isThrown0 K 0 h m _ _) pdX2_isThrown ⟨Nat.le_of_ble_eq_true rfl, by decide, by omega⟩ (kk_z fun r150 h150 q150 => ?_) kx_z
                  obtain ⟨rfl, rfl⟩ := q150
                  refine mw_tov (b := ovr (ovr sg [(0, 0), (22, day)] []) [(0, 0), (25, 0)] [(23, f3), (24, r3)]) (ovr_ovr _ _ _ _ _) ?_
                  refine j_if_eq 160 dX2_onBoard_153 (by decide) ⟨by decide, by decide⟩ (fun _ => ?_) (fun c => absurd c (by decide))
                  refine m_aload_n dX2_onBoard_160 rfl ?_
                  refine j_iload dX2_onBoard_161 rfl ?_
                  refine t_inv [(vi to)] dX2_onBoard_163 q3461 q3463 qs103 q3464 rfl (c_at K 0 h m _ _ (hTB.ovr (fa1 (mf0 (v := 0) ⟨by first | decide | omega | (split <;> omega) | assumption, by first | decide | omega | (split <;> omega) | assumption⟩) (fa1 (mf25 (v := 0) ⟨by first | decide | omega | (split <;> omega) | assumption, by first | decide | omega | (split <;> omega) | assumption⟩) fa0)) (fa1 o1 (fa1 o2 fa0))) ⟨by omega, by omega⟩) pdX2_at ⟨Nat.le_of_ble_eq_true rfl, by decide, by omega⟩ (kk_z fun r163 h163 q163 => ?_) kx_z
                  obtain ⟨rfl, rfl⟩ := q163
                  refine mw_top (x' := (if f3 to < r3 to then f3 to else r3 to)) rfl ?_
                  subst hQ; exact j_iret dX2_onBoard_166 rfl (⟨_, rfl, (Scr.ovr sg rfl rfl).trans (Scr.ovr _ rfl rfl), hTB.ovr (fa1 (mf0 (v := 0) ⟨by decide, by decide⟩) (fa1 (mf25 (v := 0) ⟨by decide, by decide⟩) fa0)) (fa1 o1 (fa1 o2 fa0)), Or.inr (Or.inr (Or.inr ⟨by omega, by omega, by omega, _, hEA, by first | (rw [if_pos (by omega)]; rfl) | (rw [if_neg (by omega)]; rfl), fun q => by first | rfl | omega⟩))⟩)
                · refine j_iconst dX2_onBoard_144 ?_
                  refine m_goto 149 dX2_onBoard_145 (by decide) ?_
                  refine j_iconst dX2_onBoard_149 ?_
                  refine t_inv [(vi 1), (vi 4)] dX2_onBoard_150 q3256 q3258 qs76 q3259 rfl (c_isThrown1 K 0 h m _ _) pdX2_isThrown ⟨Nat.le_of_ble_eq_true rfl, by decide, by omega⟩ (kk_z fun r150 h150 q150 => ?_) kx_z
                  obtain ⟨rfl, rfl⟩ := q150
                  refine mw_tov (b := ovr (ovr sg [(0, 0), (22, day)] []) [(0, 4), (25, 0)] [(23, f3), (24, r3)]) (ovr_ovr _ _ _ _ _) ?_
                  refine j_if_eq 160 dX2_onBoard_153 (by decide) ⟨by decide, by decide⟩ (fun c => absurd c (by decide)) (fun _ => ?_)
                  refine j_iconst dX2_onBoard_156 ?_
                  refine m_goto 166 dX2_onBoard_157 (by decide) ?_
                  subst hQ; exact j_iret dX2_onBoard_166 rfl (⟨_, rfl, (Scr.ovr sg rfl rfl).trans (Scr.ovr _ rfl rfl), hTB.ovr (fa1 (mf0 (v := 4) ⟨by decide, by decide⟩) (fa1 (mf25 (v := 0) ⟨by decide, by decide⟩) fa0)) (fa1 o1 (fa1 o2 fa0)), Or.inr (Or.inr (Or.inr ⟨by omega, by omega, by omega, _, hEA, by first | (rw [if_pos (by omega)]; rfl) | (rw [if_neg (by omega)]; rfl), fun q => by first | rfl | omega⟩))⟩)
              · have s45 := hF1.2.1.run hj (c := k) ⟨by omega, by rw [show (24 + t) % 24 = t by omega]; show k < sg.2 10 t; omega⟩
                have bcm := cmI_b hF1.1 (r := 24 + t) (c := k) ⟨by omega, by omega⟩ ⟨by omega, by omega⟩
                refine m_aload_n dX2_onBoard_98 rfl ?_
                refine m_aload_n dX2_onBoard_99 rfl ?_
                refine j_bipush dX2_onBoard_100 (by decide) ?_
                refine j_iload_n dX2_onBoard_102 rfl ?_
                refine j_iadd dX2_onBoard_103 ?_
                refine j_iload dX2_onBoard_104 rfl ?_
                refine t_inv [(vi (24 + t)), (vi k)] dX2_onBoard_106 q3441 q3443 qs98 q3444 rfl (c_stopIn K 0 h m _ _ _ (hTB.ovr (fa1 (mf25 (v := x) ⟨by first | decide | omega | (split <;> omega) | assumption, by first | decide | omega | (split <;> omega) | assumption⟩) fa0) (fa1 hI.1 (fa1 hI.2.1 fa0))) ⟨by omega, by omega⟩ ⟨by omega, by omega⟩) pdX2_stopIn ⟨Nat.le_of_ble_eq_true rfl, by decide, by omega⟩ (kk_z fun r106 h106 q106 => ?_) kx_z
                obtain ⟨rfl, rfl⟩ := q106
                refine mw_top (x' := (stI (sd sg day) (24 + t) k)) rfl ?_
                refine m_aload_n dX2_onBoard_109 rfl ?_
                refine j_bipush dX2_onBoard_110 (by decide) ?_
                refine j_iload_n dX2_onBoard_112 rfl ?_
                refine j_iadd dX2_onBoard_113 ?_
                refine j_iload dX2_onBoard_114 rfl ?_
                refine t_inv [(vi (24 + t)), (vi k)] dX2_onBoard_116 q3445 q3447 qs99 q3448 rfl (c_comesAt K 2 h m _ _ _ (by omega) (hTB.ovr (fa1 (mf25 (v := x) ⟨by first | decide | omega | (split <;> omega) | assumption, by first | decide | omega | (split <;> omega) | assumption⟩) fa0) (fa1 hI.1 (fa1 hI.2.1 fa0))) ⟨by omega, by omega⟩ ⟨by omega, by omega⟩) pdX2_comesAt ⟨Nat.le_of_ble_eq_true rfl, by decide, by omega⟩ (kk_z fun r116 h116 q116 => ?_) kx_z
                obtain ⟨rfl, rfl⟩ := q116
                refine mw_top (x' := (cmI (sd sg day) (24 + t) k)) rfl ?_
                refine t_inv [(vi (stI (sd sg day) (24 + t) k)), (vi (cmI (sd sg day) (24 + t) k))] dX2_onBoard_119 q3449 q3451 qs100 q3452 rfl (c_getsOff K 0 h m (ovr sg [(0, 0), (22, day)] []) x f r _ _ hTB hI.1 hI.2.1 ⟨by omega, by have : stI (sd sg day) (24 + t) k < sg.1 1 := s45.2; omega⟩ ⟨by omega, by omega⟩) pdX2_getsOff ⟨Nat.le_of_ble_eq_true rfl, by decide, by omega⟩ (kk_v fun h119 q119 => ?_) kx_v
                obtain ⟨x2, f2, r2, rfl, q119⟩ := q119
                refine j_iinc [some (.ref m), some (vi day), some (vi t), some (vi c), some (vi to), some (vi (k + 1))] dX2_onBoard_122 rfl (by decide) rfl rfl ?_
                refine m_goto 87 dX2_onBoard_125 (by decide) ?_
                exact ih87 _ (by omega) _ _ _ _ rfl (by omega) (by rcases q119.2.2 with q | q <;> omega) (hI.off hF1 hcut ⟨by omega, by omega⟩ hj ⟨by omega, by omega, by rw [show (24 + t) % 24 = t by omega]; show k < sg.2 10 t; omega⟩ q119)
            exact L87 _ _ _ _ _ rfl (by omega) (by have := of25 (hT.1 25); show sg.1 25 = 0 ∨ sg.1 25 = 1; omega) ⟨y1, y2, ⟨fun v a b => Or.inl (y3 v a b).1, fun v a b => Or.inl (y3 v a b).2⟩, ⟨fun s t9 a b e => by { rw [(y3 s a (by have : s < sg.1 1 := b; omega)).2]; exact ⟨Or.inl, fun h9 => h9.elim id fun ⟨_, ⟨j, g1, g2, _⟩, _⟩ => by omega⟩ }, fun s t9 a b e => by { rw [(y3 s a (by have : s < sg.1 1 := b; omega)).1]; exact ⟨Or.inl, fun h9 => h9.elim id fun ⟨_, _, _, ⟨j, g1, g2, _⟩, _⟩ => by omega⟩ }⟩⟩
          · refine j_iconst dX2_onBoard_59 ?_
            refine m_goto 64 dX2_onBoard_60 (by decide) ?_
            refine j_iconst dX2_onBoard_64 ?_
            refine t_inv [(vi 1), (vi 3)] dX2_onBoard_65 q3256 q3258 qs76 q3259 rfl (c_isThrown1 K 0 h m _ _) pdX2_isThrown ⟨Nat.le_of_ble_eq_true rfl, by decide, by omega⟩ (kk_z fun r65 h65 q65 => ?_) kx_z
            obtain ⟨rfl, rfl⟩ := q65
            refine mw_tov (b := ovr sg [(0, 3)] []) (ovr_ovr _ _ _ _ _) ?_
            refine j_if_eq 73 dX2_onBoard_68 (by decide) ⟨by decide, by decide⟩ (fun c => absurd c (by decide)) (fun _ => ?_)
            refine j_iconst dX2_onBoard_71 ?_
            subst hQ; exact j_iret dX2_onBoard_72 rfl (⟨_, rfl, (Scr.ovr sg rfl rfl), (hT.ovr (fa1 (mf0 (v := 3) ⟨by first | decide | omega | (split <;> omega) | assumption, by first | decide | omega | (split <;> omega) | assumption⟩) fa0) fa0), by first | exact Or.inl ⟨by omega, rfl⟩ | exact Or.inr (Or.inl ⟨by omega, by omega, rfl⟩) | exact Or.inr (Or.inr (Or.inl ⟨by omega, by omega, by omega, rfl⟩))⟩)
