/-! the twin: earliest and its kin; last -/
/-- what a timetable is made of -/
def tt (sg : TS) : TS := ovr (fun _ => 0, fun _ _ => 0) [(1, sg.1 1), (5, sg.1 5), (8, sg.1 8), (14, sg.1 14), (22, sg.1 22)] [(2, sg.2 2), (4, sg.2 4), (7, sg.2 7), (9, sg.2 9), (10, sg.2 10), (11, sg.2 11), (12, sg.2 12), (13, sg.2 13), (15, sg.2 15), (16, sg.2 16), (17, sg.2 17), (18, sg.2 18)]
theorem AltE_tt (sg : TS) (f0 r0 : Int → Int) (E : EV) : AltE sg f0 r0 E = AltE (tt sg) f0 r0 E := rfl
theorem EvN_tt (sg : TS) (f0 r0 : Int → Int) (n : Nat) : EvN sg f0 r0 n = EvN (tt sg) f0 r0 n := by
  induction n with
  | zero => rfl
  | succ n ih => show AltE sg f0 r0 _ = AltE (tt sg) f0 r0 _; rw [ih]; exact AltE_tt sg f0 r0 _
theorem EvI_te {a b : TS} (h : tt a = tt b) (f0 r0 : Int → Int) : EvI a f0 r0 = EvI b f0 r0 := by
  funext s t; unfold EvI; congr 1; funext n; rw [EvN_tt a, EvN_tt b, h]
theorem te_2 {a b : TS} (h : tt a = tt b) : a.2 2 = b.2 2 := (congrArg (fun z : TS => z.2 2) h : (tt a).2 2 = (tt b).2 2)
theorem te_4 {a b : TS} (h : tt a = tt b) : a.2 4 = b.2 4 := (congrArg (fun z : TS => z.2 4) h : (tt a).2 4 = (tt b).2 4)
theorem te_1 {a b : TS} (h : tt a = tt b) : a.1 1 = b.1 1 := (congrArg (fun z : TS => z.1 1) h : (tt a).1 1 = (tt b).1 1)
theorem LabB.te {a b : TS} (h : tt a = tt b) {fr mi : Int} {f r : Int → Int} (hL : LabB a fr mi f r) : LabB b fr mi f r := by
  unfold LabB Lab at hL ⊢
  rw [EvI_te h, te_1 h, te_4 h] at hL
  exact hL
/-- one can be at stop s at minute t, from fr at minute mi -/
def ArB (sg : TS) (fr mi s t : Int) : Prop := b0 (sg.2 4) fr mi s ≤ t ∨ (∃ t', EvI sg (b0 (sg.2 4) fr mi) BG s t' ∧ t' ≤ t) ∨ ∃ s' t', (0 ≤ s' ∧ s' < sg.1 1) ∧ EvI sg (b0 (sg.2 4) fr mi) BG s' t' ∧ s' ≠ s ∧ t' + sg.2 4 (12 * s' + s) ≤ t
/-- v is the earliest arrival at s, 1000000 for none -/
def EA (sg : TS) (fr mi s v : Int) : Prop := (v = 1000000 ∨ (-2000 ≤ v ∧ v ≤ 300000)) ∧ ∀ t, t < 900000 → (v ≤ t ↔ ArB sg fr mi s t)
theorem EA.uniq {sg : TS} {fr mi s v w : Int} (h1 : EA sg fr mi s v) (h2 : EA sg fr mi s w) : v = w := by
  have a := h1.1; have b := h2.1
  by_cases e1 : v < 900000
  · have := (h2.2 v e1).mpr ((h1.2 v e1).mp (by omega))
    have := (h1.2 w (by omega)).mpr ((h2.2 w (by omega)).mp (by omega))
    omega
  · by_cases e2 : w < 900000
    · have := (h1.2 w e2).mpr ((h2.2 w e2).mp (by omega)); omega
    · omega
theorem LabB.ea {sg : TS} {fr mi s : Int} {f r : Int → Int} (h : LabB sg fr mi f r) (hf : okA 23 f) (hr : okA 24 r) (hD : Dich f ∧ Dich r) (hs : 0 ≤ s ∧ s < sg.1 1) (hn : sg.1 1 ≤ 12) : EA sg fr mi s (if f s < r s then f s else r s) := by
  have d1 := hD.1 s hs.1 (by omega); have d2 := hD.2 s hs.1 (by omega)
  have b1 := oa23 hf s hs.1 (by omega); have b2 := oa24 hr s hs.1 (by omega)
  refine ⟨by split <;> omega, fun t ht => ?_⟩
  have h1 := h.1 s t hs.1 hs.2 ht
  have h2 := h.2 s t hs.1 hs.2 ht
  have e : (if f s < r s then f s else r s) ≤ t ↔ f s ≤ t ∨ r s ≤ t := by split <;> omega
  rw [e, h1, h2]
  unfold ArB
  have hB : ¬ BG s ≤ t := by show ¬ (1000000 : Int) ≤ t; omega
  constructor
  · rintro ((h3 | h3) | (h3 | h3))
    · exact Or.inl h3
    · exact Or.inr (Or.inr h3)
    · exact absurd h3 hB
    · exact Or.inr (Or.inl h3)
  · rintro (h3 | h3 | h3)
    · exact Or.inl (Or.inl h3)
    · exact Or.inr (Or.inr h3)
    · exact Or.inl (Or.inr h3)
theorem EA.te {a b : TS} (h : tt a = tt b) {fr mi s v : Int} (hL : EA a fr mi s v) : EA b fr mi s v := by
  refine ⟨hL.1, fun t ht => ?_⟩
  have := hL.2 t ht
  unfold ArB at this ⊢
  rw [EvI_te h, te_1 h, te_4 h] at this
  exact this
/-- what a query leaves: only the scratch has changed -/
def pF (k : Nat) : Bool := k == 1 || k == 5 || k == 6 || k == 8 || k == 14 || k == 19 || k == 21 || k == 29 || k == 36
def pA (k : Nat) : Bool := k == 2 || k == 3 || k == 4 || k == 7 || k == 9 || k == 10 || k == 11 || k == 12 || k == 13 || k == 15 || k == 16 || k == 17 || k == 18 || k == 20 || k == 30 || k == 31 || k == 32 || k == 37 || k == 38 || k == 39 || k == 40 || k == 41
def Scr (sg sg' : TS) : Prop := (∀ k, pF k = true → sg'.1 k = sg.1 k) ∧ ∀ k, pA k = true → sg'.2 k = sg.2 k
theorem lkA_no {α : Type} {p : Nat → Bool} (A : List (Nat × α)) (h : A.all (fun q => !p q.1) = true) (k : Nat) (x : α) (hk : p k = true) : lkA A k x = x := by
  induction A with
  | nil => rfl
  | cons q r ih =>
    obtain ⟨k0, g⟩ := q
    rw [List.all_cons, Bool.and_eq_true] at h
    unfold lkA
    have h1 : ¬ k = k0 := fun e => by subst e; simp [hk] at h
    rw [if_neg h1]; exact ih h.2
theorem Scr.ovr (sg : TS) {F : List (Nat × Int)} {A : List (Nat × (Int → Int))} (hF : F.all (fun q => !pF q.1) = true) (hA : A.all (fun q => !pA q.1) = true) : Scr sg (ovr sg F A) := ⟨fun k hk => lkA_no F hF k _ hk, fun k hk => lkA_no A hA k _ hk⟩
theorem c_earliest (K : KT) (d : Nat) (h : MH) (m : Nat) (sg : TS) (fr to day mi : Int) (hd : 6 ≤ d) (hF : WF sg) (h1 : In fr) (h2 : In to) (h3 : In day) (h4 : In mi) : Mt K yiX2_earliest d [.ref m, vi fr, vi to, vi day, vi mi] (tov K h m sg) (Rz fun v h' => ∃ sg', h' = tov K h m sg' ∧ Scr sg sg' ∧ TB sg' ∧ ((askT (sg.1 1) fr to day mi ≠ 0 ∧ sg'.1 0 = askT (sg.1 1) fr to day mi) ∨ (askT (sg.1 1) fr to day mi = 0 ∧ ∃ a, EA (sd sg day) fr mi to a ∧ sg'.1 0 = (if 1000000 ≤ a then 3 else 0) ∧ (a < 1000000 → v = a)))) := by
  have hT := hF.1
  have := h1.1; have := h1.2; have := h2.1; have := h2.2; have := h3.1; have := h3.2; have := h4.1; have := h4.2; have f1 := of1 (hT.1 1)
  have hA : askT (sg.1 1) fr to day mi = 0 → (0 ≤ fr ∧ fr < sg.1 1) ∧ (0 ≤ to ∧ to < sg.1 1) ∧ (0 ≤ day ∧ day ≤ 27) ∧ 0 ≤ mi ∧ mi ≤ 1439 := by unfold askT; (repeat' split) <;> omega
  have hB : 0 ≤ askT (sg.1 1) fr to day mi ∧ askT (sg.1 1) fr to day mi ≤ 4 := by unfold askT; (repeat' split) <;> omega
  refine mt_ofQ (by decide) (Nat.le_of_ble_eq_true rfl) (fun Q hQ => ?_)
  show MW K yiX2_earliest d (tov K h m (ovr sg [] [])) 0 [some (.ref m), some (vi fr), some (vi to), some (vi day), some (vi mi), none] [] Q
  refine m_aload_n dX2_earliest_0 rfl ?_
  refine j_iload_n dX2_earliest_1 rfl ?_
  refine j_iload_n dX2_earliest_2 rfl ?_
  refine j_iload_n dX2_earliest_3 rfl ?_
  refine j_iload dX2_earliest_4 rfl ?_
  refine t_inv [(vi fr), (vi to), (vi day), (vi mi)] dX2_earliest_6 q3413 q3415 qs91 q3416 rfl (c_isAskedWrong K 2 h m _ _ _ _ _ (by omega) hT ⟨by omega, by omega⟩ ⟨by omega, by omega⟩ ⟨by omega, by omega⟩ ⟨by omega, by omega⟩) pdX2_isAskedWrong ⟨Nat.le_of_ble_eq_true rfl, by decide, by omega⟩ (kk_z fun r6 h6 q6 => ?_) kx_z
  obtain ⟨rfl, rfl⟩ := q6
  refine mw_tov (b := ovr sg [(0, (askT (sg.1 1) fr to day mi))] []) (ovr_ovr _ _ _ _ _) ?_
  refine mw_top (x' := bz (askT (sg.1 1) fr to day mi ≠ 0)) rfl ?_
  refine j_bz_eq 14 dX2_earliest_9 (by decide) (fun c9 => ?_) (fun c9 => ?_)
  · have e0 : askT (sg.1 1) fr to day mi = 0 := by omega
    have hA := hA e0
    refine m_aload_n dX2_earliest_14 rfl ?_
    refine j_iload_n dX2_earliest_15 rfl ?_
    refine j_iload_n dX2_earliest_16 rfl ?_
    refine j_iload_n dX2_earliest_17 rfl ?_
    refine j_iload dX2_earliest_18 rfl ?_
    refine t_inv [(vi fr), (vi to), (vi day), (vi mi)] dX2_earliest_20 q3417 q3419 qs92 q3420 rfl (c_earliestOf K 5 h m (ovr sg [(0, askT (sg.1 1) fr to day mi)] []) _ _ _ _ (by omega) ⟨hT.ovr (fa1 (mf0 (v := askT (sg.1 1) fr to day mi) hB) fa0) fa0, hF.2.1, hF.2.2.1, hF.2.2.2⟩ ⟨by omega, by omega⟩ ⟨by omega, by omega⟩ ⟨by omega, by omega⟩ ⟨by omega, by omega⟩) pdX2_earliestOf ⟨Nat.le_of_ble_eq_true rfl, by decide, by omega⟩ (kk_z fun r20 h20 q20 => ?_) kx_z
    obtain ⟨f2, r2, rfl, z1, z2, z3, z4, rfl⟩ := q20
    refine mw_tov (b := ovr sg [(0, (askT (sg.1 1) fr to day mi)), (22, day), (25, 0)] [(23, f2), (24, r2)]) (ovr_ovr _ _ _ _ _) ?_
    refine mw_top (x' := (if f2 to < r2 to then f2 to else r2 to)) rfl ?_
    have b1 := oa23 z1 to (by omega) (by omega)
    have b2 := oa24 z2 to (by omega) (by omega)
    refine j_istore [some (.ref m), some (vi fr), some (vi to), some (vi day), some (vi mi), some (vi (if f2 to < r2 to then f2 to else r2 to))] dX2_earliest_23 (by decide) rfl rfl ?_
    refine m_aload_n dX2_earliest_25 rfl ?_
    refine j_iload dX2_earliest_26 rfl ?_
    refine j_ldc (1000000) dX2_earliest_28 q3264 (by decide) ?_
    refine j_icmp_lt 37 dX2_earliest_30 (by decide) ⟨⟨by omega, by omega⟩, ⟨by omega, by omega⟩⟩ (fun c30 => ?_) (fun c30 => ?_)
    · refine j_iconst dX2_earliest_37 ?_
      refine j_iconst dX2_earliest_38 ?_
      refine t_inv [(vi 0), (vi 3)] dX2_earliest_39 q3256 q3258 qs76 q3259 rfl (c_isThrown0 K 0 h m _ _) pdX2_isThrown ⟨Nat.le_of_ble_eq_true rfl, by decide, by omega⟩ (kk_z fun r39 h39 q39 => ?_) kx_z
      obtain ⟨rfl, rfl⟩ := q39
      refine mw_tov (b := ovr sg [(0, 0), (22, day), (25, 0)] [(23, f2), (24, r2)]) (ovr_ovr _ _ _ _ _) ?_
      refine j_if_eq 49 dX2_earliest_42 (by decide) ⟨by decide, by decide⟩ (fun _ => ?_) (fun c => absurd c (by decide))
      refine j_iload dX2_earliest_49 rfl ?_
      subst hQ; exact j_iret dX2_earliest_51 rfl (⟨_, rfl, Scr.ovr sg rfl rfl, hT.ovr (fa1 (mf0 (v := 0) ⟨by decide, by decide⟩) (fa1 (mf22 (v := day) ⟨by omega, by omega⟩) (fa1 (mf25 (v := 0) ⟨by decide, by decide⟩) fa0))) (fa1 z1 (fa1 z2 fa0)), Or.inr ⟨e0, _, EA.te (a := sd (ovr sg [(0, askT (sg.1 1) fr to day mi)] []) day) (b := sd sg day) rfl (z4.ea z1 z2 z3 ⟨by omega, by show to < sg.1 1; omega⟩ (by show sg.1 1 ≤ 12; omega)), by first | (rw [if_pos (by omega)]; rfl) | (rw [if_neg (by omega)]; rfl), fun _ => by first | rfl | omega⟩⟩)
    · refine j_iconst dX2_earliest_33 ?_
      refine m_goto 38 dX2_earliest_34 (by decide) ?_
      refine j_iconst dX2_earliest_38 ?_
      refine t_inv [(vi 1), (vi 3)] dX2_earliest_39 q3256 q3258 qs76 q3259 rfl (c_isThrown1 K 0 h m _ _) pdX2_isThrown ⟨Nat.le_of_ble_eq_true rfl, by decide, by omega⟩ (kk_z fun r39 h39 q39 => ?_) kx_z
      obtain ⟨rfl, rfl⟩ := q39
      refine mw_tov (b := ovr sg [(0, 3), (22, day), (25, 0)] [(23, f2), (24, r2)]) (ovr_ovr _ _ _ _ _) ?_
      refine j_if_eq 49 dX2_earliest_42 (by decide) ⟨by decide, by decide⟩ (fun c => absurd c (by decide)) (fun _ => ?_)
      refine j_iconst dX2_earliest_45 ?_
      refine m_goto 51 dX2_earliest_46 (by decide) ?_
      subst hQ; exact j_iret dX2_earliest_51 rfl (⟨_, rfl, Scr.ovr sg rfl rfl, hT.ovr (fa1 (mf0 (v := 3) ⟨by decide, by decide⟩) (fa1 (mf22 (v := day) ⟨by omega, by omega⟩) (fa1 (mf25 (v := 0) ⟨by decide, by decide⟩) fa0))) (fa1 z1 (fa1 z2 fa0)), Or.inr ⟨e0, _, EA.te (a := sd (ovr sg [(0, askT (sg.1 1) fr to day mi)] []) day) (b := sd sg day) rfl (z4.ea z1 z2 z3 ⟨by omega, by show to < sg.1 1; omega⟩ (by show sg.1 1 ≤ 12; omega)), by first | (rw [if_pos (by omega)]; rfl) | (rw [if_neg (by omega)]; rfl), fun _ => by first | rfl | omega⟩⟩)
  · refine j_iconst dX2_earliest_12 ?_
    subst hQ; exact j_iret dX2_earliest_13 rfl (⟨_, rfl, Scr.ovr sg rfl rfl, hT.ovr (fa1 (mf0 (v := askT (sg.1 1) fr to day mi) hB) fa0) fa0, Or.inl ⟨by omega, rfl⟩⟩)
