/-! the twin: chain -/
theorem ArN_B {sg : TS} {fr mi s t : Int} {n : Nat} (h : ArN sg fr mi n s t) : ArB sg fr mi s t := by
  rcases h with g | ⟨t', g, g2⟩ | ⟨s', t', g0, g, g2⟩
  · exact Or.inl g
  · exact Or.inr (Or.inl ⟨t', ⟨n, g⟩, g2⟩)
  · exact Or.inr (Or.inr ⟨s', t', g0, ⟨n, g⟩, g2⟩)
theorem ArB_N {sg : TS} {fr mi s t : Int} (h : ArB sg fr mi s t) : ∃ n, ArN sg fr mi n s t := by
  rcases h with g | ⟨t', ⟨n, g⟩, g2⟩ | ⟨s', t', g0, ⟨n, g⟩, g2⟩
  · exact ⟨0, Or.inl g⟩
  · exact ⟨n, Or.inr (Or.inl ⟨t', g, g2⟩)⟩
  · exact ⟨n, Or.inr (Or.inr ⟨s', t', g0, g, g2⟩)⟩
theorem ArN.le {sg : TS} {fr mi s t : Int} {n k : Nat} (h : n ≤ k) (hA : ArN sg fr mi n s t) : ArN sg fr mi k s t := by
  rcases hA with g | ⟨t', g, g2⟩ | ⟨s', t', g0, g, g2⟩
  · exact Or.inl g
  · exact Or.inr (Or.inl ⟨t', EvN.le h _ _ g, g2⟩)
  · exact Or.inr (Or.inr ⟨s', t', g0, EvN.le h _ _ g, g2⟩)
theorem EA_of {sg : TS} {fr mi s v : Int} {n0 : Nat} (h : ∀ n, n0 ≤ n → EAn sg fr mi n s v) : EA sg fr mi s v := by
  refine ⟨(h n0 (Nat.le_refl _)).1, fun t ht => ⟨fun h1 => ArN_B (((h n0 (Nat.le_refl _)).2 t ht).mp h1), fun h1 => ?_⟩⟩
  obtain ⟨n, h2⟩ := ArB_N h1
  exact ((h (n0 + n) (by omega)).2 t ht).mpr (h2.le (by omega))
theorem FRs_te {a b : TS} (h : tt a = tt b) {bd : Int → Int → Prop} {s t e j off c : Int} (hf : FRs a bd s t e j off c) : FRs b bd s t e j off c := by
  have h1 : FRs (tt a) bd s t e j off c := hf
  rw [h] at h1; exact h1
theorem ChP.add {sg : TS} {fr mi to by' mn : Int} {R On Of : Int → Int} {k : Int} (h : ChP sg fr mi to by' mn R On Of (k + 1)) (hk : 0 ≤ k ∧ k < mn) {s t e j off c : Int} (hf : FRs sg (bdN sg fr mi k.toNat) s t e j off c) (hs : s = if k = mn - 1 then to else stI sg (R (k + 1)) (On (k + 1))) (ht : t = if k = mn - 1 then by' else lvI sg (R (k + 1)) (On (k + 1))) (he : e = if k = mn - 1 then 1 else 0) : ChP sg fr mi to by' mn (upz R k j) (upz On k c) (upz Of k off) k := by
  intro i h1 h2
  have u : ∀ (f : Int → Int) (x q : Int), q ≠ k → upz f k x q = f q := fun f x q hq => by unfold upz; rw [if_neg hq]
  by_cases e1 : (i : Int) = k
  · rw [e1, upz_at, upz_at, upz_at, u R j _ (by omega), u On c _ (by omega), ← hs, ← ht, ← he]
    rw [show i = k.toNat by omega]; exact hf
  · rw [u R j (i : Int) e1, u On c (i : Int) e1, u Of off (i : Int) e1, u R j _ (by omega), u On c _ (by omega)]
    exact h i (by omega) h2
/-- what a chain keeps -/
def Scc (sg sg' : TS) : Prop := (∀ k, pF k = true → k ≠ 29 → sg'.1 k = sg.1 k) ∧ ∀ k, pA k = true → k ≠ 30 → k ≠ 31 → k ≠ 32 → sg'.2 k = sg.2 k
theorem Scr.scc {a b : TS} (h : Scr a b) : Scc a b := ⟨fun k hk _ => h.1 k hk, fun k hk _ _ _ => h.2 k hk⟩
theorem lkA_ne {α : Type} (A : List (Nat × α)) (k : Nat) (x : α) (h : A.all (fun q => q.1 != k) = true) : lkA A k x = x := by
  induction A with
  | nil => rfl
  | cons q r ih =>
    obtain ⟨k0, g⟩ := q
    rw [List.all_cons, Bool.and_eq_true] at h
    unfold lkA
    have h1 : ¬ k = k0 := fun e => by subst e; simp at h
    rw [if_neg h1]; exact ih h.2
theorem lkA_no2 {α : Type} {p : Nat → Bool} (A : List (Nat × α)) (h : A.all (fun q => !p q.1) = true) (k : Nat) (x : α) (hk : p k = true) : lkA A k x = x := lkA_no A h k x hk
theorem Scc.ovr (sg : TS) {F : List (Nat × Int)} {A : List (Nat × (Int → Int))} (hF : F.all (fun q => !(pF q.1 && q.1 != 29)) = true) (hA : A.all (fun q => !(pA q.1 && (q.1 != 30 && (q.1 != 31 && q.1 != 32)))) = true) : Scc sg (ovr sg F A) :=
  ⟨fun k hk h29 => lkA_no (p := fun k => pF k && k != 29) F hF k _ (by simp [hk, h29]), fun k hk a b c => lkA_no (p := fun k => pA k && (k != 30 && (k != 31 && k != 32))) A hA k _ (by simp [hk, a, b, c])⟩
theorem scc_t {a b c : TS} (h1 : Scc a b) (h2 : Scc b c) : Scc a c := ⟨fun k hk q => (h2.1 k hk q).trans (h1.1 k hk q), fun k hk x y z => (h2.2 k hk x y z).trans (h1.2 k hk x y z)⟩
theorem lab_te {a b : TS} (h : tt a = tt b) {f0 r0 f r : Int → Int} {n : Nat} (hL : Lab a f0 r0 (EvN a f0 r0 n) f r) : Lab b f0 r0 (EvN b f0 r0 n) f r := by
  unfold Lab at hL ⊢
  rw [EvN_te h, te_1 h, te_4 h] at hL
  exact hL
def chainP (sg : TS) (fr to day mi : Int) (sg' : TS) (v : Int) : Prop := (askT (sg.1 1) fr to day mi ≠ 0 ∧ Scr sg sg' ∧ sg'.1 0 = askT (sg.1 1) fr to day mi) ∨ (askT (sg.1 1) fr to day mi = 0 ∧ ∃ a, EA (sd sg day) fr mi to a ∧ ((1000000 ≤ a ∧ sg'.1 0 = 3 ∧ Scr sg sg') ∨ (a < 1000000 ∧ sg'.1 0 = 0 ∧ Scc sg sg' ∧ (0 ≤ v ∧ v ≤ 73) ∧ sg'.1 29 = v ∧ ArN (sd sg day) fr mi v.toNat to a ∧ (∀ k : Nat, (k : Int) < v → ¬ ArN (sd sg day) fr mi k to a) ∧ ChP (sd sg day) fr mi to a v (sg'.2 30) (sg'.2 31) (sg'.2 32) 0)))
theorem c_chain (K : KT) (d : Nat) (h : MH) (m : Nat) (sg : TS) (fr to day mi : Int) (hd : 4 ≤ d) (hF : WF sg) (hcut : sg.1 5 = -1) (hcl : clS sg ≤ 23) (h1 : In fr) (h2 : In to) (h3 : In day) (h4 : In mi) : Mt K yiX2_chain d [.ref m, vi fr, vi to, vi day, vi mi] (tov K h m sg) (Rz fun v h' => ∃ sg', h' = tov K h m sg' ∧ TB sg' ∧ chainP sg fr to day mi sg' v) := by
  have hT := hF.1
  have := h1.1; have := h1.2; have := h2.1; have := h2.2; have := h3.1; have := h3.2; have := h4.1; have := h4.2; have f1 := of1 (hT.1 1)
  have hB := askB (sg.1 1) fr to day mi
  refine mt_ofQ (by decide) (Nat.le_of_ble_eq_true rfl) (fun Q hQ => ?_)
  show MW K yiX2_chain d (tov K h m (ovr sg [] [])) 0 [some (.ref m), some (vi fr), some (vi to), some (vi day), some (vi mi), none, none, none, none, none] [] Q
  have f28 := of28 (hT.1 28)
  have f29 := of29 (hT.1 29)
  refine m_aload_n dX2_chain_0 rfl ?_
  refine j_iload_n dX2_chain_1 rfl ?_
  refine j_iload_n dX2_chain_2 rfl ?_
  refine j_iload_n dX2_chain_3 rfl ?_
  refine j_iload dX2_chain_4 rfl ?_
  refine t_inv [(vi fr), (vi to), (vi day), (vi mi)] dX2_chain_6 q3413 q3415 qs91 q3416 rfl (c_isAskedWrong K 2 h m _ _ _ _ _ (by omega) hT ⟨by omega, by omega⟩ ⟨by omega, by omega⟩ ⟨by omega, by omega⟩ ⟨by omega, by omega⟩) pdX2_isAskedWrong ⟨Nat.le_of_ble_eq_true rfl, by decide, by omega⟩ (kk_z fun r6 h6 q6 => ?_) kx_z
  obtain ⟨rfl, rfl⟩ := q6
  refine mw_tov (b := ovr sg [(0, (askT (sg.1 1) fr to day mi))] []) (ovr_ovr _ _ _ _ _) ?_
  refine mw_top (x' := bz (askT (sg.1 1) fr to day mi ≠ 0)) rfl ?_
  refine j_bz_eq 14 dX2_chain_9 (by decide) (fun c9 => ?_) (fun c9 => ?_)
  · have e0 : askT (sg.1 1) fr to day mi = 0 := by omega
    have hA := ask0 e0
    have hFd := hF.sd hA.2.2.1
    refine m_aload_n dX2_chain_14 rfl ?_
    refine j_iload_n dX2_chain_15 rfl ?_
    refine j_iload_n dX2_chain_16 rfl ?_
    refine j_iload dX2_chain_17 rfl ?_
    refine t_inv [(vi fr), (vi day), (vi mi)] dX2_chain_19 q3494 q3496 qs104 q3497 rfl (c_tellRounds K 3 h m _ _ _ _ (by omega) ⟨(hT.ovr (fa1 (mf0 (v := (askT (sg.1 1) fr to day mi)) ⟨by first | decide | omega | (split <;> omega) | assumption, by first | decide | omega | (split <;> omega) | assumption⟩) fa0) fa0), hF.2.1, hF.2.2.1, hF.2.2.2⟩ hcut hcl ⟨by omega, by omega⟩ ⟨by omega, by omega⟩ ⟨by omega, by omega⟩) pdX2_tellRounds ⟨Nat.le_of_ble_eq_true rfl, by decide, by omega⟩ (kk_v fun h19 q19 => ?_) kx_v
    obtain ⟨N19, f19, r19, fA19, rA19, rfl, x19, y19, z19, w19, n19, u19, t19⟩ := q19
    refine mw_tov (b := ovr sg [(0, (askT (sg.1 1) fr to day mi)), (22, day), (25, 0), (28, N19)] [(23, f19), (24, r19), (26, fA19), (27, rA19)]) (ovr_ovr _ _ _ _ _) ?_
    have hR := chR_of (to := to) (sg := sg) (sg1 := ovr sg [(0, askT (sg.1 1) fr to day mi)] []) rfl rfl (by show sg.1 1 ≤ 12; omega) ⟨by omega, by show to < sg.1 1; omega⟩ n19 u19 t19
    have hEA : EA (sd sg day) fr mi to (minL (rwF fA19 (N19 - 1)) (rwF rA19 (N19 - 1)) to) := EA_of (n0 := (N19 - 1).toNat) (fun n hn => hR.2.2 n (by omega))
    have b26 := oa26 z19 (12 * (N19 - 1) + to) (by omega) (by omega)
    have b27 := oa27 w19 (12 * (N19 - 1) + to) (by omega) (by omega)
    refine m_aload_n dX2_chain_22 rfl ?_
    refine m_aload_n dX2_chain_23 rfl ?_
    refine t_geti 28 (by decide) N19 dX2_chain_24 q3121 rfl ?_
    refine j_iconst dX2_chain_27 ?_
    refine j_isub dX2_chain_28 ?_
    refine j_iload_n dX2_chain_29 rfl ?_
    refine t_inv [(vi (N19 - 1)), (vi to)] dX2_chain_30 q3510 q3512 qs108 q3513 rfl (c_atBy K 0 h m _ _ _ (by omega) (hT.ovr (fa1 (mf0 (v := (askT (sg.1 1) fr to day mi)) ⟨by first | decide | omega | (split <;> omega) | assumption, by first | decide | omega | (split <;> omega) | assumption⟩) (fa1 (mf22 (v := day) ⟨by first | decide | omega | (split <;> omega) | assumption, by first | decide | omega | (split <;> omega) | assumption⟩) (fa1 (mf25 (v := 0) ⟨by first | decide | omega | (split <;> omega) | assumption, by first | decide | omega | (split <;> omega) | assumption⟩) (fa1 (mf28 (v := N19) ⟨by first | decide | omega | (split <;> omega) | assumption, by first | decide | omega | (split <;> omega) | assumption⟩) fa0)))) (fa1 x19 (fa1 y19 (fa1 z19 (fa1 w19 fa0))))) ⟨by omega, by omega⟩ ⟨by omega, by omega⟩ ⟨by omega, by omega⟩ ⟨by omega, by omega⟩) pdX2_atBy ⟨Nat.le_of_ble_eq_true rfl, by decide, by omega⟩ (kk_z fun r30 h30 q30 => ?_) kx_z
    obtain ⟨rfl, rfl⟩ := q30
    refine mw_top (x' := (if fA19 (12 * (N19 - 1) + to) < rA19 (12 * (N19 - 1) + to) then fA19 (12 * (N19 - 1) + to) else rA19 (12 * (N19 - 1) + to))) rfl ?_
    refine j_istore [some (.ref m), some (vi fr), some (vi to), some (vi day), some (vi mi), some (vi (if fA19 (12 * (N19 - 1) + to) < rA19 (12 * (N19 - 1) + to) then fA19 (12 * (N19 - 1) + to) else rA19 (12 * (N19 - 1) + to))), none, none, none, none] dX2_chain_33 (by decide) rfl rfl ?_
    refine m_aload_n dX2_chain_35 rfl ?_
    refine j_iload dX2_chain_36 rfl ?_
    refine j_ldc (1000000) dX2_chain_38 q3264 (by decide) ?_
    refine j_icmp_lt 47 dX2_chain_40 (by decide) ⟨⟨by omega, by omega⟩, ⟨by omega, by omega⟩⟩ (fun c40 => ?_) (fun c40 => ?_)
    · refine j_iconst dX2_chain_47 ?_
      refine j_iconst dX2_chain_48 ?_
      refine t_inv [(vi 0), (vi 3)] dX2_chain_49 q3256 q3258 qs76 q3259 rfl (c_isThrown0 K 0 h m _ _) pdX2_isThrown ⟨Nat.le_of_ble_eq_true rfl, by decide, by omega⟩ (kk_z fun r49 h49 q49 => ?_) kx_z
      obtain ⟨rfl, rfl⟩ := q49
      refine mw_tov (b := ovr sg [(0, 0), (22, day), (25, 0), (28, N19)] [(23, f19), (24, r19), (26, fA19), (27, rA19)]) (ovr_ovr _ _ _ _ _) ?_
      refine j_if_eq 57 dX2_chain_52 (by decide) ⟨by decide, by decide⟩ (fun _ => ?_) (fun c => absurd c (by decide))
      have hEb := hEA.1
      have hEe : minL (rwF fA19 (N19 - 1)) (rwF rA19 (N19 - 1)) to = (if fA19 (12 * (N19 - 1) + to) < rA19 (12 * (N19 - 1) + to) then fA19 (12 * (N19 - 1) + to) else rA19 (12 * (N19 - 1) + to)) := rfl
      have hrow : ∀ k : Nat, (k : Int) < N19 → EAn (sd sg day) fr mi k to (if fA19 (12 * (k : Int) + to) < rA19 (12 * (k : Int) + to) then fA19 (12 * (k : Int) + to) else rA19 (12 * (k : Int) + to)) := hR.2.1
      refine j_iconst dX2_chain_57 ?_
      refine j_istore [some (.ref m), some (vi fr), some (vi to), some (vi day), some (vi mi), some (vi (if fA19 (12 * (N19 - 1) + to) < rA19 (12 * (N19 - 1) + to) then fA19 (12 * (N19 - 1) + to) else rA19 (12 * (N19 - 1) + to))), some (vi 0), none, none, none] dX2_chain_58 (by decide) rfl rfl ?_
      have L60 : ∀ (N : Nat) (mn : Int), (N19 - mn).toNat = N → (0 ≤ mn ∧ mn ≤ N19 - 1) → (∀ k : Nat, (k : Int) < mn → ¬ ArN (sd sg day) fr mi k to (if fA19 (12 * (N19 - 1) + to) < rA19 (12 * (N19 - 1) + to) then fA19 (12 * (N19 - 1) + to) else rA19 (12 * (N19 - 1) + to))) → MW K yiX2_chain d (tov K h m (ovr sg [(0, 0), (22, day), (25, 0), (28, N19)] [(23, f19), (24, r19), (26, fA19), (27, rA19)])) 60 [some (.ref m), some (vi fr), some (vi to), some (vi day), some (vi mi), some (vi (if fA19 (12 * (N19 - 1) + to) < rA19 (12 * (N19 - 1) + to) then fA19 (12 * (N19 - 1) + to) else rA19 (12 * (N19 - 1) + to))), some (vi mn), none, none, none] [] Q := by
        intro N
        induction N using Nat.strongRecOn with
        | _ N ih60 =>
        intro mn hN60 hmn hno
        have c26 := oa26 z19 (12 * mn + to) (by omega) (by omega)
        have c27 := oa27 w19 (12 * mn + to) (by omega) (by omega)
        refine m_aload_n dX2_chain_60 rfl ?_
        refine j_iload dX2_chain_61 rfl ?_
        refine j_iload_n dX2_chain_63 rfl ?_
        refine t_inv [(vi mn), (vi to)] dX2_chain_64 q3510 q3512 qs108 q3513 rfl (c_atBy K 0 h m _ _ _ (by omega) (hT.ovr (fa1 (mf0 (v := 0) ⟨by first | decide | omega | (split <;> omega) | assumption, by first | decide | omega | (split <;> omega) | assumption⟩) (fa1 (mf22 (v := day) ⟨by first | decide | omega | (split <;> omega) | assumption, by first | decide | omega | (split <;> omega) | assumption⟩) (fa1 (mf25 (v := 0) ⟨by first | decide | omega | (split <;> omega) | assumption, by first | decide | omega | (split <;> omega) | assumption⟩) (fa1 (mf28 (v := N19) ⟨by first | decide | omega | (split <;> omega) | assumption, by first | decide | omega | (split <;> omega) | assumption⟩) fa0)))) (fa1 x19 (fa1 y19 (fa1 z19 (fa1 w19 fa0))))) ⟨by omega, by omega⟩ ⟨by omega, by omega⟩ ⟨by omega, by omega⟩ ⟨by omega, by omega⟩) pdX2_atBy ⟨Nat.le_of_ble_eq_true rfl, by decide, by omega⟩ (kk_z fun r64 h64 q64 => ?_) kx_z
        obtain ⟨rfl, rfl⟩ := q64
        refine mw_top (x' := (if fA19 (12 * mn + to) < rA19 (12 * mn + to) then fA19 (12 * mn + to) else rA19 (12 * mn + to))) rfl ?_
        refine j_iload dX2_chain_67 rfl ?_
        refine j_icmp_le 78 dX2_chain_69 (by decide) ⟨⟨by omega, by omega⟩, ⟨by omega, by omega⟩⟩ (fun c69 => ?_) (fun c69 => ?_)
        · have hTB : TB (ovr sg [(0, 0), (22, day), (25, 0), (28, N19), (29, mn)] [(23, f19), (24, r19), (26, fA19), (27, rA19)]) := hT.ovr (fa1 (mf0 (v := 0) ⟨by decide, by decide⟩) (fa1 (mf22 (v := day) hA.2.2.1) (fa1 (mf25 (v := 0) ⟨by decide, by decide⟩) (fa1 (mf28 (v := N19) ⟨by omega, by omega⟩) (fa1 (mf29 (v := mn) ⟨by omega, by omega⟩) fa0))))) (fa1 x19 (fa1 y19 (fa1 z19 (fa1 w19 fa0))))
          have hFB : WF (ovr sg [(0, 0), (22, day), (25, 0), (28, N19), (29, mn)] [(23, f19), (24, r19), (26, fA19), (27, rA19)]) := ⟨hTB, hF.2.1, hF.2.2.1, hF.2.2.2⟩
          have hmet : ArN (sd sg day) fr mi mn.toNat to (if fA19 (12 * (N19 - 1) + to) < rA19 (12 * (N19 - 1) + to) then fA19 (12 * (N19 - 1) + to) else rA19 (12 * (N19 - 1) + to)) := ((hrow mn.toNat (by omega)).2 _ (by omega)).mp (by rw [show ((mn.toNat : Nat) : Int) = mn by omega]; omega)
          refine m_aload_n dX2_chain_78 rfl ?_
          refine j_iload dX2_chain_79 rfl ?_
          refine t_puti 29 (by decide) [(0, 0), (22, day), (25, 0), (28, N19), (29, mn)] dX2_chain_81 q3122 rfl rfl rfl rfl ?_
          refine mw_tov (b := ovr sg [(0, 0), (22, day), (25, 0), (28, N19), (29, mn)] [(23, f19), (24, r19), (26, fA19), (27, rA19), (30, (sg.2 30))]) (ovr_addA _ _ _ 30) ?_
          refine mw_tov (b := ovr sg [(0, 0), (22, day), (25, 0), (28, N19), (29, mn)] [(23, f19), (24, r19), (26, fA19), (27, rA19), (30, (sg.2 30)), (31, (sg.2 31))]) (ovr_addA _ _ _ 31) ?_
          refine mw_tov (b := ovr sg [(0, 0), (22, day), (25, 0), (28, N19), (29, mn)] [(23, f19), (24, r19), (26, fA19), (27, rA19), (30, (sg.2 30)), (31, (sg.2 31)), (32, (sg.2 32))]) (ovr_addA _ _ _ 32) ?_
          refine mw_tov (b := ovr (ovr sg [(0, 0), (22, day), (25, 0), (28, N19), (29, mn)] [(23, f19), (24, r19), (26, fA19), (27, rA19)]) [] [(30, (sg.2 30)), (31, (sg.2 31)), (32, (sg.2 32))]) (ovr_ovr sg [(0, 0), (22, day), (25, 0), (28, N19), (29, mn)] [] [(23, f19), (24, r19), (26, fA19), (27, rA19)] [(30, (sg.2 30)), (31, (sg.2 31)), (32, (sg.2 32))]).symm ?_
          refine j_iload_n dX2_chain_84 rfl ?_
          refine j_istore [some (.ref m), some (vi fr), some (vi to), some (vi day), some (vi mi), some (vi (if fA19 (12 * (N19 - 1) + to) < rA19 (12 * (N19 - 1) + to) then fA19 (12 * (N19 - 1) + to) else rA19 (12 * (N19 - 1) + to))), some (vi mn), some (vi to), none, none] dX2_chain_85 (by decide) rfl rfl ?_
          refine j_iconst dX2_chain_87 ?_
          refine j_istore [some (.ref m), some (vi fr), some (vi to), some (vi day), some (vi mi), some (vi (if fA19 (12 * (N19 - 1) + to) < rA19 (12 * (N19 - 1) + to) then fA19 (12 * (N19 - 1) + to) else rA19 (12 * (N19 - 1) + to))), some (vi mn), some (vi to), some (vi 1), none] dX2_chain_88 (by decide) rfl rfl ?_
          refine j_iload dX2_chain_90 rfl ?_
          refine j_iconst dX2_chain_92 ?_
          refine j_isub dX2_chain_93 ?_
          refine j_istore [some (.ref m), some (vi fr), some (vi to), some (vi day), some (vi mi), some (vi (if fA19 (12 * (N19 - 1) + to) < rA19 (12 * (N19 - 1) + to) then fA19 (12 * (N19 - 1) + to) else rA19 (12 * (N19 - 1) + to))), some (vi mn), some (vi to), some (vi 1), some (vi (mn - 1))] dX2_chain_94 (by decide) rfl rfl ?_
          have L96 : ∀ (N : Nat) (tm st e k : Int) (R On Of : Int → Int), (k + 1).toNat = N → (-1 ≤ k ∧ k < mn) → ((0 ≤ st ∧ st < sg.1 1) ∧ (-2000 ≤ tm ∧ tm ≤ 300000) ∧ (e = 0 ∨ e = 1)) → (0 ≤ k → TgN (sd sg day) fr mi (k.toNat + 1) st tm e ∧ ¬ TgN (sd sg day) fr mi k.toNat st tm e) → (0 ≤ k → (st = if k = mn - 1 then to else stI (sd sg day) (R (k + 1)) (On (k + 1))) ∧ (tm = if k = mn - 1 then (if fA19 (12 * (N19 - 1) + to) < rA19 (12 * (N19 - 1) + to) then fA19 (12 * (N19 - 1) + to) else rA19 (12 * (N19 - 1) + to)) else lvI (sd sg day) (R (k + 1)) (On (k + 1))) ∧ (e = if k = mn - 1 then 1 else 0)) → (ChP (sd sg day) fr mi to (if fA19 (12 * (N19 - 1) + to) < rA19 (12 * (N19 - 1) + to) then fA19 (12 * (N19 - 1) + to) else rA19 (12 * (N19 - 1) + to)) mn R On Of (k + 1)) → (okA 30 R ∧ okA 31 On ∧ okA 32 Of) → MW K yiX2_chain d (tov K h m (ovr (ovr sg [(0, 0), (22, day), (25, 0), (28, N19), (29, mn)] [(23, f19), (24, r19), (26, fA19), (27, rA19)]) [] [(30, R), (31, On), (32, Of)])) 96 [some (.ref m), some (vi fr), some (vi to), some (vi day), some (vi mi), some (vi tm), some (vi mn), some (vi st), some (vi e), some (vi k)] [] Q := by
            intro N
            induction N using Nat.strongRecOn with
            | _ N ih96 =>
            intro tm st e k R On Of hN96 hk hst hP hcu hch ho
            refine j_iload dX2_chain_96 rfl ?_
            refine j_if_lt 162 dX2_chain_98 (by decide) ⟨by omega, by omega⟩ (fun c98 => ?_) (fun c98 => ?_)
            · refine m_aload_n dX2_chain_162 rfl ?_
              refine t_geti 29 (by decide) ((ovr sg [(0, 0), (22, day), (25, 0), (28, N19), (29, mn)] [(23, f19), (24, r19), (26, fA19), (27, rA19)]).1 29) dX2_chain_163 q3122 rfl ?_
              subst hQ; exact j_iret dX2_chain_166 rfl (⟨_, rfl, hTB.ovr fa0 (fa1 ho.1 (fa1 ho.2.1 (fa1 ho.2.2 fa0))), Or.inr ⟨e0, _, hEA, Or.inr ⟨by unfold minL rwF; omega, rfl, scc_t (Scc.ovr sg rfl rfl) (Scc.ovr _ rfl rfl), (show (0 : Int) ≤ mn ∧ mn ≤ 73 from ⟨by omega, by omega⟩), rfl, hmet, hno, by rw [show k + 1 = 0 by omega] at hch; exact hch⟩⟩⟩)
            · have hxx : ∃ j off c, okR (sd sg day) j ∧ (1 ≤ off ∧ off < (sd sg day).2 10 (j % 24)) ∧ inT (sd sg day) st tm e j off ∧ (0 ≤ c ∧ c < off) ∧ bdN (sd sg day) fr mi k.toNat j c := TgN.ex hFd (by omega) hst.2.2 (hP (by omega)).1 (hP (by omega)).2
              have hLk : Lab (sd sg day) (b0 (sg.2 4) fr mi) BG (EvN (sd sg day) (b0 (sg.2 4) fr mi) BG k.toNat) (rwF fA19 k) (rwF rA19 k) := lab_te (a := sd (ovr sg [(0, askT (sg.1 1) fr to day mi)] []) day) (b := sd sg day) rfl (by have q := (u19 k.toNat (by omega)).2.2.2; rw [show ((k.toNat : Nat) : Int) = k by omega] at q; exact q)
              have hbd := fun (j c : Int) (g1 : okR (sd sg day) j) (g2 : 0 ≤ c) (g3 : c < (sd sg day).2 10 (j % 24)) => bdN_iff (fr := fr) (mi := mi) hFd hLk g1 ⟨g2, g3⟩
              refine m_aload_n dX2_chain_101 rfl ?_
              refine j_iload dX2_chain_102 rfl ?_
              refine j_iload dX2_chain_104 rfl ?_
              refine j_iload dX2_chain_106 rfl ?_
              refine j_iload dX2_chain_108 rfl ?_
              refine t_inv [(vi k), (vi st), (vi tm), (vi e)] dX2_chain_110 q3522 q3524 qs109 q3525 rfl (c_findRide K 3 h m (ovr sg [(0, 0), (22, day), (25, 0), (28, N19), (29, mn)] [(23, f19), (24, r19), (26, fA19), (27, rA19)]) _ _ _ _ R On Of (by omega) hFB ⟨by omega, by omega⟩ ⟨by omega, by omega⟩ ⟨by omega, by omega⟩ hst.2.2 ho.1 ho.2.1 ho.2.2 (by obtain ⟨j, off, c, g1, g2, g3, g4, g5⟩ := hxx; exact ⟨j, off, c, g1, g2, g3, g4, (hbd j c g1 g4.1 (by omega)).mpr g5⟩)) pdX2_findRide ⟨Nat.le_of_ble_eq_true rfl, by decide, by omega⟩ (kk_v fun h110 q110 => ?_) kx_v
              obtain ⟨R1, On1, Of1, rfl, hFd1⟩ := q110
              have ho1 := FdS.ok hTB (Z := True) (Or.inr hFd1) ho.1 ho.2.1 ho.2.2
              obtain ⟨j, off, c, eR, eO, eF, hfr⟩ := hFd1
              have ej : R1 k = j := by rw [eR]; exact upz_at
              have eo : On1 k = c := by rw [eO]; exact upz_at
              have hfd : FRs (sd sg day) (bdN (sd sg day) fr mi k.toNat) st tm e j off c := (FRs_te (b := sd sg day) rfl hfr).cg hbd
              have j1 := hfd.1.1
              have j2 := hfd.1.2.1
              have n10 := oa10 (hFd.1.2 10) (j % 24) (by omega) (by omega)
              have hoc := hfd.2.1
              have hcc := hfd.2.2.2.1
              have s46 := hFd.2.1.run hfd.1 (c := c) ⟨by omega, by omega⟩
              have blv := lvI_b hFd.1 (r := j) (c := c) ⟨by omega, by omega⟩ ⟨by omega, by omega⟩
              have hon := TgN.on hFd hcut hst.1 hst.2.2 hfd (hP (by omega)).2
              refine m_aload_n dX2_chain_113 rfl ?_
              refine m_aload_n dX2_chain_114 rfl ?_
              refine t_geta 30 19 (by decide) dX2_chain_115 q3123 rfl ?_
              refine j_iload dX2_chain_118 rfl ?_
              refine t_aldB 19 (by decide) (n := 74) R1 dX2_chain_120 rfl (Nat.le_of_ble_eq_true rfl) (oa30 ho1.1) ⟨by omega, by omega⟩ (fun b120 => ?_)
              refine m_aload_n dX2_chain_121 rfl ?_
              refine t_geta 31 20 (by decide) dX2_chain_122 q3124 rfl ?_
              refine j_iload dX2_chain_125 rfl ?_
              refine t_aldB 20 (by decide) (n := 74) On1 dX2_chain_127 rfl (Nat.le_of_ble_eq_true rfl) (oa31 ho1.2.1) ⟨by omega, by omega⟩ (fun b127 => ?_)
              refine t_inv [(vi (R1 k)), (vi (On1 k))] dX2_chain_128 q3441 q3443 qs98 q3444 rfl (c_stopIn K 0 h m _ _ _ (hTB.ovr fa0 (fa1 ho1.1 (fa1 ho1.2.1 (fa1 ho1.2.2 fa0)))) ⟨by omega, by omega⟩ ⟨by omega, by omega⟩) pdX2_stopIn ⟨Nat.le_of_ble_eq_true rfl, by decide, by omega⟩ (kk_z fun r128 h128 q128 => ?_) kx_z
              obtain ⟨rfl, rfl⟩ := q128
              refine mw_top (x' := stI (ovr sg [(0, 0), (22, day), (25, 0), (28, N19), (29, mn)] [(23, f19), (24, r19), (26, fA19), (27, rA19)]) (R1 k) (On1 k)) rfl ?_
              refine j_istore [some (.ref m), some (vi fr), some (vi to), some (vi day), some (vi mi), some (vi tm), some (vi mn), some (vi (stI (ovr sg [(0, 0), (22, day), (25, 0), (28, N19), (29, mn)] [(23, f19), (24, r19), (26, fA19), (27, rA19)]) (R1 k) (On1 k))), some (vi e), some (vi k)] dX2_chain_131 (by decide) rfl rfl ?_
              refine m_aload_n dX2_chain_133 rfl ?_
              refine m_aload_n dX2_chain_134 rfl ?_
              refine t_geta 30 19 (by decide) dX2_chain_135 q3123 rfl ?_
              refine j_iload dX2_chain_138 rfl ?_
              refine t_aldB 19 (by decide) (n := 74) R1 dX2_chain_140 rfl (Nat.le_of_ble_eq_true rfl) (oa30 ho1.1) ⟨by omega, by omega⟩ (fun b140 => ?_)
              refine m_aload_n dX2_chain_141 rfl ?_
              refine t_geta 31 20 (by decide) dX2_chain_142 q3124 rfl ?_
              refine j_iload dX2_chain_145 rfl ?_
              refine t_aldB 20 (by decide) (n := 74) On1 dX2_chain_147 rfl (Nat.le_of_ble_eq_true rfl) (oa31 ho1.2.1) ⟨by omega, by omega⟩ (fun b147 => ?_)
              refine t_inv [(vi (R1 k)), (vi (On1 k))] dX2_chain_148 q3453 q3455 qs101 q3456 rfl (c_leavesAt K 2 h m _ _ _ (by omega) (hTB.ovr fa0 (fa1 ho1.1 (fa1 ho1.2.1 (fa1 ho1.2.2 fa0)))) ⟨by omega, by omega⟩ ⟨by omega, by omega⟩) pdX2_leavesAt ⟨Nat.le_of_ble_eq_true rfl, by decide, by omega⟩ (kk_z fun r148 h148 q148 => ?_) kx_z
              obtain ⟨rfl, rfl⟩ := q148
              refine mw_top (x' := lvI (ovr sg [(0, 0), (22, day), (25, 0), (28, N19), (29, mn)] [(23, f19), (24, r19), (26, fA19), (27, rA19)]) (R1 k) (On1 k)) rfl ?_
              refine j_istore [some (.ref m), some (vi fr), some (vi to), some (vi day), some (vi mi), some (vi (lvI (ovr sg [(0, 0), (22, day), (25, 0), (28, N19), (29, mn)] [(23, f19), (24, r19), (26, fA19), (27, rA19)]) (R1 k) (On1 k))), some (vi mn), some (vi (stI (ovr sg [(0, 0), (22, day), (25, 0), (28, N19), (29, mn)] [(23, f19), (24, r19), (26, fA19), (27, rA19)]) (R1 k) (On1 k))), some (vi e), some (vi k)] dX2_chain_151 (by decide) rfl rfl ?_
              refine j_iconst dX2_chain_153 ?_
              refine j_istore [some (.ref m), some (vi fr), some (vi to), some (vi day), some (vi mi), some (vi (lvI (ovr sg [(0, 0), (22, day), (25, 0), (28, N19), (29, mn)] [(23, f19), (24, r19), (26, fA19), (27, rA19)]) (R1 k) (On1 k))), some (vi mn), some (vi (stI (ovr sg [(0, 0), (22, day), (25, 0), (28, N19), (29, mn)] [(23, f19), (24, r19), (26, fA19), (27, rA19)]) (R1 k) (On1 k))), some (vi 0), some (vi k)] dX2_chain_154 (by decide) rfl rfl ?_
              refine j_iinc [some (.ref m), some (vi fr), some (vi to), some (vi day), some (vi mi), some (vi (lvI (ovr sg [(0, 0), (22, day), (25, 0), (28, N19), (29, mn)] [(23, f19), (24, r19), (26, fA19), (27, rA19)]) (R1 k) (On1 k))), some (vi mn), some (vi (stI (ovr sg [(0, 0), (22, day), (25, 0), (28, N19), (29, mn)] [(23, f19), (24, r19), (26, fA19), (27, rA19)]) (R1 k) (On1 k))), some (vi 0), some (vi (k + (-1)))] dX2_chain_156 rfl (by decide) rfl rfl ?_
              refine m_goto 96 dX2_chain_159 (by decide) ?_
              exact ih96 _ (by omega) _ _ _ _ _ _ _ rfl (by omega) ⟨by rw [ej, eo]; exact s46, by rw [ej, eo]; exact ⟨by show -2000 ≤ lvI (sd sg day) j c; omega, by show lvI (sd sg day) j c ≤ 300000; omega⟩, Or.inl rfl⟩ (fun h9 => ⟨by rw [ej, eo, show (k + -1).toNat + 1 = k.toNat by omega]; exact hon.1, by rw [ej, eo]; exact hon.2 (k + -1).toNat (by omega)⟩) (fun h9 => ⟨by rw [if_neg (by omega), show k + -1 + 1 = k by omega]; rfl, by rw [if_neg (by omega), show k + -1 + 1 = k by omega]; rfl, by rw [if_neg (by omega)]⟩) (by rw [show k + -1 + 1 = k by omega, eR, eO, eF]; exact hch.add (by omega) hfd (hcu (by omega)).1 (hcu (by omega)).2.1 (hcu (by omega)).2.2) ho1
          exact L96 _ _ _ _ _ _ _ _ rfl (by omega) ⟨⟨by omega, by omega⟩, ⟨by omega, by omega⟩, Or.inr rfl⟩ (fun h9 => ⟨by unfold TgN; rw [if_neg (by decide), show (mn - 1).toNat + 1 = mn.toNat by omega]; exact hmet, by unfold TgN; rw [if_neg (by decide)]; exact hno _ (by omega)⟩) (fun h9 => ⟨by rw [if_pos rfl], by rw [if_pos rfl], by rw [if_pos rfl]⟩) (fun i a b => by omega) ⟨hT.2 30, hT.2 31, hT.2 32⟩
        · refine j_iinc [some (.ref m), some (vi fr), some (vi to), some (vi day), some (vi mi), some (vi (if fA19 (12 * (N19 - 1) + to) < rA19 (12 * (N19 - 1) + to) then fA19 (12 * (N19 - 1) + to) else rA19 (12 * (N19 - 1) + to))), some (vi (mn + 1)), none, none, none] dX2_chain_72 rfl (by decide) rfl rfl ?_
          refine m_goto 60 dX2_chain_75 (by decide) ?_
          exact ih60 _ (by omega) _ rfl (by { by_cases e9 : mn = N19 - 1; { subst e9; omega }; { omega } }) (fun k hk => by { by_cases e9 : (k : Int) = mn; { intro h9; have q := ((hrow k (by omega)).2 _ (by omega)).mpr h9; rw [e9] at q; omega }; { exact hno k (by omega) } })
      exact L60 _ _ rfl (by omega) (fun k hk => by omega)
    · refine j_iconst dX2_chain_43 ?_
      refine m_goto 48 dX2_chain_44 (by decide) ?_
      refine j_iconst dX2_chain_48 ?_
      refine t_inv [(vi 1), (vi 3)] dX2_chain_49 q3256 q3258 qs76 q3259 rfl (c_isThrown1 K 0 h m _ _) pdX2_isThrown ⟨Nat.le_of_ble_eq_true rfl, by decide, by omega⟩ (kk_z fun r49 h49 q49 => ?_) kx_z
      obtain ⟨rfl, rfl⟩ := q49
      refine mw_tov (b := ovr sg [(0, 3), (22, day), (25, 0), (28, N19)] [(23, f19), (24, r19), (26, fA19), (27, rA19)]) (ovr_ovr _ _ _ _ _) ?_
      refine j_if_eq 57 dX2_chain_52 (by decide) ⟨by decide, by decide⟩ (fun c => absurd c (by decide)) (fun _ => ?_)
      refine j_iconst dX2_chain_55 ?_
      subst hQ; exact j_iret dX2_chain_56 rfl (⟨_, rfl, (hT.ovr (fa1 (mf0 (v := 3) ⟨by first | decide | omega | (split <;> omega) | assumption, by first | decide | omega | (split <;> omega) | assumption⟩) (fa1 (mf22 (v := day) ⟨by first | decide | omega | (split <;> omega) | assumption, by first | decide | omega | (split <;> omega) | assumption⟩) (fa1 (mf25 (v := 0) ⟨by first | decide | omega | (split <;> omega) | assumption, by first | decide | omega | (split <;> omega) | assumption⟩) (fa1 (mf28 (v := N19) ⟨by first | decide | omega | (split <;> omega) | assumption, by first | decide | omega | (split <;> omega) | assumption⟩) fa0)))) (fa1 x19 (fa1 y19 (fa1 z19 (fa1 w19 fa0))))), Or.inr ⟨e0, _, hEA, Or.inl ⟨by unfold minL rwF; omega, rfl, Scr.ovr sg rfl rfl⟩⟩⟩)
  · refine j_iconst dX2_chain_12 ?_
    subst hQ; exact j_iret dX2_chain_13 rfl (⟨_, rfl, hT.ovr (fa1 (mf0 (v := askT (sg.1 1) fr to day mi) hB) fa0) fa0, Or.inl ⟨by omega, Scr.ovr sg rfl rfl, rfl⟩⟩)
