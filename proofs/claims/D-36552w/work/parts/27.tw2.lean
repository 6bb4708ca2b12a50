/-! the twin: lateness, runs, labels -/
/-- the place of a lateness, the last one of the first k that is of this day and trip; -1 for none -/
def latAt (ld lt : Int → Int) (day trip : Int) : Nat → Int
  | 0 => -1
  | k + 1 => if ld (k : Int) = day ∧ lt (k : Int) = trip then (k : Int) else latAt ld lt day trip k
theorem latAt_s {ld lt : Int → Int} {day trip k : Int} (hk : 0 ≤ k) : latAt ld lt day trip (k + 1).toNat = if ld k = day ∧ lt k = trip then k else latAt ld lt day trip k.toNat := by
  have e : (k + 1).toNat = k.toNat + 1 := by omega
  rw [e]; show (if ld (k.toNat : Int) = day ∧ lt (k.toNat : Int) = trip then (k.toNat : Int) else _) = _
  rw [show (k.toNat : Int) = k by omega]
theorem latAt_b {ld lt : Int → Int} {day trip : Int} (k : Nat) : -1 ≤ latAt ld lt day trip k ∧ latAt ld lt day trip k < k := by
  induction k with
  | zero => unfold latAt; omega
  | succ k ih => unfold latAt; split <;> omega
theorem c_lateAt (K : KT) (d : Nat) (h : MH) (m : Nat) (sg : TS) (day trip : Int) (hT : TB sg) (hv : In day) (hc : In trip) : Mt K yiX2_lateAt d [.ref m, vi day, vi trip] (tov K h m sg) (Rz fun r h' => h' = tov K h m sg ∧ r = latAt (sg.2 15) (sg.2 16) day trip (sg.1 14).toNat) := by
  have := hv.1; have := hv.2; have := hc.1; have := hc.2
  refine mt_ofQ (by decide) (Nat.le_of_ble_eq_true rfl) (fun Q hQ => ?_)
  show MW K yiX2_lateAt d (tov K h m (ovr sg [] [])) 0 [some (.ref m), some (vi day), some (vi trip), none, none] [] Q
  have f14 := of14 (hT.1 14)
  refine j_iconst dX2_lateAt_0 ?_
  refine j_istore_n [some (.ref m), some (vi day), some (vi trip), some (vi (-1)), none] dX2_lateAt_1 (by decide) rfl rfl ?_
  refine j_iconst dX2_lateAt_2 ?_
  refine j_istore [some (.ref m), some (vi day), some (vi trip), some (vi (-1)), some (vi 0)] dX2_lateAt_3 (by decide) rfl rfl ?_
  have L5 : ∀ (N : Nat) (a k : Int), (sg.1 14 - k).toNat = N → (0 ≤ k ∧ k ≤ sg.1 14) → (a = latAt (sg.2 15) (sg.2 16) day trip k.toNat) → MW K yiX2_lateAt d (tov K h m (ovr sg [] [])) 5 [some (.ref m), some (vi day), some (vi trip), some (vi a), some (vi k)] [] Q := by
    intro N
    induction N using Nat.strongRecOn with
    | _ N ih5 =>
    intro a k hN5 hk ha
    refine j_iload dX2_lateAt_5 rfl ?_
    refine m_aload_n dX2_lateAt_7 rfl ?_
    refine t_geti 14 (by decide) (sg.1 14) dX2_lateAt_8 q3107 rfl ?_
    refine j_icmp_ge 49 dX2_lateAt_11 (by decide) ⟨⟨by omega, by omega⟩, ⟨by omega, by omega⟩⟩ (fun c11 => ?_) (fun c11 => ?_)
    · refine j_iload_n dX2_lateAt_49 rfl ?_
      subst hQ; exact j_iret dX2_lateAt_50 rfl (⟨rfl, by rw [ha, show k = sg.1 14 by omega]⟩)
    · refine m_aload_n dX2_lateAt_14 rfl ?_
      refine t_geta 15 10 (by decide) dX2_lateAt_15 q3108 rfl ?_
      refine j_iload dX2_lateAt_18 rfl ?_
      refine t_aldB 10 (by decide) (n := 12) (sg.2 15) dX2_lateAt_20 rfl (Nat.le_of_ble_eq_true rfl) (oa15 (hT.2 15)) ⟨by omega, by omega⟩ (fun b20 => ?_)
      refine j_iload_n dX2_lateAt_21 rfl ?_
      refine j_icmp_ne 41 dX2_lateAt_22 (by decide) ⟨⟨by omega, by omega⟩, ⟨by omega, by omega⟩⟩ (fun c22 => ?_) (fun c22 => ?_)
      · refine j_iload_n dX2_lateAt_41 rfl ?_
        refine j_istore_n [some (.ref m), some (vi day), some (vi trip), some (vi a), some (vi k)] dX2_lateAt_42 (by decide) rfl rfl ?_
        refine j_iinc [some (.ref m), some (vi day), some (vi trip), some (vi a), some (vi (k + 1))] dX2_lateAt_43 rfl (by decide) rfl rfl ?_
        refine m_goto 5 dX2_lateAt_46 (by decide) ?_
        exact ih5 _ (by omega) _ _ rfl (by omega) (by rw [latAt_s hk.1]; first | rw [if_pos (by omega)] | rw [if_neg (by omega), ha])
      · refine m_aload_n dX2_lateAt_25 rfl ?_
        refine t_geta 16 11 (by decide) dX2_lateAt_26 q3109 rfl ?_
        refine j_iload dX2_lateAt_29 rfl ?_
        refine t_aldB 11 (by decide) (n := 12) (sg.2 16) dX2_lateAt_31 rfl (Nat.le_of_ble_eq_true rfl) (oa16 (hT.2 16)) ⟨by omega, by omega⟩ (fun b31 => ?_)
        refine j_iload_n dX2_lateAt_32 rfl ?_
        refine j_icmp_ne 41 dX2_lateAt_33 (by decide) ⟨⟨by omega, by omega⟩, ⟨by omega, by omega⟩⟩ (fun c33 => ?_) (fun c33 => ?_)
        · refine j_iload_n dX2_lateAt_41 rfl ?_
          refine j_istore_n [some (.ref m), some (vi day), some (vi trip), some (vi a), some (vi k)] dX2_lateAt_42 (by decide) rfl rfl ?_
          refine j_iinc [some (.ref m), some (vi day), some (vi trip), some (vi a), some (vi (k + 1))] dX2_lateAt_43 rfl (by decide) rfl rfl ?_
          refine m_goto 5 dX2_lateAt_46 (by decide) ?_
          exact ih5 _ (by omega) _ _ rfl (by omega) (by rw [latAt_s hk.1]; first | rw [if_pos (by omega)] | rw [if_neg (by omega), ha])
        · refine j_iload dX2_lateAt_36 rfl ?_
          refine m_goto 42 dX2_lateAt_38 (by decide) ?_
          refine j_istore_n [some (.ref m), some (vi day), some (vi trip), some (vi k), some (vi k)] dX2_lateAt_42 (by decide) rfl rfl ?_
          refine j_iinc [some (.ref m), some (vi day), some (vi trip), some (vi k), some (vi (k + 1))] dX2_lateAt_43 rfl (by decide) rfl rfl ?_
          refine m_goto 5 dX2_lateAt_46 (by decide) ?_
          exact ih5 _ (by omega) _ _ rfl (by omega) (by rw [latAt_s hk.1]; first | rw [if_pos (by omega)] | rw [if_neg (by omega), ha])
  exact L5 _ _ _ rfl (by omega) rfl
def latOf (sg : TS) (day trip call : Int) : Int := if latAt (sg.2 15) (sg.2 16) day trip (sg.1 14).toNat = -1 ∨ call < sg.2 17 (latAt (sg.2 15) (sg.2 16) day trip (sg.1 14).toNat) then 0 else sg.2 18 (latAt (sg.2 15) (sg.2 16) day trip (sg.1 14).toNat)
theorem latOf_b {sg : TS} (hT : TB sg) (day trip call : Int) : 0 ≤ latOf sg day trip call ∧ latOf sg day trip call ≤ 120 := by
  have b := latAt_b (ld := sg.2 15) (lt := sg.2 16) (day := day) (trip := trip) (sg.1 14).toNat
  have f := of14 (hT.1 14)
  unfold latOf
  split
  · omega
  · exact oa18 (hT.2 18) _ (by omega) (by omega)
theorem c_lateOf (K : KT) (d : Nat) (h : MH) (m : Nat) (sg : TS) (day trip call : Int) (hd : 1 ≤ d) (hT : TB sg) (hv : In day) (hc : In trip) (hl : In call) : Mt K yiX2_lateOf d [.ref m, vi day, vi trip, vi call] (tov K h m sg) (Rz fun r h' => h' = tov K h m sg ∧ r = latOf sg day trip call) := by
  have := hv.1; have := hv.2; have := hc.1; have := hc.2; have := hl.1; have := hl.2
  have b := latAt_b (ld := sg.2 15) (lt := sg.2 16) (day := day) (trip := trip) (sg.1 14).toNat
  have f14 := of14 (hT.1 14)
  refine mt_ofQ (by decide) (Nat.le_of_ble_eq_true rfl) (fun Q hQ => ?_)
  show MW K yiX2_lateOf d (tov K h m (ovr sg [] [])) 0 [some (.ref m), some (vi day), some (vi trip), some (vi call), none] [] Q
  refine m_aload_n dX2_lateOf_0 rfl ?_
  refine j_iload_n dX2_lateOf_1 rfl ?_
  refine j_iload_n dX2_lateOf_2 rfl ?_
  refine t_inv [(vi day), (vi trip)] dX2_lateOf_3 q3393 q3395 qs89 q3396 rfl (c_lateAt K 0 h m _ _ _ hT ⟨by omega, by omega⟩ ⟨by omega, by omega⟩) pdX2_lateAt ⟨Nat.le_of_ble_eq_true rfl, by decide, by omega⟩ (kk_z fun r3 h3 q3 => ?_) kx_z
  obtain ⟨rfl, rfl⟩ := q3
  refine mw_top (x' := latAt (sg.2 15) (sg.2 16) day trip (sg.1 14).toNat) rfl ?_
  refine j_istore [some (.ref m), some (vi day), some (vi trip), some (vi call), some (vi (latAt (sg.2 15) (sg.2 16) day trip (sg.1 14).toNat))] dX2_lateOf_6 (by decide) rfl rfl ?_
  refine j_iload dX2_lateOf_8 rfl ?_
  refine j_iconst dX2_lateOf_10 ?_
  refine j_icmp_eq 25 dX2_lateOf_11 (by decide) ⟨⟨by omega, by omega⟩, ⟨by omega, by omega⟩⟩ (fun c11 => ?_) (fun c11 => ?_)
  · refine j_iconst dX2_lateOf_25 ?_
    refine m_goto 36 dX2_lateOf_26 (by decide) ?_
    subst hQ; exact j_iret dX2_lateOf_36 rfl (⟨rfl, by unfold latOf; first | rw [if_pos (by omega)] | (rw [if_neg (by omega)]; rfl) | rw [if_neg (by omega)]⟩)
  · refine j_iload_n dX2_lateOf_14 rfl ?_
    refine m_aload_n dX2_lateOf_15 rfl ?_
    refine t_geta 17 12 (by decide) dX2_lateOf_16 q3110 rfl ?_
    refine j_iload dX2_lateOf_19 rfl ?_
    refine t_aldB 12 (by decide) (n := 12) (sg.2 17) dX2_lateOf_21 rfl (Nat.le_of_ble_eq_true rfl) (oa17 (hT.2 17)) ⟨by omega, by omega⟩ (fun b21 => ?_)
    refine j_icmp_ge 29 dX2_lateOf_22 (by decide) ⟨⟨by omega, by omega⟩, ⟨by omega, by omega⟩⟩ (fun c22 => ?_) (fun c22 => ?_)
    · refine m_aload_n dX2_lateOf_29 rfl ?_
      refine t_geta 18 13 (by decide) dX2_lateOf_30 q3111 rfl ?_
      refine j_iload dX2_lateOf_33 rfl ?_
      refine t_aldB 13 (by decide) (n := 12) (sg.2 18) dX2_lateOf_35 rfl (Nat.le_of_ble_eq_true rfl) (oa18 (hT.2 18)) ⟨by omega, by omega⟩ (fun b35 => ?_)
      subst hQ; exact j_iret dX2_lateOf_36 rfl (⟨rfl, by unfold latOf; first | rw [if_pos (by omega)] | (rw [if_neg (by omega)]; rfl) | rw [if_neg (by omega)]⟩)
    · refine j_iconst dX2_lateOf_25 ?_
      refine m_goto 36 dX2_lateOf_26 (by decide) ?_
      subst hQ; exact j_iret dX2_lateOf_36 rfl (⟨rfl, by unfold latOf; first | rw [if_pos (by omega)] | (rw [if_neg (by omega)]; rfl) | rw [if_neg (by omega)]⟩)
abbrev isRunP (sg : TS) (r : Int) : Prop := r % 24 < sg.1 8 ∧ (0 ≤ sg.1 22 + r / 24 - 1 ∧ sg.1 22 + r / 24 - 1 ≤ 27) ∧ sg.2 7 (28 * sg.2 9 (r % 24) + (sg.1 22 + r / 24 - 1)) ≠ 0
def stI (sg : TS) (r c : Int) : Int := sg.2 11 (8 * (r % 24) + c)
def lvI (sg : TS) (r c : Int) : Int := sg.2 13 (8 * (r % 24) + c) + 1440 * (r / 24 - 1) + latOf sg (sg.1 22 + (r / 24 - 1)) (r % 24) c
def cmI (sg : TS) (r c : Int) : Int := sg.2 12 (8 * (r % 24) + c) + 1440 * (r / 24 - 1) + (if c = 0 then 0 else latOf sg (sg.1 22 + (r / 24 - 1)) (r % 24) (c - 1))
theorem stI_b {sg : TS} (hT : TB sg) {r c : Int} (hr : 0 ≤ r ∧ r < 72) (hc : 0 ≤ c ∧ c < 8) : 0 ≤ stI sg r c ∧ stI sg r c ≤ 11 := oa11 (hT.2 11) _ (by omega) (by omega)
theorem lvI_b {sg : TS} (hT : TB sg) {r c : Int} (hr : 0 ≤ r ∧ r < 72) (hc : 0 ≤ c ∧ c < 8) : -1440 ≤ lvI sg r c ∧ lvI sg r c ≤ 4500 := by
  have h1 := oa13 (hT.2 13) (8 * (r % 24) + c) (by omega) (by omega)
  have h2 := latOf_b hT (sg.1 22 + (r / 24 - 1)) (r % 24) c
  unfold lvI; omega
theorem cmI_b {sg : TS} (hT : TB sg) {r c : Int} (hr : 0 ≤ r ∧ r < 72) (hc : 0 ≤ c ∧ c < 8) : -1440 ≤ cmI sg r c ∧ cmI sg r c ≤ 4500 := by
  have h1 := oa12 (hT.2 12) (8 * (r % 24) + c) (by omega) (by omega)
  have h2 := latOf_b hT (sg.1 22 + (r / 24 - 1)) (r % 24) (c - 1)
  unfold cmI; split <;> omega
theorem c_isRun (K : KT) (d : Nat) (h : MH) (m : Nat) (sg : TS) (r : Int) (hd : 1 ≤ d) (hT : TB sg) (hr : 0 ≤ r ∧ r < 72) : Mt K yiX2_isRun d [.ref m, vi r] (tov K h m sg) (Rz fun v h' => h' = tov K h m sg ∧ v = bz (isRunP sg r)) := by
  have f9 := oa9 (hT.2 9) (r % 24)
  refine mt_ofQ (by decide) (Nat.le_of_ble_eq_true rfl) (fun Q hQ => ?_)
  show MW K yiX2_isRun d (tov K h m (ovr sg [] [])) 0 [some (.ref m), some (vi r), none, none] [] Q
  have f8 := of8 (hT.1 8)
  have f22 := of22 (hT.1 22)
  refine m_aload_n dX2_isRun_0 rfl ?_
  refine t_geti 22 (by decide) (sg.1 22) dX2_isRun_1 q3115 rfl ?_
  refine j_iload_n dX2_isRun_4 rfl ?_
  refine j_bipush dX2_isRun_5 (by decide) ?_
  refine j_idiv dX2_isRun_7 ⟨⟨by omega, by omega⟩, ⟨by omega, by omega⟩⟩ ⟨by omega, by omega⟩ ?_
  refine j_iadd dX2_isRun_8 ?_
  refine j_iconst dX2_isRun_9 ?_
  refine j_isub dX2_isRun_10 ?_
  refine j_istore_n [some (.ref m), some (vi r), some (vi (((sg.1 22) + (r / 24)) - 1)), none] dX2_isRun_11 (by decide) rfl rfl ?_
  refine j_iload_n dX2_isRun_12 rfl ?_
  refine j_bipush dX2_isRun_13 (by decide) ?_
  refine j_irem dX2_isRun_15 ⟨⟨by omega, by omega⟩, ⟨by omega, by omega⟩⟩ ⟨by omega, by omega⟩ ?_
  refine j_istore_n [some (.ref m), some (vi r), some (vi (((sg.1 22) + (r / 24)) - 1)), some (vi (r % 24))] dX2_isRun_16 (by decide) rfl rfl ?_
  refine j_iload_n dX2_isRun_17 rfl ?_
  refine m_aload_n dX2_isRun_18 rfl ?_
  refine t_geti 8 (by decide) (sg.1 8) dX2_isRun_19 q3101 rfl ?_
  refine j_icmp_ge 58 dX2_isRun_22 (by decide) ⟨⟨by omega, by omega⟩, ⟨by omega, by omega⟩⟩ (fun c22 => ?_) (fun c22 => ?_)
  · refine j_iconst dX2_isRun_58 ?_
    subst hQ; exact j_zret dX2_isRun_59 rfl (by omega) (⟨rfl, by first | exact bz_t (by unfold isRunP; omega) | exact bz_f (by unfold isRunP; omega)⟩)
  · refine j_iload_n dX2_isRun_25 rfl ?_
    refine j_iconst dX2_isRun_26 ?_
    refine j_bipush dX2_isRun_27 (by decide) ?_
    refine m_invS [(vi (((sg.1 22) + (r / 24)) - 1)), (vi 0), (vi 27)] dX2_isRun_29 q3253 q3254 q133 q3255 (c_isIn K 0 _ _ _ _ ⟨by omega, by omega⟩ ⟨by omega, by omega⟩ ⟨by omega, by omega⟩) pdX2_isIn ⟨Nat.le_of_ble_eq_true rfl, by decide, by omega⟩ (kk_z fun r29 h29 q29 => ?_) kx_z
    obtain ⟨rfl, rfl⟩ := q29
    refine mw_top (x' := bz (0 ≤ (((sg.1 22) + (r / 24)) - 1) ∧ (((sg.1 22) + (r / 24)) - 1) ≤ 27)) rfl ?_
    refine j_bz_eq 58 dX2_isRun_32 (by decide) (fun c32 => ?_) (fun c32 => ?_)
    · refine j_iconst dX2_isRun_58 ?_
      subst hQ; exact j_zret dX2_isRun_59 rfl (by omega) (⟨rfl, by first | exact bz_t (by unfold isRunP; omega) | exact bz_f (by unfold isRunP; omega)⟩)
    · refine m_aload_n dX2_isRun_35 rfl ?_
      refine t_geta 7 4 (by decide) dX2_isRun_36 q3100 rfl ?_
      refine j_bipush dX2_isRun_39 (by decide) ?_
      refine m_aload_n dX2_isRun_41 rfl ?_
      refine t_geta 9 5 (by decide) dX2_isRun_42 q3102 rfl ?_
      refine j_iload_n dX2_isRun_45 rfl ?_
      refine t_aldB 5 (by decide) (n := 24) (sg.2 9) dX2_isRun_46 rfl (Nat.le_of_ble_eq_true rfl) (oa9 (hT.2 9)) ⟨by omega, by omega⟩ (fun b46 => ?_)
      refine j_imul dX2_isRun_47 ?_
      refine j_iload_n dX2_isRun_48 rfl ?_
      refine j_iadd dX2_isRun_49 ?_
      refine t_zldB (sg.2 7) dX2_isRun_50 rfl (oa7 (hT.2 7)) ⟨by omega, by omega⟩ (fun b50 => ?_)
      refine j_if_eq 58 dX2_isRun_51 (by decide) ⟨by omega, by omega⟩ (fun c51 => ?_) (fun c51 => ?_)
      · refine j_iconst dX2_isRun_58 ?_
        subst hQ; exact j_zret dX2_isRun_59 rfl (by omega) (⟨rfl, by first | exact bz_t (by unfold isRunP; omega) | exact bz_f (by unfold isRunP; omega)⟩)
      · refine j_iconst dX2_isRun_54 ?_
        refine m_goto 59 dX2_isRun_55 (by decide) ?_
        subst hQ; exact j_zret dX2_isRun_59 rfl (by omega) (⟨rfl, by first | exact bz_t (by unfold isRunP; omega) | exact bz_f (by unfold isRunP; omega)⟩)
theorem c_stopIn (K : KT) (d : Nat) (h : MH) (m : Nat) (sg : TS) (r c : Int) (hT : TB sg) (hr : 0 ≤ r ∧ r < 72) (hc : 0 ≤ c ∧ c < 8) : Mt K yiX2_stopIn d [.ref m, vi r, vi c] (tov K h m sg) (Rz fun v h' => h' = tov K h m sg ∧ v = stI sg r c) := by
  refine mt_ofQ (by decide) (Nat.le_of_ble_eq_true rfl) (fun Q hQ => ?_)
  show MW K yiX2_stopIn d (tov K h m (ovr sg [] [])) 0 [some (.ref m), some (vi r), some (vi c)] [] Q
  refine m_aload_n dX2_stopIn_0 rfl ?_
  refine t_geta 11 7 (by decide) dX2_stopIn_1 q3104 rfl ?_
  refine j_bipush dX2_stopIn_4 (by decide) ?_
  refine j_iload_n dX2_stopIn_6 rfl ?_
  refine j_bipush dX2_stopIn_7 (by decide) ?_
  refine j_irem dX2_stopIn_9 ⟨⟨by omega, by omega⟩, ⟨by omega, by omega⟩⟩ ⟨by omega, by omega⟩ ?_
  refine j_imul dX2_stopIn_10 ?_
  refine j_iload_n dX2_stopIn_11 rfl ?_
  refine j_iadd dX2_stopIn_12 ?_
  refine t_aldB 7 (by decide) (n := 192) (sg.2 11) dX2_stopIn_13 rfl (Nat.le_of_ble_eq_true rfl) (oa11 (hT.2 11)) ⟨by omega, by omega⟩ (fun b13 => ?_)
  subst hQ; exact j_iret dX2_stopIn_14 rfl (⟨rfl, rfl⟩)
theorem c_leavesAt (K : KT) (d : Nat) (h : MH) (m : Nat) (sg : TS) (r c : Int) (hd : 2 ≤ d) (hT : TB sg) (hr : 0 ≤ r ∧ r < 72) (hc : 0 ≤ c ∧ c < 8) : Mt K yiX2_leavesAt d [.ref m, vi r, vi c] (tov K h m sg) (Rz fun v h' => h' = tov K h m sg ∧ v = lvI sg r c) := by
  refine mt_ofQ (by decide) (Nat.le_of_ble_eq_true rfl) (fun Q hQ => ?_)
  show MW K yiX2_leavesAt d (tov K h m (ovr sg [] [])) 0 [some (.ref m), some (vi r), some (vi c), none, none] [] Q
  have f22 := of22 (hT.1 22)
  refine j_iload_n dX2_leavesAt_0 rfl ?_
  refine j_bipush dX2_leavesAt_1 (by decide) ?_
  refine j_irem dX2_leavesAt_3 ⟨⟨by omega, by omega⟩, ⟨by omega, by omega⟩⟩ ⟨by omega, by omega⟩ ?_
  refine j_istore_n [some (.ref m), some (vi r), some (vi c), some (vi (r % 24)), none] dX2_leavesAt_4 (by decide) rfl rfl ?_
  refine j_iload_n dX2_leavesAt_5 rfl ?_
  refine j_bipush dX2_leavesAt_6 (by decide) ?_
  refine j_idiv dX2_leavesAt_8 ⟨⟨by omega, by omega⟩, ⟨by omega, by omega⟩⟩ ⟨by omega, by omega⟩ ?_
  refine j_iconst dX2_leavesAt_9 ?_
  refine j_isub dX2_leavesAt_10 ?_
  refine j_istore [some (.ref m), some (vi r), some (vi c), some (vi (r % 24)), some (vi ((r / 24) - 1))] dX2_leavesAt_11 (by decide) rfl rfl ?_
  refine m_aload_n dX2_leavesAt_13 rfl ?_
  refine t_geta 13 9 (by decide) dX2_leavesAt_14 q3106 rfl ?_
  refine j_bipush dX2_leavesAt_17 (by decide) ?_
  refine j_iload_n dX2_leavesAt_19 rfl ?_
  refine j_imul dX2_leavesAt_20 ?_
  refine j_iload_n dX2_leavesAt_21 rfl ?_
  refine j_iadd dX2_leavesAt_22 ?_
  refine t_aldB 9 (by decide) (n := 192) (sg.2 13) dX2_leavesAt_23 rfl (Nat.le_of_ble_eq_true rfl) (oa13 (hT.2 13)) ⟨by omega, by omega⟩ (fun b23 => ?_)
  refine j_sipush dX2_leavesAt_24 (by decide) ?_
  refine j_iload dX2_leavesAt_27 rfl ?_
  refine j_imul dX2_leavesAt_29 ?_
  refine j_iadd dX2_leavesAt_30 ?_
  refine m_aload_n dX2_leavesAt_31 rfl ?_
  refine m_aload_n dX2_leavesAt_32 rfl ?_
  refine t_geti 22 (by decide) (sg.1 22) dX2_leavesAt_33 q3115 rfl ?_
  refine j_iload dX2_leavesAt_36 rfl ?_
  refine j_iadd dX2_leavesAt_38 ?_
  refine j_iload_n dX2_leavesAt_39 rfl ?_
  refine j_iload_n dX2_leavesAt_40 rfl ?_
  refine t_inv [(vi ((sg.1 22) + ((r / 24) - 1))), (vi (r % 24)), (vi c)] dX2_leavesAt_41 q3401 q3403 qs90 q3404 rfl (c_lateOf K 1 h m _ _ _ _ (by omega) hT ⟨by omega, by omega⟩ ⟨by omega, by omega⟩ ⟨by omega, by omega⟩) pdX2_lateOf ⟨Nat.le_of_ble_eq_true rfl, by decide, by omega⟩ (kk_z fun r41 h41 q41 => ?_) kx_z
  obtain ⟨rfl, rfl⟩ := q41
  refine mw_top (x' := latOf sg ((sg.1 22) + ((r / 24) - 1)) (r % 24) c) rfl ?_
  refine j_iadd dX2_leavesAt_44 ?_
  subst hQ; exact j_iret dX2_leavesAt_45 rfl (⟨rfl, rfl⟩)
theorem c_comesAt (K : KT) (d : Nat) (h : MH) (m : Nat) (sg : TS) (r c : Int) (hd : 2 ≤ d) (hT : TB sg) (hr : 0 ≤ r ∧ r < 72) (hc : 0 ≤ c ∧ c < 8) : Mt K yiX2_comesAt d [.ref m, vi r, vi c] (tov K h m sg) (Rz fun v h' => h' = tov K h m sg ∧ v = cmI sg r c) := by
  refine mt_ofQ (by decide) (Nat.le_of_ble_eq_true rfl) (fun Q hQ => ?_)
  show MW K yiX2_comesAt d (tov K h m (ovr sg [] [])) 0 [some (.ref m), some (vi r), some (vi c), none, none] [] Q
  have f22 := of22 (hT.1 22)
  refine j_iload_n dX2_comesAt_0 rfl ?_
  refine j_bipush dX2_comesAt_1 (by decide) ?_
  refine j_irem dX2_comesAt_3 ⟨⟨by omega, by omega⟩, ⟨by omega, by omega⟩⟩ ⟨by omega, by omega⟩ ?_
  refine j_istore_n [some (.ref m), some (vi r), some (vi c), some (vi (r % 24)), none] dX2_comesAt_4 (by decide) rfl rfl ?_
  refine j_iload_n dX2_comesAt_5 rfl ?_
  refine j_bipush dX2_comesAt_6 (by decide) ?_
  refine j_idiv dX2_comesAt_8 ⟨⟨by omega, by omega⟩, ⟨by omega, by omega⟩⟩ ⟨by omega, by omega⟩ ?_
  refine j_iconst dX2_comesAt_9 ?_
  refine j_isub dX2_comesAt_10 ?_
  refine j_istore [some (.ref m), some (vi r), some (vi c), some (vi (r % 24)), some (vi ((r / 24) - 1))] dX2_comesAt_11 (by decide) rfl rfl ?_
  refine m_aload_n dX2_comesAt_13 rfl ?_
  refine t_geta 12 8 (by decide) dX2_comesAt_14 q3105 rfl ?_
  refine j_bipush dX2_comesAt_17 (by decide) ?_
  refine j_iload_n dX2_comesAt_19 rfl ?_
  refine j_imul dX2_comesAt_20 ?_
  refine j_iload_n dX2_comesAt_21 rfl ?_
  refine j_iadd dX2_comesAt_22 ?_
  refine t_aldB 8 (by decide) (n := 192) (sg.2 12) dX2_comesAt_23 rfl (Nat.le_of_ble_eq_true rfl) (oa12 (hT.2 12)) ⟨by omega, by omega⟩ (fun b23 => ?_)
  refine j_sipush dX2_comesAt_24 (by decide) ?_
  refine j_iload dX2_comesAt_27 rfl ?_
  refine j_imul dX2_comesAt_29 ?_
  refine j_iadd dX2_comesAt_30 ?_
  refine j_iload_n dX2_comesAt_31 rfl ?_
  refine j_if_ne 39 dX2_comesAt_32 (by decide) ⟨by omega, by omega⟩ (fun c32 => ?_) (fun c32 => ?_)
  · refine m_aload_n dX2_comesAt_39 rfl ?_
    refine m_aload_n dX2_comesAt_40 rfl ?_
    refine t_geti 22 (by decide) (sg.1 22) dX2_comesAt_41 q3115 rfl ?_
    refine j_iload dX2_comesAt_44 rfl ?_
    refine j_iadd dX2_comesAt_46 ?_
    refine j_iload_n dX2_comesAt_47 rfl ?_
    refine j_iload_n dX2_comesAt_48 rfl ?_
    refine j_iconst dX2_comesAt_49 ?_
    refine j_isub dX2_comesAt_50 ?_
    refine t_inv [(vi ((sg.1 22) + ((r / 24) - 1))), (vi (r % 24)), (vi (c - 1))] dX2_comesAt_51 q3401 q3403 qs90 q3404 rfl (c_lateOf K 1 h m _ _ _ _ (by omega) hT ⟨by omega, by omega⟩ ⟨by omega, by omega⟩ ⟨by omega, by omega⟩) pdX2_lateOf ⟨Nat.le_of_ble_eq_true rfl, by decide, by omega⟩ (kk_z fun r51 h51 q51 => ?_) kx_z
    obtain ⟨rfl, rfl⟩ := q51
    refine mw_top (x' := latOf sg ((sg.1 22) + ((r / 24) - 1)) (r % 24) (c - 1)) rfl ?_
    refine j_iadd dX2_comesAt_54 ?_
    subst hQ; exact j_iret dX2_comesAt_55 rfl (⟨rfl, by unfold cmI; first | rw [if_pos (by omega)] | rw [if_neg (by omega)]⟩)
  · refine j_iconst dX2_comesAt_35 ?_
    refine m_goto 54 dX2_comesAt_36 (by decide) ?_
    refine j_iadd dX2_comesAt_54 ?_
    subst hQ; exact j_iret dX2_comesAt_55 rfl (⟨rfl, by unfold cmI; first | rw [if_pos (by omega)] | rw [if_neg (by omega)]⟩)
