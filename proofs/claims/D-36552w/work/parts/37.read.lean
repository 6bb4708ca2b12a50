/-! the twin: a row read -/
def tdM (st rm : Int) : Int := if 26 < rm then rm else if st = 4 then rm else if st = 2 ∨ st = 3 then rm + 2 else rm + 1
def tdR (st nb rm : Int) (row : Int → Int) : Int → Int := if 26 < rm then row else if st = 4 then upz row (rm - 1) nb else if st = 2 ∨ st = 3 then upz (upz row rm nb) (rm + 1) nb else upz row rm nb
theorem td_1 {st nb rm : Int} {row : Int → Int} (h : 26 < rm) : rm = tdM st rm ∧ row = tdR st nb rm row := by
  unfold tdM tdR; rw [if_pos h, if_pos h]; exact ⟨rfl, rfl⟩
theorem td_2 {st nb rm : Int} {row : Int → Int} (h : ¬ 26 < rm) (h4 : st = 4) : rm = tdM st rm ∧ upz row (rm - 1) nb = tdR st nb rm row := by
  unfold tdM tdR; rw [if_neg h, if_neg h, if_pos h4, if_pos h4]; exact ⟨rfl, rfl⟩
theorem td_3 {st nb rm : Int} {row : Int → Int} (h : ¬ 26 < rm) (h4 : ¬ st = 4) (h2 : st = 2 ∨ st = 3) : rm + 1 + 1 = tdM st rm ∧ upz (upz row rm nb) (rm + 1) nb = tdR st nb rm row := by
  unfold tdM tdR; rw [if_neg h, if_neg h, if_neg h4, if_neg h4, if_pos h2, if_pos h2]; exact ⟨by omega, rfl⟩
theorem td_4 {st nb rm : Int} {row : Int → Int} (h : ¬ 26 < rm) (h4 : ¬ st = 4) (h2 : ¬ (st = 2 ∨ st = 3)) : rm + 1 = tdM st rm ∧ upz row rm nb = tdR st nb rm row := by
  unfold tdM tdR; rw [if_neg h, if_neg h, if_neg h4, if_neg h4, if_neg h2, if_neg h2]; exact ⟨rfl, rfl⟩
theorem ok44_td {st nb rm : Int} {row : Int → Int} (h : okA 44 row) (hn : 0 ≤ nb ∧ nb ≤ 9999) : okA 44 (tdR st nb rm row) := by
  unfold tdR
  (repeat' split)
  · exact h
  · exact mu44 h hn
  · exact mu44 (mu44 h hn) hn
  · exact mu44 h hn
theorem c_told (K : KT) (d : Nat) (h : MH) (m : Nat) (sg : TS) (st nb rm : Int) (row : Int → Int) (hT : TB sg) (hs : 0 ≤ st ∧ st ≤ 4) (hn : 0 ≤ nb ∧ nb ≤ 9999) (hr : 0 ≤ rm ∧ rm ≤ 28) (h4 : st = 4 → 1 ≤ rm) : Mt K yiX2_told d [.ref m, vi st, vi nb] (tov K h m (ovr sg [(45, rm)] [(44, row)])) (Rv fun h' => h' = tov K h m (ovr sg [(45, tdM st rm)] [(44, tdR st nb rm row)])) := by
  refine mt_ofQ (by decide) (Nat.le_of_ble_eq_true rfl) (fun Q hQ => ?_)
  show MW K yiX2_told d (tov K h m (ovr sg [(45, rm)] [(44, row)])) 0 [some (.ref m), some (vi st), some (vi nb)] [] Q
  have f45 := of45 (hT.1 45)
  refine m_aload_n dX2_told_0 rfl ?_
  refine t_geti 45 (by decide) rm dX2_told_1 q3138 rfl ?_
  refine j_bipush dX2_told_4 (by decide) ?_
  refine j_icmp_le 10 dX2_told_6 (by decide) ⟨⟨by omega, by omega⟩, ⟨by omega, by omega⟩⟩ (fun c6 => ?_) (fun c6 => ?_)
  · refine j_iload_n dX2_told_10 rfl ?_
    refine j_iconst dX2_told_11 ?_
    refine j_icmp_ne 28 dX2_told_12 (by decide) ⟨⟨by omega, by omega⟩, ⟨by omega, by omega⟩⟩ (fun c12 => ?_) (fun c12 => ?_)
    · refine m_aload_n dX2_told_28 rfl ?_
      refine t_geta 44 31 (by decide) dX2_told_29 q3137 rfl ?_
      refine m_aload_n dX2_told_32 rfl ?_
      refine t_geti 45 (by decide) rm dX2_told_33 q3138 rfl ?_
      refine j_iload_n dX2_told_36 rfl ?_
      refine t_ast 31 (by decide) (n := 32) row [(44, (upz row rm nb))] dX2_told_37 rfl (Nat.le_of_ble_eq_true rfl) ⟨by omega, by omega⟩ rfl rfl ?_
      refine m_aload_n dX2_told_38 rfl ?_
      refine m_dup dX2_told_39 rfl ?_
      refine t_geti 45 (by decide) rm dX2_told_40 q3138 rfl ?_
      refine j_iconst dX2_told_43 ?_
      refine j_iadd dX2_told_44 ?_
      refine t_puti 45 (by decide) [(45, (rm + 1))] dX2_told_45 q3138 rfl rfl rfl rfl ?_
      refine j_iload_n dX2_told_48 rfl ?_
      refine j_iconst dX2_told_49 ?_
      refine j_icmp_eq 58 dX2_told_50 (by decide) ⟨⟨by omega, by omega⟩, ⟨by omega, by omega⟩⟩ (fun c50 => ?_) (fun c50 => ?_)
      · refine m_aload_n dX2_told_58 rfl ?_
        refine t_geta 44 31 (by decide) dX2_told_59 q3137 rfl ?_
        refine m_aload_n dX2_told_62 rfl ?_
        refine t_geti 45 (by decide) (rm + 1) dX2_told_63 q3138 rfl ?_
        refine j_iload_n dX2_told_66 rfl ?_
        refine t_ast 31 (by decide) (n := 32) (upz row rm nb) [(44, (upz (upz row rm nb) (rm + 1) nb))] dX2_told_67 rfl (Nat.le_of_ble_eq_true rfl) ⟨by omega, by omega⟩ rfl rfl ?_
        refine m_aload_n dX2_told_68 rfl ?_
        refine m_dup dX2_told_69 rfl ?_
        refine t_geti 45 (by decide) (rm + 1) dX2_told_70 q3138 rfl ?_
        refine j_iconst dX2_told_73 ?_
        refine j_iadd dX2_told_74 ?_
        refine t_puti 45 (by decide) [(45, ((rm + 1) + 1))] dX2_told_75 q3138 rfl rfl rfl rfl ?_
        subst hQ; exact j_vret dX2_told_78 rfl (by first | (have e := td_1 (st := st) (nb := nb) (rm := rm) (row := row) (by omega); rw [← e.1, ← e.2]; done) | (have e := td_2 (st := st) (nb := nb) (rm := rm) (row := row) (by omega) (by omega); rw [← e.1, ← e.2]; done) | (have e := td_3 (st := st) (nb := nb) (rm := rm) (row := row) (by omega) (by omega) (by omega); rw [← e.1, ← e.2]; done) | (have e := td_4 (st := st) (nb := nb) (rm := rm) (row := row) (by omega) (by omega) (by omega); rw [← e.1, ← e.2]; done))
      · refine j_iload_n dX2_told_53 rfl ?_
        refine j_iconst dX2_told_54 ?_
        refine j_icmp_ne 78 dX2_told_55 (by decide) ⟨⟨by omega, by omega⟩, ⟨by omega, by omega⟩⟩ (fun c55 => ?_) (fun c55 => ?_)
        · subst hQ; exact j_vret dX2_told_78 rfl (by first | (have e := td_1 (st := st) (nb := nb) (rm := rm) (row := row) (by omega); rw [← e.1, ← e.2]; done) | (have e := td_2 (st := st) (nb := nb) (rm := rm) (row := row) (by omega) (by omega); rw [← e.1, ← e.2]; done) | (have e := td_3 (st := st) (nb := nb) (rm := rm) (row := row) (by omega) (by omega) (by omega); rw [← e.1, ← e.2]; done) | (have e := td_4 (st := st) (nb := nb) (rm := rm) (row := row) (by omega) (by omega) (by omega); rw [← e.1, ← e.2]; done))
        · refine m_aload_n dX2_told_58 rfl ?_
          refine t_geta 44 31 (by decide) dX2_told_59 q3137 rfl ?_
          refine m_aload_n dX2_told_62 rfl ?_
          refine t_geti 45 (by decide) (rm + 1) dX2_told_63 q3138 rfl ?_
          refine j_iload_n dX2_told_66 rfl ?_
          refine t_ast 31 (by decide) (n := 32) (upz row rm nb) [(44, (upz (upz row rm nb) (rm + 1) nb))] dX2_told_67 rfl (Nat.le_of_ble_eq_true rfl) ⟨by omega, by omega⟩ rfl rfl ?_
          refine m_aload_n dX2_told_68 rfl ?_
          refine m_dup dX2_told_69 rfl ?_
          refine t_geti 45 (by decide) (rm + 1) dX2_told_70 q3138 rfl ?_
          refine j_iconst dX2_told_73 ?_
          refine j_iadd dX2_told_74 ?_
          refine t_puti 45 (by decide) [(45, ((rm + 1) + 1))] dX2_told_75 q3138 rfl rfl rfl rfl ?_
          subst hQ; exact j_vret dX2_told_78 rfl (by first | (have e := td_1 (st := st) (nb := nb) (rm := rm) (row := row) (by omega); rw [← e.1, ← e.2]; done) | (have e := td_2 (st := st) (nb := nb) (rm := rm) (row := row) (by omega) (by omega); rw [← e.1, ← e.2]; done) | (have e := td_3 (st := st) (nb := nb) (rm := rm) (row := row) (by omega) (by omega) (by omega); rw [← e.1, ← e.2]; done) | (have e := td_4 (st := st) (nb := nb) (rm := rm) (row := row) (by omega) (by omega) (by omega); rw [← e.1, ← e.2]; done))
    · refine m_aload_n dX2_told_15 rfl ?_
      refine t_geta 44 31 (by decide) dX2_told_16 q3137 rfl ?_
      refine m_aload_n dX2_told_19 rfl ?_
      refine t_geti 45 (by decide) rm dX2_told_20 q3138 rfl ?_
      refine j_iconst dX2_told_23 ?_
      refine j_isub dX2_told_24 ?_
      refine j_iload_n dX2_told_25 rfl ?_
      refine t_ast 31 (by decide) (n := 32) row [(44, (upz row (rm - 1) nb))] dX2_told_26 rfl (Nat.le_of_ble_eq_true rfl) ⟨by omega, by omega⟩ rfl rfl ?_
      subst hQ; exact j_vret dX2_told_27 rfl (by first | (have e := td_1 (st := st) (nb := nb) (rm := rm) (row := row) (by omega); rw [← e.1, ← e.2]; done) | (have e := td_2 (st := st) (nb := nb) (rm := rm) (row := row) (by omega) (by omega); rw [← e.1, ← e.2]; done) | (have e := td_3 (st := st) (nb := nb) (rm := rm) (row := row) (by omega) (by omega) (by omega); rw [← e.1, ← e.2]; done) | (have e := td_4 (st := st) (nb := nb) (rm := rm) (row := row) (by omega) (by omega) (by omega); rw [← e.1, ← e.2]; done))
  · subst hQ; exact j_vret dX2_told_9 rfl (by first | (have e := td_1 (st := st) (nb := nb) (rm := rm) (row := row) (by omega); rw [← e.1, ← e.2]; done) | (have e := td_2 (st := st) (nb := nb) (rm := rm) (row := row) (by omega) (by omega); rw [← e.1, ← e.2]; done) | (have e := td_3 (st := st) (nb := nb) (rm := rm) (row := row) (by omega) (by omega) (by omega); rw [← e.1, ← e.2]; done) | (have e := td_4 (st := st) (nb := nb) (rm := rm) (row := row) (by omega) (by omega) (by omega); rw [← e.1, ← e.2]; done))
abbrev RS : Type := Int × Int × Int × Int × (Int → Int)
/-- the state behind one sign more -/
def rdS (x : Int) (s : RS) : Option RS := if (48 ≤ x ∧ x ≤ 57) ∧ s.2.1 < 4 then some (s.1, s.2.1 + 1, 10 * s.2.2.1 + x - 48, s.2.2.2.1, s.2.2.2.2) else if 0 < s.2.1 ∧ ((x = 58 ∧ s.1 = 0) ∨ (x = 64 ∧ s.1 = 1) ∨ (x = 44 ∧ 2 ≤ s.1) ∨ (x = 45 ∧ s.1 = 3)) then some ((if x = 58 then 1 else if x = 64 then (if tdM s.1 s.2.2.2.1 = 2 then 2 else 3) else if x = 44 then 1 else 4), 0, 0, tdM s.1 s.2.2.2.1, tdR s.1 s.2.2.1 s.2.2.2.1 s.2.2.2.2) else none
def rdI (ty row : Int → Int) : Nat → Option RS
  | 0 => some (0, 0, 0, 0, row)
  | k + 1 => (rdI ty row k).bind (rdS (ty (k : Int)))
theorem rdI_s {ty row : Int → Int} {k : Int} (hk : 0 ≤ k) : rdI ty row (k + 1).toNat = (rdI ty row k.toNat).bind (rdS (ty k)) := by
  have e : (k + 1).toNat = k.toNat + 1 := by omega
  rw [e]; show (rdI ty row k.toNat).bind (rdS (ty (k.toNat : Int))) = _
  rw [show (k.toNat : Int) = k by omega]
theorem rdS_d {x st dg nb rm : Int} {row : Int → Int} (h : (48 ≤ x ∧ x ≤ 57) ∧ dg < 4) : rdS x (st, dg, nb, rm, row) = some (st, dg + 1, 10 * nb + x - 48, rm, row) := if_pos h
theorem rdS_g {x st dg nb rm st' : Int} {row : Int → Int} (h1 : ¬ ((48 ≤ x ∧ x ≤ 57) ∧ dg < 4)) (h2 : 0 < dg ∧ ((x = 58 ∧ st = 0) ∨ (x = 64 ∧ st = 1) ∨ (x = 44 ∧ 2 ≤ st) ∨ (x = 45 ∧ st = 3))) (h3 : st' = (if x = 58 then 1 else if x = 64 then (if tdM st rm = 2 then 2 else 3) else if x = 44 then 1 else 4)) : rdS x (st, dg, nb, rm, row) = some (st', 0, 0, tdM st rm, tdR st nb rm row) := by
  unfold rdS
  rw [if_neg h1, if_pos h2, h3]
theorem rdS_n {x st dg nb rm : Int} {row : Int → Int} (h1 : ¬ ((48 ≤ x ∧ x ≤ 57) ∧ dg < 4)) (h2 : ¬ (0 < dg ∧ ((x = 58 ∧ st = 0) ∨ (x = 64 ∧ st = 1) ∨ (x = 44 ∧ 2 ≤ st) ∨ (x = 45 ∧ st = 3)))) : rdS x (st, dg, nb, rm, row) = none := by
  unfold rdS
  rw [if_neg h1, if_neg h2]
/-- bounds of a state -/
def rdB (st dg nb rm : Int) : Prop := (0 ≤ st ∧ st ≤ 4) ∧ (0 ≤ dg ∧ dg ≤ 4) ∧ (0 ≤ nb ∧ nb ≤ 9999) ∧ ((dg = 0 → nb = 0) ∧ (dg = 1 → nb ≤ 9) ∧ (dg = 2 → nb ≤ 99) ∧ (dg = 3 → nb ≤ 999)) ∧ (0 ≤ rm ∧ rm ≤ 28) ∧ (rm = 28 ∨ (st = 0 ∧ rm = 0) ∨ (st = 1 ∧ rm % 3 = 1 ∧ rm ≤ 25) ∨ (st = 2 ∧ rm = 2) ∨ (st = 3 ∧ rm % 3 = 2 ∧ 5 ≤ rm ∧ rm ≤ 26) ∨ (st = 4 ∧ rm % 3 = 1 ∧ 7 ≤ rm ∧ rm ≤ 25))
theorem rdB_d {st dg nb rm x : Int} (h : rdB st dg nb rm) (h1 : (48 ≤ x ∧ x ≤ 57) ∧ dg < 4) : rdB st (dg + 1) (10 * nb + x - 48) rm := by
  unfold rdB at h ⊢; omega
theorem rdB_g {st dg nb rm x st' : Int} (h : rdB st dg nb rm) (h2 : 0 < dg ∧ ((x = 58 ∧ st = 0) ∨ (x = 64 ∧ st = 1) ∨ (x = 44 ∧ 2 ≤ st) ∨ (x = 45 ∧ st = 3))) (h3 : st' = (if x = 58 then 1 else if x = 64 then (if tdM st rm = 2 then 2 else 3) else if x = 44 then 1 else 4)) : rdB st' 0 0 (tdM st rm) := by
  unfold rdB at h ⊢
  unfold tdM at h3 ⊢
  (repeat' split at h3) <;> (repeat' split) <;> omega
theorem rdB_t {st dg nb rm : Int} (h : rdB st dg nb rm) (h2 : 2 ≤ st) : tdM st rm = 28 ∨ (tdM st rm % 3 = 1 ∧ 4 ≤ tdM st rm ∧ tdM st rm ≤ 28) := by
  unfold rdB at h
  unfold tdM
  (repeat' split) <;> omega
/-- what reading tells: a place, or -1 and the row's numbers -/
def rdOut (sg : TS) (v rm' : Int) (row' : Int → Int) : Prop := (0 ≤ v ∧ v < sg.1 19 ∧ ∃ s, rdI (sg.2 20) (sg.2 44) v.toNat = some s ∧ rdS (sg.2 20 v) s = none) ∨ (v = sg.1 19 ∧ ∃ st dg nb rm row, rdI (sg.2 20) (sg.2 44) (sg.1 19).toNat = some (st, dg, nb, rm, row) ∧ (dg = 0 ∨ st < 2)) ∨ (v = -1 ∧ ∃ st dg nb rm row, rdI (sg.2 20) (sg.2 44) (sg.1 19).toNat = some (st, dg, nb, rm, row) ∧ rdB st dg nb rm ∧ dg ≠ 0 ∧ 2 ≤ st ∧ rm' = tdM st rm ∧ row' = tdR st nb rm row)
theorem c_read (K : KT) (d : Nat) (h : MH) (m : Nat) (sg : TS) (hd : 1 ≤ d) (hT : TB sg) : Mt K yiX2_read d [.ref m] (tov K h m sg) (Rz fun v h' => ∃ rm' row', h' = tov K h m (ovr sg [(45, rm')] [(44, row')]) ∧ (0 ≤ rm' ∧ rm' ≤ 28) ∧ okA 44 row' ∧ (-1 ≤ v ∧ v ≤ 80) ∧ rdOut sg v rm' row') := by
  refine mt_ofQ (by decide) (Nat.le_of_ble_eq_true rfl) (fun Q hQ => ?_)
  show MW K yiX2_read d (tov K h m (ovr sg [] [])) 0 [some (.ref m), none, none, none, none, none, none] [] Q
  have f19 := of19 (hT.1 19)
  have f45 := of45 (hT.1 45)
  refine j_iconst dX2_read_0 ?_
  refine j_istore_n [some (.ref m), some (vi 0), none, none, none, none, none] dX2_read_1 (by decide) rfl rfl ?_
  refine j_iconst dX2_read_2 ?_
  refine j_istore_n [some (.ref m), some (vi 0), some (vi 0), none, none, none, none] dX2_read_3 (by decide) rfl rfl ?_
  refine j_iconst dX2_read_4 ?_
  refine j_istore_n [some (.ref m), some (vi 0), some (vi 0), some (vi 0), none, none, none] dX2_read_5 (by decide) rfl rfl ?_
  refine m_aload_n dX2_read_6 rfl ?_
  refine j_iconst dX2_read_7 ?_
  refine t_puti 45 (by decide) [(45, 0)] dX2_read_8 q3138 rfl rfl rfl rfl ?_
  refine j_iconst dX2_read_11 ?_
  refine j_istore [some (.ref m), some (vi 0), some (vi 0), some (vi 0), some (vi 0), none, none] dX2_read_12 (by decide) rfl rfl ?_
  have L14 : ∀ (N : Nat) (st dg nb k rm : Int) (row : Int → Int), (sg.1 19 - k).toNat = N → (0 ≤ k ∧ k ≤ sg.1 19) → (rdI (sg.2 20) (sg.2 44) k.toNat = some (st, dg, nb, rm, row)) → (rdB st dg nb rm) → (okA 44 row) → MW K yiX2_read d (tov K h m (ovr sg [(45, rm)] [(44, row)])) 14 [some (.ref m), some (vi st), some (vi dg), some (vi nb), some (vi k), none, none] [] Q := by
    intro N
    induction N using Nat.strongRecOn with
    | _ N ih14 =>
    intro st dg nb k rm row hN14 hk hR hB ho
    have hB2 := hB
    unfold rdB at hB2
    refine j_iload dX2_read_14 rfl ?_
    refine m_aload_n dX2_read_16 rfl ?_
    refine t_geti 19 (by decide) (sg.1 19) dX2_read_17 q3112 rfl ?_
    refine j_icmp_ge 195 dX2_read_20 (by decide) ⟨⟨by omega, by omega⟩, ⟨by omega, by omega⟩⟩ (fun c20 => ?_) (fun c20 => ?_)
    · refine j_iload_n dX2_read_195 rfl ?_
      refine j_if_eq 204 dX2_read_196 (by decide) ⟨by omega, by omega⟩ (fun c196 => ?_) (fun c196 => ?_)
      · refine m_aload_n dX2_read_204 rfl ?_
        refine t_geti 19 (by decide) (sg.1 19) dX2_read_205 q3112 rfl ?_
        subst hQ; exact j_iret dX2_read_208 rfl (⟨rm, row, rfl, ⟨by omega, by omega⟩, ho, ⟨by omega, by omega⟩, Or.inr (Or.inl ⟨rfl, st, dg, nb, rm, row, by rw [show sg.1 19 = k by omega]; exact hR, by omega⟩)⟩)
      · refine j_iload_n dX2_read_199 rfl ?_
        refine j_iconst dX2_read_200 ?_
        refine j_icmp_ge 209 dX2_read_201 (by decide) ⟨⟨by omega, by omega⟩, ⟨by omega, by omega⟩⟩ (fun c201 => ?_) (fun c201 => ?_)
        · refine m_aload_n dX2_read_209 rfl ?_
          refine j_iload_n dX2_read_210 rfl ?_
          refine j_iload_n dX2_read_211 rfl ?_
          refine t_inv [(vi st), (vi nb)] dX2_read_212 q3377 q3379 qs87 q3380 rfl (c_told K 0 h m sg _ _ rm row hT ⟨by omega, by omega⟩ ⟨by omega, by omega⟩ ⟨by omega, by omega⟩ (fun _ => by omega)) pdX2_told ⟨Nat.le_of_ble_eq_true rfl, by decide, by omega⟩ (kk_v fun h212 q212 => ?_) kx_v
          obtain rfl := q212
          refine j_iconst dX2_read_215 ?_
          subst hQ; exact j_iret dX2_read_216 rfl (⟨_, _, rfl, by { unfold tdM; (repeat' split) <;> omega }, ok44_td ho (by omega), ⟨by omega, by omega⟩, Or.inr (Or.inr ⟨rfl, st, dg, nb, rm, row, by rw [show sg.1 19 = k by omega]; exact hR, hB, by omega, by omega, rfl, rfl⟩)⟩)
        · refine m_aload_n dX2_read_204 rfl ?_
          refine t_geti 19 (by decide) (sg.1 19) dX2_read_205 q3112 rfl ?_
          subst hQ; exact j_iret dX2_read_208 rfl (⟨rm, row, rfl, ⟨by omega, by omega⟩, ho, ⟨by omega, by omega⟩, Or.inr (Or.inl ⟨rfl, st, dg, nb, rm, row, by rw [show sg.1 19 = k by omega]; exact hR, by omega⟩)⟩)
    · refine m_aload_n dX2_read_23 rfl ?_
      refine t_geta 20 14 (by decide) dX2_read_24 q3113 rfl ?_
      refine j_iload dX2_read_27 rfl ?_
      refine t_aldB 14 (by decide) (n := 80) (sg.2 20) dX2_read_29 rfl (Nat.le_of_ble_eq_true rfl) (oa20 (hT.2 20)) ⟨by omega, by omega⟩ (fun b29 => ?_)
      refine j_istore [some (.ref m), some (vi st), some (vi dg), some (vi nb), some (vi k), some (vi ((sg.2 20) k)), none] dX2_read_30 (by decide) rfl rfl ?_
      refine j_iload dX2_read_32 rfl ?_
      refine j_bipush dX2_read_34 (by decide) ?_
      refine j_bipush dX2_read_36 (by decide) ?_
      refine m_invS [(vi ((sg.2 20) k)), (vi 48), (vi 57)] dX2_read_38 q3253 q3254 q133 q3255 (c_isIn K 0 _ _ _ _ ⟨by omega, by omega⟩ ⟨by omega, by omega⟩ ⟨by omega, by omega⟩) pdX2_isIn ⟨Nat.le_of_ble_eq_true rfl, by decide, by omega⟩ (kk_z fun r38 h38 q38 => ?_) kx_z
      obtain ⟨rfl, rfl⟩ := q38
      refine mw_top (x' := bz (48 ≤ ((sg.2 20) k) ∧ ((sg.2 20) k) ≤ 57)) rfl ?_
      refine j_bz_eq 66 dX2_read_41 (by decide) (fun c41 => ?_) (fun c41 => ?_)
      · refine j_iload_n dX2_read_66 rfl ?_
        refine j_if_le 121 dX2_read_67 (by decide) ⟨by omega, by omega⟩ (fun c67 => ?_) (fun c67 => ?_)
        · refine j_iconst dX2_read_121 ?_
          refine j_istore [some (.ref m), some (vi st), some (vi dg), some (vi nb), some (vi k), some (vi ((sg.2 20) k)), some (vi 0)] dX2_read_122 (by decide) rfl rfl ?_
          refine j_iload dX2_read_124 rfl ?_
          refine j_if_ne 132 dX2_read_126 (by decide) ⟨by decide, by decide⟩ (fun c => absurd c (by decide)) (fun _ => ?_)
          refine j_iload dX2_read_129 rfl ?_
          subst hQ; exact j_iret dX2_read_131 rfl (⟨rm, row, rfl, ⟨by omega, by omega⟩, ho, ⟨by omega, by omega⟩, Or.inl ⟨by omega, by omega, _, hR, rdS_n (by omega) (by omega)⟩⟩)
        · refine j_iload dX2_read_70 rfl ?_
          refine j_bipush dX2_read_72 (by decide) ?_
          refine j_icmp_ne 81 dX2_read_74 (by decide) ⟨⟨by omega, by omega⟩, ⟨by omega, by omega⟩⟩ (fun c74 => ?_) (fun c74 => ?_)
          · refine j_iload dX2_read_81 rfl ?_
            refine j_bipush dX2_read_83 (by decide) ?_
            refine j_icmp_ne 93 dX2_read_85 (by decide) ⟨⟨by omega, by omega⟩, ⟨by omega, by omega⟩⟩ (fun c85 => ?_) (fun c85 => ?_)
            · refine j_iload dX2_read_93 rfl ?_
              refine j_bipush dX2_read_95 (by decide) ?_
              refine j_icmp_ne 105 dX2_read_97 (by decide) ⟨⟨by omega, by omega⟩, ⟨by omega, by omega⟩⟩ (fun c97 => ?_) (fun c97 => ?_)
              · refine j_iload dX2_read_105 rfl ?_
                refine j_bipush dX2_read_107 (by decide) ?_
                refine j_icmp_ne 121 dX2_read_109 (by decide) ⟨⟨by omega, by omega⟩, ⟨by omega, by omega⟩⟩ (fun c109 => ?_) (fun c109 => ?_)
                · refine j_iconst dX2_read_121 ?_
                  refine j_istore [some (.ref m), some (vi st), some (vi dg), some (vi nb), some (vi k), some (vi ((sg.2 20) k)), some (vi 0)] dX2_read_122 (by decide) rfl rfl ?_
                  refine j_iload dX2_read_124 rfl ?_
                  refine j_if_ne 132 dX2_read_126 (by decide) ⟨by decide, by decide⟩ (fun c => absurd c (by decide)) (fun _ => ?_)
                  refine j_iload dX2_read_129 rfl ?_
                  subst hQ; exact j_iret dX2_read_131 rfl (⟨rm, row, rfl, ⟨by omega, by omega⟩, ho, ⟨by omega, by omega⟩, Or.inl ⟨by omega, by omega, _, hR, rdS_n (by omega) (by omega)⟩⟩)
                · refine j_iload_n dX2_read_112 rfl ?_
                  refine j_iconst dX2_read_113 ?_
                  refine j_icmp_ne 121 dX2_read_114 (by decide) ⟨⟨by omega, by omega⟩, ⟨by omega, by omega⟩⟩ (fun c114 => ?_) (fun c114 => ?_)
                  · refine j_iconst dX2_read_121 ?_
                    refine j_istore [some (.ref m), some (vi st), some (vi dg), some (vi nb), some (vi k), some (vi ((sg.2 20) k)), some (vi 0)] dX2_read_122 (by decide) rfl rfl ?_
                    refine j_iload dX2_read_124 rfl ?_
                    refine j_if_ne 132 dX2_read_126 (by decide) ⟨by decide, by decide⟩ (fun c => absurd c (by decide)) (fun _ => ?_)
                    refine j_iload dX2_read_129 rfl ?_
                    subst hQ; exact j_iret dX2_read_131 rfl (⟨rm, row, rfl, ⟨by omega, by omega⟩, ho, ⟨by omega, by omega⟩, Or.inl ⟨by omega, by omega, _, hR, rdS_n (by omega) (by omega)⟩⟩)
                  · refine j_iconst dX2_read_117 ?_
                    refine m_goto 122 dX2_read_118 (by decide) ?_
                    refine j_istore [some (.ref m), some (vi st), some (vi dg), some (vi nb), some (vi k), some (vi ((sg.2 20) k)), some (vi 1)] dX2_read_122 (by decide) rfl rfl ?_
                    refine j_iload dX2_read_124 rfl ?_
                    refine j_if_ne 132 dX2_read_126 (by decide) ⟨by decide, by decide⟩ (fun _ => ?_) (fun c => absurd c (by decide))
                    refine m_aload_n dX2_read_132 rfl ?_
                    refine j_iload_n dX2_read_133 rfl ?_
                    refine j_iload_n dX2_read_134 rfl ?_
                    refine t_inv [(vi st), (vi nb)] dX2_read_135 q3377 q3379 qs87 q3380 rfl (c_told K 0 h m sg _ _ rm row hT ⟨by omega, by omega⟩ ⟨by omega, by omega⟩ ⟨by omega, by omega⟩ (fun _ => by omega)) pdX2_told ⟨Nat.le_of_ble_eq_true rfl, by decide, by omega⟩ (kk_v fun h135 q135 => ?_) kx_v
                    obtain rfl := q135
                    have tmb : 0 ≤ tdM st rm ∧ tdM st rm ≤ 28 := by { unfold tdM; (repeat' split) <;> omega }
                    refine j_iload dX2_read_138 rfl ?_
                    refine j_bipush dX2_read_140 (by decide) ?_
                    refine j_icmp_ne 149 dX2_read_142 (by decide) ⟨⟨by omega, by omega⟩, ⟨by omega, by omega⟩⟩ (fun c142 => ?_) (fun c142 => False.elim (by omega))
                    refine j_iload dX2_read_149 rfl ?_
                    refine j_bipush dX2_read_151 (by decide) ?_
                    refine j_icmp_ne 172 dX2_read_153 (by decide) ⟨⟨by omega, by omega⟩, ⟨by omega, by omega⟩⟩ (fun c153 => ?_) (fun c153 => False.elim (by omega))
                    refine j_iload dX2_read_172 rfl ?_
                    refine j_bipush dX2_read_174 (by decide) ?_
                    refine j_icmp_ne 183 dX2_read_176 (by decide) ⟨⟨by omega, by omega⟩, ⟨by omega, by omega⟩⟩ (fun c176 => ?_) (fun c176 => False.elim (by omega))
                    refine j_iconst dX2_read_183 ?_
                    refine j_istore_n [some (.ref m), some (vi 4), some (vi dg), some (vi nb), some (vi k), some (vi ((sg.2 20) k)), some (vi 1)] dX2_read_184 (by decide) rfl rfl ?_
                    refine j_iconst dX2_read_185 ?_
                    refine j_istore_n [some (.ref m), some (vi 4), some (vi dg), some (vi 0), some (vi k), some (vi ((sg.2 20) k)), some (vi 1)] dX2_read_186 (by decide) rfl rfl ?_
                    refine j_iconst dX2_read_187 ?_
                    refine j_istore_n [some (.ref m), some (vi 4), some (vi 0), some (vi 0), some (vi k), some (vi ((sg.2 20) k)), some (vi 1)] dX2_read_188 (by decide) rfl rfl ?_
                    refine j_iinc [some (.ref m), some (vi 4), some (vi 0), some (vi 0), some (vi (k + 1)), some (vi ((sg.2 20) k)), some (vi 1)] dX2_read_189 rfl (by decide) rfl rfl ?_
                    refine m_goto 14 dX2_read_192 (by decide) ?_
                    refine mw_forget 5 ?_
                    refine mw_forget 6 ?_
                    exact ih14 _ (by omega) _ _ _ _ _ _ rfl (by omega) (by rw [rdI_s hk.1, hR]; first | exact rdS_d (by omega) | exact rdS_g (by omega) (by omega) (by (repeat' split) <;> omega)) (by first | exact rdB_d hB (by omega) | exact rdB_g hB (x := sg.2 20 k) (by omega) (by (repeat' split) <;> omega)) (by first | assumption | exact ok44_td ho (by omega))
              · refine j_iload_n dX2_read_100 rfl ?_
                refine j_iconst dX2_read_101 ?_
                refine j_icmp_ge 117 dX2_read_102 (by decide) ⟨⟨by omega, by omega⟩, ⟨by omega, by omega⟩⟩ (fun c102 => ?_) (fun c102 => ?_)
                · refine j_iconst dX2_read_117 ?_
                  refine m_goto 122 dX2_read_118 (by decide) ?_
                  refine j_istore [some (.ref m), some (vi st), some (vi dg), some (vi nb), some (vi k), some (vi ((sg.2 20) k)), some (vi 1)] dX2_read_122 (by decide) rfl rfl ?_
                  refine j_iload dX2_read_124 rfl ?_
                  refine j_if_ne 132 dX2_read_126 (by decide) ⟨by decide, by decide⟩ (fun _ => ?_) (fun c => absurd c (by decide))
                  refine m_aload_n dX2_read_132 rfl ?_
                  refine j_iload_n dX2_read_133 rfl ?_
                  refine j_iload_n dX2_read_134 rfl ?_
                  refine t_inv [(vi st), (vi nb)] dX2_read_135 q3377 q3379 qs87 q3380 rfl (c_told K 0 h m sg _ _ rm row hT ⟨by omega, by omega⟩ ⟨by omega, by omega⟩ ⟨by omega, by omega⟩ (fun _ => by omega)) pdX2_told ⟨Nat.le_of_ble_eq_true rfl, by decide, by omega⟩ (kk_v fun h135 q135 => ?_) kx_v
                  obtain rfl := q135
                  have tmb : 0 ≤ tdM st rm ∧ tdM st rm ≤ 28 := by { unfold tdM; (repeat' split) <;> omega }
                  refine j_iload dX2_read_138 rfl ?_
                  refine j_bipush dX2_read_140 (by decide) ?_
                  refine j_icmp_ne 149 dX2_read_142 (by decide) ⟨⟨by omega, by omega⟩, ⟨by omega, by omega⟩⟩ (fun c142 => ?_) (fun c142 => False.elim (by omega))
                  refine j_iload dX2_read_149 rfl ?_
                  refine j_bipush dX2_read_151 (by decide) ?_
                  refine j_icmp_ne 172 dX2_read_153 (by decide) ⟨⟨by omega, by omega⟩, ⟨by omega, by omega⟩⟩ (fun c153 => ?_) (fun c153 => False.elim (by omega))
                  refine j_iload dX2_read_172 rfl ?_
                  refine j_bipush dX2_read_174 (by decide) ?_
                  refine j_icmp_ne 183 dX2_read_176 (by decide) ⟨⟨by omega, by omega⟩, ⟨by omega, by omega⟩⟩ (fun c176 => False.elim (by omega)) (fun c176 => ?_)
                  refine j_iconst dX2_read_179 ?_
                  refine m_goto 184 dX2_read_180 (by decide) ?_
                  refine j_istore_n [some (.ref m), some (vi 1), some (vi dg), some (vi nb), some (vi k), some (vi ((sg.2 20) k)), some (vi 1)] dX2_read_184 (by decide) rfl rfl ?_
                  refine j_iconst dX2_read_185 ?_
                  refine j_istore_n [some (.ref m), some (vi 1), some (vi dg), some (vi 0), some (vi k), some (vi ((sg.2 20) k)), some (vi 1)] dX2_read_186 (by decide) rfl rfl ?_
                  refine j_iconst dX2_read_187 ?_
                  refine j_istore_n [some (.ref m), some (vi 1), some (vi 0), some (vi 0), some (vi k), some (vi ((sg.2 20) k)), some (vi 1)] dX2_read_188 (by decide) rfl rfl ?_
                  refine j_iinc [some (.ref m), some (vi 1), some (vi 0), some (vi 0), some (vi (k + 1)), some (vi ((sg.2 20) k)), some (vi 1)] dX2_read_189 rfl (by decide) rfl rfl ?_
                  refine m_goto 14 dX2_read_192 (by decide) ?_
                  refine mw_forget 5 ?_
                  refine mw_forget 6 ?_
                  exact ih14 _ (by omega) _ _ _ _ _ _ rfl (by omega) (by rw [rdI_s hk.1, hR]; first | exact rdS_d (by omega) | exact rdS_g (by omega) (by omega) (by (repeat' split) <;> omega)) (by first | exact rdB_d hB (by omega) | exact rdB_g hB (x := sg.2 20 k) (by omega) (by (repeat' split) <;> omega)) (by first | assumption | exact ok44_td ho (by omega))
                · refine j_iload dX2_read_105 rfl ?_
                  refine j_bipush dX2_read_107 (by decide) ?_
                  refine j_icmp_ne 121 dX2_read_109 (by decide) ⟨⟨by omega, by omega⟩, ⟨by omega, by omega⟩⟩ (fun c109 => ?_) (fun c109 => ?_)
                  · refine j_iconst dX2_read_121 ?_
                    refine j_istore [some (.ref m), some (vi st), some (vi dg), some (vi nb), some (vi k), some (vi ((sg.2 20) k)), some (vi 0)] dX2_read_122 (by decide) rfl rfl ?_
                    refine j_iload dX2_read_124 rfl ?_
                    refine j_if_ne 132 dX2_read_126 (by decide) ⟨by decide, by decide⟩ (fun c => absurd c (by decide)) (fun _ => ?_)
                    refine j_iload dX2_read_129 rfl ?_
                    subst hQ; exact j_iret dX2_read_131 rfl (⟨rm, row, rfl, ⟨by omega, by omega⟩, ho, ⟨by omega, by omega⟩, Or.inl ⟨by omega, by omega, _, hR, rdS_n (by omega) (by omega)⟩⟩)
                  · refine j_iload_n dX2_read_112 rfl ?_
                    refine j_iconst dX2_read_113 ?_
                    refine j_icmp_ne 121 dX2_read_114 (by decide) ⟨⟨by omega, by omega⟩, ⟨by omega, by omega⟩⟩ (fun c114 => ?_) (fun c114 => ?_)
                    · refine j_iconst dX2_read_121 ?_
                      refine j_istore [some (.ref m), some (vi st), some (vi dg), some (vi nb), some (vi k), some (vi ((sg.2 20) k)), some (vi 0)] dX2_read_122 (by decide) rfl rfl ?_
                      refine j_iload dX2_read_124 rfl ?_
                      refine j_if_ne 132 dX2_read_126 (by decide) ⟨by decide, by decide⟩ (fun c => absurd c (by decide)) (fun _ => ?_)
                      refine j_iload dX2_read_129 rfl ?_
                      subst hQ; exact j_iret dX2_read_131 rfl (⟨rm, row, rfl, ⟨by omega, by omega⟩, ho, ⟨by omega, by omega⟩, Or.inl ⟨by omega, by omega, _, hR, rdS_n (by omega) (by omega)⟩⟩)
                    · refine j_iconst dX2_read_117 ?_
                      refine m_goto 122 dX2_read_118 (by decide) ?_
                      refine j_istore [some (.ref m), some (vi st), some (vi dg), some (vi nb), some (vi k), some (vi ((sg.2 20) k)), some (vi 1)] dX2_read_122 (by decide) rfl rfl ?_
                      refine j_iload dX2_read_124 rfl ?_
                      refine j_if_ne 132 dX2_read_126 (by decide) ⟨by decide, by decide⟩ (fun _ => ?_) (fun c => absurd c (by decide))
                      refine m_aload_n dX2_read_132 rfl ?_
                      refine j_iload_n dX2_read_133 rfl ?_
                      refine j_iload_n dX2_read_134 rfl ?_
                      refine t_inv [(vi st), (vi nb)] dX2_read_135 q3377 q3379 qs87 q3380 rfl (c_told K 0 h m sg _ _ rm row hT ⟨by omega, by omega⟩ ⟨by omega, by omega⟩ ⟨by omega, by omega⟩ (fun _ => by omega)) pdX2_told ⟨Nat.le_of_ble_eq_true rfl, by decide, by omega⟩ (kk_v fun h135 q135 => ?_) kx_v
                      obtain rfl := q135
                      have tmb : 0 ≤ tdM st rm ∧ tdM st rm ≤ 28 := by { unfold tdM; (repeat' split) <;> omega }
                      refine j_iload dX2_read_138 rfl ?_
                      refine j_bipush dX2_read_140 (by decide) ?_
                      refine j_icmp_ne 149 dX2_read_142 (by decide) ⟨⟨by omega, by omega⟩, ⟨by omega, by omega⟩⟩ (fun c142 => ?_) (fun c142 => False.elim (by omega))
                      refine j_iload dX2_read_149 rfl ?_
                      refine j_bipush dX2_read_151 (by decide) ?_
                      refine j_icmp_ne 172 dX2_read_153 (by decide) ⟨⟨by omega, by omega⟩, ⟨by omega, by omega⟩⟩ (fun c153 => ?_) (fun c153 => False.elim (by omega))
                      refine j_iload dX2_read_172 rfl ?_
                      refine j_bipush dX2_read_174 (by decide) ?_
                      refine j_icmp_ne 183 dX2_read_176 (by decide) ⟨⟨by omega, by omega⟩, ⟨by omega, by omega⟩⟩ (fun c176 => False.elim (by omega)) (fun c176 => ?_)
                      refine j_iconst dX2_read_179 ?_
                      refine m_goto 184 dX2_read_180 (by decide) ?_
                      refine j_istore_n [some (.ref m), some (vi 1), some (vi dg), some (vi nb), some (vi k), some (vi ((sg.2 20) k)), some (vi 1)] dX2_read_184 (by decide) rfl rfl ?_
                      refine j_iconst dX2_read_185 ?_
                      refine j_istore_n [some (.ref m), some (vi 1), some (vi dg), some (vi 0), some (vi k), some (vi ((sg.2 20) k)), some (vi 1)] dX2_read_186 (by decide) rfl rfl ?_
                      refine j_iconst dX2_read_187 ?_
                      refine j_istore_n [some (.ref m), some (vi 1), some (vi 0), some (vi 0), some (vi k), some (vi ((sg.2 20) k)), some (vi 1)] dX2_read_188 (by decide) rfl rfl ?_
                      refine j_iinc [some (.ref m), some (vi 1), some (vi 0), some (vi 0), some (vi (k + 1)), some (vi ((sg.2 20) k)), some (vi 1)] dX2_read_189 rfl (by decide) rfl rfl ?_
                      refine m_goto 14 dX2_read_192 (by decide) ?_
                      refine mw_forget 5 ?_
                      refine mw_forget 6 ?_
                      exact ih14 _ (by omega) _ _ _ _ _ _ rfl (by omega) (by rw [rdI_s hk.1, hR]; first | exact rdS_d (by omega) | exact rdS_g (by omega) (by omega) (by (repeat' split) <;> omega)) (by first | exact rdB_d hB (by omega) | exact rdB_g hB (x := sg.2 20 k) (by omega) (by (repeat' split) <;> omega)) (by first | assumption | exact ok44_td ho (by omega))
            · refine j_iload_n dX2_read_88 rfl ?_
              refine j_iconst dX2_read_89 ?_
              refine j_icmp_eq 117 dX2_read_90 (by decide) ⟨⟨by omega, by omega⟩, ⟨by omega, by omega⟩⟩ (fun c90 => ?_) (fun c90 => ?_)
              · refine j_iconst dX2_read_117 ?_
                refine m_goto 122 dX2_read_118 (by decide) ?_
                refine j_istore [some (.ref m), some (vi st), some (vi dg), some (vi nb), some (vi k), some (vi ((sg.2 20) k)), some (vi 1)] dX2_read_122 (by decide) rfl rfl ?_
                refine j_iload dX2_read_124 rfl ?_
                refine j_if_ne 132 dX2_read_126 (by decide) ⟨by decide, by decide⟩ (fun _ => ?_) (fun c => absurd c (by decide))
                refine m_aload_n dX2_read_132 rfl ?_
                refine j_iload_n dX2_read_133 rfl ?_
                refine j_iload_n dX2_read_134 rfl ?_
                refine t_inv [(vi st), (vi nb)] dX2_read_135 q3377 q3379 qs87 q3380 rfl (c_told K 0 h m sg _ _ rm row hT ⟨by omega, by omega⟩ ⟨by omega, by omega⟩ ⟨by omega, by omega⟩ (fun _ => by omega)) pdX2_told ⟨Nat.le_of_ble_eq_true rfl, by decide, by omega⟩ (kk_v fun h135 q135 => ?_) kx_v
                obtain rfl := q135
                have tmb : 0 ≤ tdM st rm ∧ tdM st rm ≤ 28 := by { unfold tdM; (repeat' split) <;> omega }
                refine j_iload dX2_read_138 rfl ?_
                refine j_bipush dX2_read_140 (by decide) ?_
                refine j_icmp_ne 149 dX2_read_142 (by decide) ⟨⟨by omega, by omega⟩, ⟨by omega, by omega⟩⟩ (fun c142 => ?_) (fun c142 => False.elim (by omega))
                refine j_iload dX2_read_149 rfl ?_
                refine j_bipush dX2_read_151 (by decide) ?_
                refine j_icmp_ne 172 dX2_read_153 (by decide) ⟨⟨by omega, by omega⟩, ⟨by omega, by omega⟩⟩ (fun c153 => False.elim (by omega)) (fun c153 => ?_)
                refine m_aload_n dX2_read_156 rfl ?_
                refine t_geti 45 (by decide) (tdM st rm) dX2_read_157 q3138 rfl ?_
                refine j_iconst dX2_read_160 ?_
                refine j_icmp_ne 168 dX2_read_161 (by decide) ⟨⟨by omega, by omega⟩, ⟨by omega, by omega⟩⟩ (fun c161 => ?_) (fun c161 => ?_)
                · refine j_iconst dX2_read_168 ?_
                  refine m_goto 184 dX2_read_169 (by decide) ?_
                  refine j_istore_n [some (.ref m), some (vi 3), some (vi dg), some (vi nb), some (vi k), some (vi ((sg.2 20) k)), some (vi 1)] dX2_read_184 (by decide) rfl rfl ?_
                  refine j_iconst dX2_read_185 ?_
                  refine j_istore_n [some (.ref m), some (vi 3), some (vi dg), some (vi 0), some (vi k), some (vi ((sg.2 20) k)), some (vi 1)] dX2_read_186 (by decide) rfl rfl ?_
                  refine j_iconst dX2_read_187 ?_
                  refine j_istore_n [some (.ref m), some (vi 3), some (vi 0), some (vi 0), some (vi k), some (vi ((sg.2 20) k)), some (vi 1)] dX2_read_188 (by decide) rfl rfl ?_
                  refine j_iinc [some (.ref m), some (vi 3), some (vi 0), some (vi 0), some (vi (k + 1)), some (vi ((sg.2 20) k)), some (vi 1)] dX2_read_189 rfl (by decide) rfl rfl ?_
                  refine m_goto 14 dX2_read_192 (by decide) ?_
                  refine mw_forget 5 ?_
                  refine mw_forget 6 ?_
                  exact ih14 _ (by omega) _ _ _ _ _ _ rfl (by omega) (by rw [rdI_s hk.1, hR]; first | exact rdS_d (by omega) | exact rdS_g (by omega) (by omega) (by (repeat' split) <;> omega)) (by first | exact rdB_d hB (by omega) | exact rdB_g hB (x := sg.2 20 k) (by omega) (by (repeat' split) <;> omega)) (by first | assumption | exact ok44_td ho (by omega))
                · refine j_iconst dX2_read_164 ?_
                  refine m_goto 184 dX2_read_165 (by decide) ?_
                  refine j_istore_n [some (.ref m), some (vi 2), some (vi dg), some (vi nb), some (vi k), some (vi ((sg.2 20) k)), some (vi 1)] dX2_read_184 (by decide) rfl rfl ?_
                  refine j_iconst dX2_read_185 ?_
                  refine j_istore_n [some (.ref m), some (vi 2), some (vi dg), some (vi 0), some (vi k), some (vi ((sg.2 20) k)), some (vi 1)] dX2_read_186 (by decide) rfl rfl ?_
                  refine j_iconst dX2_read_187 ?_
                  refine j_istore_n [some (.ref m), some (vi 2), some (vi 0), some (vi 0), some (vi k), some (vi ((sg.2 20) k)), some (vi 1)] dX2_read_188 (by decide) rfl rfl ?_
                  refine j_iinc [some (.ref m), some (vi 2), some (vi 0), some (vi 0), some (vi (k + 1)), some (vi ((sg.2 20) k)), some (vi 1)] dX2_read_189 rfl (by decide) rfl rfl ?_
                  refine m_goto 14 dX2_read_192 (by decide) ?_
                  refine mw_forget 5 ?_
                  refine mw_forget 6 ?_
                  exact ih14 _ (by omega) _ _ _ _ _ _ rfl (by omega) (by rw [rdI_s hk.1, hR]; first | exact rdS_d (by omega) | exact rdS_g (by omega) (by omega) (by (repeat' split) <;> omega)) (by first | exact rdB_d hB (by omega) | exact rdB_g hB (x := sg.2 20 k) (by omega) (by (repeat' split) <;> omega)) (by first | assumption | exact ok44_td ho (by omega))
              · refine j_iload dX2_read_93 rfl ?_
                refine j_bipush dX2_read_95 (by decide) ?_
                refine j_icmp_ne 105 dX2_read_97 (by decide) ⟨⟨by omega, by omega⟩, ⟨by omega, by omega⟩⟩ (fun c97 => ?_) (fun c97 => ?_)
                · refine j_iload dX2_read_105 rfl ?_
                  refine j_bipush dX2_read_107 (by decide) ?_
                  refine j_icmp_ne 121 dX2_read_109 (by decide) ⟨⟨by omega, by omega⟩, ⟨by omega, by omega⟩⟩ (fun c109 => ?_) (fun c109 => ?_)
                  · refine j_iconst dX2_read_121 ?_
                    refine j_istore [some (.ref m), some (vi st), some (vi dg), some (vi nb), some (vi k), some (vi ((sg.2 20) k)), some (vi 0)] dX2_read_122 (by decide) rfl rfl ?_
                    refine j_iload dX2_read_124 rfl ?_
                    refine j_if_ne 132 dX2_read_126 (by decide) ⟨by decide, by decide⟩ (fun c => absurd c (by decide)) (fun _ => ?_)
                    refine j_iload dX2_read_129 rfl ?_
                    subst hQ; exact j_iret dX2_read_131 rfl (⟨rm, row, rfl, ⟨by omega, by omega⟩, ho, ⟨by omega, by omega⟩, Or.inl ⟨by omega, by omega, _, hR, rdS_n (by omega) (by omega)⟩⟩)
                  · refine j_iload_n dX2_read_112 rfl ?_
                    refine j_iconst dX2_read_113 ?_
                    refine j_icmp_ne 121 dX2_read_114 (by decide) ⟨⟨by omega, by omega⟩, ⟨by omega, by omega⟩⟩ (fun c114 => ?_) (fun c114 => ?_)
                    · refine j_iconst dX2_read_121 ?_
                      refine j_istore [some (.ref m), some (vi st), some (vi dg), some (vi nb), some (vi k), some (vi ((sg.2 20) k)), some (vi 0)] dX2_read_122 (by decide) rfl rfl ?_
                      refine j_iload dX2_read_124 rfl ?_
                      refine j_if_ne 132 dX2_read_126 (by decide) ⟨by decide, by decide⟩ (fun c => absurd c (by decide)) (fun _ => ?_)
                      refine j_iload dX2_read_129 rfl ?_
                      subst hQ; exact j_iret dX2_read_131 rfl (⟨rm, row, rfl, ⟨by omega, by omega⟩, ho, ⟨by omega, by omega⟩, Or.inl ⟨by omega, by omega, _, hR, rdS_n (by omega) (by omega)⟩⟩)
                    · refine j_iconst dX2_read_117 ?_
                      refine m_goto 122 dX2_read_118 (by decide) ?_
                      refine j_istore [some (.ref m), some (vi st), some (vi dg), some (vi nb), some (vi k), some (vi ((sg.2 20) k)), some (vi 1)] dX2_read_122 (by decide) rfl rfl ?_
                      refine j_iload dX2_read_124 rfl ?_
                      refine j_if_ne 132 dX2_read_126 (by decide) ⟨by decide, by decide⟩ (fun _ => ?_) (fun c => absurd c (by decide))
                      refine m_aload_n dX2_read_132 rfl ?_
                      refine j_iload_n dX2_read_133 rfl ?_
                      refine j_iload_n dX2_read_134 rfl ?_
                      refine t_inv [(vi st), (vi nb)] dX2_read_135 q3377 q3379 qs87 q3380 rfl (c_told K 0 h m sg _ _ rm row hT ⟨by omega, by omega⟩ ⟨by omega, by omega⟩ ⟨by omega, by omega⟩ (fun _ => by omega)) pdX2_told ⟨Nat.le_of_ble_eq_true rfl, by decide, by omega⟩ (kk_v fun h135 q135 => ?_) kx_v
                      obtain rfl := q135
                      have tmb : 0 ≤ tdM st rm ∧ tdM st rm ≤ 28 := by { unfold tdM; (repeat' split) <;> omega }
                      refine j_iload dX2_read_138 rfl ?_
                      refine j_bipush dX2_read_140 (by decide) ?_
                      refine j_icmp_ne 149 dX2_read_142 (by decide) ⟨⟨by omega, by omega⟩, ⟨by omega, by omega⟩⟩ (fun c142 => ?_) (fun c142 => False.elim (by omega))
                      refine j_iload dX2_read_149 rfl ?_
                      refine j_bipush dX2_read_151 (by decide) ?_
                      refine j_icmp_ne 172 dX2_read_153 (by decide) ⟨⟨by omega, by omega⟩, ⟨by omega, by omega⟩⟩ (fun c153 => False.elim (by omega)) (fun c153 => ?_)
                      refine m_aload_n dX2_read_156 rfl ?_
                      refine t_geti 45 (by decide) (tdM st rm) dX2_read_157 q3138 rfl ?_
                      refine j_iconst dX2_read_160 ?_
                      refine j_icmp_ne 168 dX2_read_161 (by decide) ⟨⟨by omega, by omega⟩, ⟨by omega, by omega⟩⟩ (fun c161 => ?_) (fun c161 => ?_)
                      · refine j_iconst dX2_read_168 ?_
                        refine m_goto 184 dX2_read_169 (by decide) ?_
                        refine j_istore_n [some (.ref m), some (vi 3), some (vi dg), some (vi nb), some (vi k), some (vi ((sg.2 20) k)), some (vi 1)] dX2_read_184 (by decide) rfl rfl ?_
                        refine j_iconst dX2_read_185 ?_
                        refine j_istore_n [some (.ref m), some (vi 3), some (vi dg), some (vi 0), some (vi k), some (vi ((sg.2 20) k)), some (vi 1)] dX2_read_186 (by decide) rfl rfl ?_
                        refine j_iconst dX2_read_187 ?_
                        refine j_istore_n [some (.ref m), some (vi 3), some (vi 0), some (vi 0), some (vi k), some (vi ((sg.2 20) k)), some (vi 1)] dX2_read_188 (by decide) rfl rfl ?_
                        refine j_iinc [some (.ref m), some (vi 3), some (vi 0), some (vi 0), some (vi (k + 1)), some (vi ((sg.2 20) k)), some (vi 1)] dX2_read_189 rfl (by decide) rfl rfl ?_
                        refine m_goto 14 dX2_read_192 (by decide) ?_
                        refine mw_forget 5 ?_
                        refine mw_forget 6 ?_
                        exact ih14 _ (by omega) _ _ _ _ _ _ rfl (by omega) (by rw [rdI_s hk.1, hR]; first | exact rdS_d (by omega) | exact rdS_g (by omega) (by omega) (by (repeat' split) <;> omega)) (by first | exact rdB_d hB (by omega) | exact rdB_g hB (x := sg.2 20 k) (by omega) (by (repeat' split) <;> omega)) (by first | assumption | exact ok44_td ho (by omega))
                      · refine j_iconst dX2_read_164 ?_
                        refine m_goto 184 dX2_read_165 (by decide) ?_
                        refine j_istore_n [some (.ref m), some (vi 2), some (vi dg), some (vi nb), some (vi k), some (vi ((sg.2 20) k)), some (vi 1)] dX2_read_184 (by decide) rfl rfl ?_
                        refine j_iconst dX2_read_185 ?_
                        refine j_istore_n [some (.ref m), some (vi 2), some (vi dg), some (vi 0), some (vi k), some (vi ((sg.2 20) k)), some (vi 1)] dX2_read_186 (by decide) rfl rfl ?_
                        refine j_iconst dX2_read_187 ?_
                        refine j_istore_n [some (.ref m), some (vi 2), some (vi 0), some (vi 0), some (vi k), some (vi ((sg.2 20) k)), some (vi 1)] dX2_read_188 (by decide) rfl rfl ?_
                        refine j_iinc [some (.ref m), some (vi 2), some (vi 0), some (vi 0), some (vi (k + 1)), some (vi ((sg.2 20) k)), some (vi 1)] dX2_read_189 rfl (by decide) rfl rfl ?_
                        refine m_goto 14 dX2_read_192 (by decide) ?_
                        refine mw_forget 5 ?_
                        refine mw_forget 6 ?_
                        exact ih14 _ (by omega) _ _ _ _ _ _ rfl (by omega) (by rw [rdI_s hk.1, hR]; first | exact rdS_d (by omega) | exact rdS_g (by omega) (by omega) (by (repeat' split) <;> omega)) (by first | exact rdB_d hB (by omega) | exact rdB_g hB (x := sg.2 20 k) (by omega) (by (repeat' split) <;> omega)) (by first | assumption | exact ok44_td ho (by omega))
                · refine j_iload_n dX2_read_100 rfl ?_
                  refine j_iconst dX2_read_101 ?_
                  refine j_icmp_ge 117 dX2_read_102 (by decide) ⟨⟨by omega, by omega⟩, ⟨by omega, by omega⟩⟩ (fun c102 => ?_) (fun c102 => ?_)
                  · refine j_iconst dX2_read_117 ?_
                    refine m_goto 122 dX2_read_118 (by decide) ?_
                    refine j_istore [some (.ref m), some (vi st), some (vi dg), some (vi nb), some (vi k), some (vi ((sg.2 20) k)), some (vi 1)] dX2_read_122 (by decide) rfl rfl ?_
                    refine j_iload dX2_read_124 rfl ?_
                    refine j_if_ne 132 dX2_read_126 (by decide) ⟨by decide, by decide⟩ (fun _ => ?_) (fun c => absurd c (by decide))
                    refine m_aload_n dX2_read_132 rfl ?_
                    refine j_iload_n dX2_read_133 rfl ?_
                    refine j_iload_n dX2_read_134 rfl ?_
                    refine t_inv [(vi st), (vi nb)] dX2_read_135 q3377 q3379 qs87 q3380 rfl (c_told K 0 h m sg _ _ rm row hT ⟨by omega, by omega⟩ ⟨by omega, by omega⟩ ⟨by omega, by omega⟩ (fun _ => by omega)) pdX2_told ⟨Nat.le_of_ble_eq_true rfl, by decide, by omega⟩ (kk_v fun h135 q135 => ?_) kx_v
                    obtain rfl := q135
                    have tmb : 0 ≤ tdM st rm ∧ tdM st rm ≤ 28 := by { unfold tdM; (repeat' split) <;> omega }
                    refine j_iload dX2_read_138 rfl ?_
                    refine j_bipush dX2_read_140 (by decide) ?_
                    refine j_icmp_ne 149 dX2_read_142 (by decide) ⟨⟨by omega, by omega⟩, ⟨by omega, by omega⟩⟩ (fun c142 => ?_) (fun c142 => False.elim (by omega))
                    refine j_iload dX2_read_149 rfl ?_
                    refine j_bipush dX2_read_151 (by decide) ?_
                    refine j_icmp_ne 172 dX2_read_153 (by decide) ⟨⟨by omega, by omega⟩, ⟨by omega, by omega⟩⟩ (fun c153 => False.elim (by omega)) (fun c153 => ?_)
                    refine m_aload_n dX2_read_156 rfl ?_
                    refine t_geti 45 (by decide) (tdM st rm) dX2_read_157 q3138 rfl ?_
                    refine j_iconst dX2_read_160 ?_
                    refine j_icmp_ne 168 dX2_read_161 (by decide) ⟨⟨by omega, by omega⟩, ⟨by omega, by omega⟩⟩ (fun c161 => ?_) (fun c161 => ?_)
                    · refine j_iconst dX2_read_168 ?_
                      refine m_goto 184 dX2_read_169 (by decide) ?_
                      refine j_istore_n [some (.ref m), some (vi 3), some (vi dg), some (vi nb), some (vi k), some (vi ((sg.2 20) k)), some (vi 1)] dX2_read_184 (by decide) rfl rfl ?_
                      refine j_iconst dX2_read_185 ?_
                      refine j_istore_n [some (.ref m), some (vi 3), some (vi dg), some (vi 0), some (vi k), some (vi ((sg.2 20) k)), some (vi 1)] dX2_read_186 (by decide) rfl rfl ?_
                      refine j_iconst dX2_read_187 ?_
                      refine j_istore_n [some (.ref m), some (vi 3), some (vi 0), some (vi 0), some (vi k), some (vi ((sg.2 20) k)), some (vi 1)] dX2_read_188 (by decide) rfl rfl ?_
                      refine j_iinc [some (.ref m), some (vi 3), some (vi 0), some (vi 0), some (vi (k + 1)), some (vi ((sg.2 20) k)), some (vi 1)] dX2_read_189 rfl (by decide) rfl rfl ?_
                      refine m_goto 14 dX2_read_192 (by decide) ?_
                      refine mw_forget 5 ?_
                      refine mw_forget 6 ?_
                      exact ih14 _ (by omega) _ _ _ _ _ _ rfl (by omega) (by rw [rdI_s hk.1, hR]; first | exact rdS_d (by omega) | exact rdS_g (by omega) (by omega) (by (repeat' split) <;> omega)) (by first | exact rdB_d hB (by omega) | exact rdB_g hB (x := sg.2 20 k) (by omega) (by (repeat' split) <;> omega)) (by first | assumption | exact ok44_td ho (by omega))
                    · refine j_iconst dX2_read_164 ?_
                      refine m_goto 184 dX2_read_165 (by decide) ?_
                      refine j_istore_n [some (.ref m), some (vi 2), some (vi dg), some (vi nb), some (vi k), some (vi ((sg.2 20) k)), some (vi 1)] dX2_read_184 (by decide) rfl rfl ?_
                      refine j_iconst dX2_read_185 ?_
                      refine j_istore_n [some (.ref m), some (vi 2), some (vi dg), some (vi 0), some (vi k), some (vi ((sg.2 20) k)), some (vi 1)] dX2_read_186 (by decide) rfl rfl ?_
                      refine j_iconst dX2_read_187 ?_
                      refine j_istore_n [some (.ref m), some (vi 2), some (vi 0), some (vi 0), some (vi k), some (vi ((sg.2 20) k)), some (vi 1)] dX2_read_188 (by decide) rfl rfl ?_
                      refine j_iinc [some (.ref m), some (vi 2), some (vi 0), some (vi 0), some (vi (k + 1)), some (vi ((sg.2 20) k)), some (vi 1)] dX2_read_189 rfl (by decide) rfl rfl ?_
                      refine m_goto 14 dX2_read_192 (by decide) ?_
                      refine mw_forget 5 ?_
                      refine mw_forget 6 ?_
                      exact ih14 _ (by omega) _ _ _ _ _ _ rfl (by omega) (by rw [rdI_s hk.1, hR]; first | exact rdS_d (by omega) | exact rdS_g (by omega) (by omega) (by (repeat' split) <;> omega)) (by first | exact rdB_d hB (by omega) | exact rdB_g hB (x := sg.2 20 k) (by omega) (by (repeat' split) <;> omega)) (by first | assumption | exact ok44_td ho (by omega))
                  · refine j_iload dX2_read_105 rfl ?_
                    refine j_bipush dX2_read_107 (by decide) ?_
                    refine j_icmp_ne 121 dX2_read_109 (by decide) ⟨⟨by omega, by omega⟩, ⟨by omega, by omega⟩⟩ (fun c109 => ?_) (fun c109 => ?_)
                    · refine j_iconst dX2_read_121 ?_
                      refine j_istore [some (.ref m), some (vi st), some (vi dg), some (vi nb), some (vi k), some (vi ((sg.2 20) k)), some (vi 0)] dX2_read_122 (by decide) rfl rfl ?_
                      refine j_iload dX2_read_124 rfl ?_
                      refine j_if_ne 132 dX2_read_126 (by decide) ⟨by decide, by decide⟩ (fun c => absurd c (by decide)) (fun _ => ?_)
                      refine j_iload dX2_read_129 rfl ?_
                      subst hQ; exact j_iret dX2_read_131 rfl (⟨rm, row, rfl, ⟨by omega, by omega⟩, ho, ⟨by omega, by omega⟩, Or.inl ⟨by omega, by omega, _, hR, rdS_n (by omega) (by omega)⟩⟩)
                    · refine j_iload_n dX2_read_112 rfl ?_
                      refine j_iconst dX2_read_113 ?_
                      refine j_icmp_ne 121 dX2_read_114 (by decide) ⟨⟨by omega, by omega⟩, ⟨by omega, by omega⟩⟩ (fun c114 => ?_) (fun c114 => ?_)
                      · refine j_iconst dX2_read_121 ?_
                        refine j_istore [some (.ref m), some (vi st), some (vi dg), some (vi nb), some (vi k), some (vi ((sg.2 20) k)), some (vi 0)] dX2_read_122 (by decide) rfl rfl ?_
                        refine j_iload dX2_read_124 rfl ?_
                        refine j_if_ne 132 dX2_read_126 (by decide) ⟨by decide, by decide⟩ (fun c => absurd c (by decide)) (fun _ => ?_)
                        refine j_iload dX2_read_129 rfl ?_
                        subst hQ; exact j_iret dX2_read_131 rfl (⟨rm, row, rfl, ⟨by omega, by omega⟩, ho, ⟨by omega, by omega⟩, Or.inl ⟨by omega, by omega, _, hR, rdS_n (by omega) (by omega)⟩⟩)
                      · refine j_iconst dX2_read_117 ?_
                        refine m_goto 122 dX2_read_118 (by decide) ?_
                        refine j_istore [some (.ref m), some (vi st), some (vi dg), some (vi nb), some (vi k), some (vi ((sg.2 20) k)), some (vi 1)] dX2_read_122 (by decide) rfl rfl ?_
                        refine j_iload dX2_read_124 rfl ?_
                        refine j_if_ne 132 dX2_read_126 (by decide) ⟨by decide, by decide⟩ (fun _ => ?_) (fun c => absurd c (by decide))
                        refine m_aload_n dX2_read_132 rfl ?_
                        refine j_iload_n dX2_read_133 rfl ?_
                        refine j_iload_n dX2_read_134 rfl ?_
                        refine t_inv [(vi st), (vi nb)] dX2_read_135 q3377 q3379 qs87 q3380 rfl (c_told K 0 h m sg _ _ rm row hT ⟨by omega, by omega⟩ ⟨by omega, by omega⟩ ⟨by omega, by omega⟩ (fun _ => by omega)) pdX2_told ⟨Nat.le_of_ble_eq_true rfl, by decide, by omega⟩ (kk_v fun h135 q135 => ?_) kx_v
                        obtain rfl := q135
                        have tmb : 0 ≤ tdM st rm ∧ tdM st rm ≤ 28 := by { unfold tdM; (repeat' split) <;> omega }
                        refine j_iload dX2_read_138 rfl ?_
                        refine j_bipush dX2_read_140 (by decide) ?_
                        refine j_icmp_ne 149 dX2_read_142 (by decide) ⟨⟨by omega, by omega⟩, ⟨by omega, by omega⟩⟩ (fun c142 => ?_) (fun c142 => False.elim (by omega))
                        refine j_iload dX2_read_149 rfl ?_
                        refine j_bipush dX2_read_151 (by decide) ?_
                        refine j_icmp_ne 172 dX2_read_153 (by decide) ⟨⟨by omega, by omega⟩, ⟨by omega, by omega⟩⟩ (fun c153 => False.elim (by omega)) (fun c153 => ?_)
                        refine m_aload_n dX2_read_156 rfl ?_
                        refine t_geti 45 (by decide) (tdM st rm) dX2_read_157 q3138 rfl ?_
                        refine j_iconst dX2_read_160 ?_
                        refine j_icmp_ne 168 dX2_read_161 (by decide) ⟨⟨by omega, by omega⟩, ⟨by omega, by omega⟩⟩ (fun c161 => ?_) (fun c161 => ?_)
                        · refine j_iconst dX2_read_168 ?_
                          refine m_goto 184 dX2_read_169 (by decide) ?_
                          refine j_istore_n [some (.ref m), some (vi 3), some (vi dg), some (vi nb), some (vi k), some (vi ((sg.2 20) k)), some (vi 1)] dX2_read_184 (by decide) rfl rfl ?_
                          refine j_iconst dX2_read_185 ?_
                          refine j_istore_n [some (.ref m), some (vi 3), some (vi dg), some (vi 0), some (vi k), some (vi ((sg.2 20) k)), some (vi 1)] dX2_read_186 (by decide) rfl rfl ?_
                          refine j_iconst dX2_read_187 ?_
                          refine j_istore_n [some (.ref m), some (vi 3), some (vi 0), some (vi 0), some (vi k), some (vi ((sg.2 20) k)), some (vi 1)] dX2_read_188 (by decide) rfl rfl ?_
                          refine j_iinc [some (.ref m), some (vi 3), some (vi 0), some (vi 0), some (vi (k + 1)), some (vi ((sg.2 20) k)), some (vi 1)] dX2_read_189 rfl (by decide) rfl rfl ?_
                          refine m_goto 14 dX2_read_192 (by decide) ?_
                          refine mw_forget 5 ?_
                          refine mw_forget 6 ?_
                          exact ih14 _ (by omega) _ _ _ _ _ _ rfl (by omega) (by rw [rdI_s hk.1, hR]; first | exact rdS_d (by omega) | exact rdS_g (by omega) (by omega) (by (repeat' split) <;> omega)) (by first | exact rdB_d hB (by omega) | exact rdB_g hB (x := sg.2 20 k) (by omega) (by (repeat' split) <;> omega)) (by first | assumption | exact ok44_td ho (by omega))
                        · refine j_iconst dX2_read_164 ?_
                          refine m_goto 184 dX2_read_165 (by decide) ?_
                          refine j_istore_n [some (.ref m), some (vi 2), some (vi dg), some (vi nb), some (vi k), some (vi ((sg.2 20) k)), some (vi 1)] dX2_read_184 (by decide) rfl rfl ?_
                          refine j_iconst dX2_read_185 ?_
                          refine j_istore_n [some (.ref m), some (vi 2), some (vi dg), some (vi 0), some (vi k), some (vi ((sg.2 20) k)), some (vi 1)] dX2_read_186 (by decide) rfl rfl ?_
                          refine j_iconst dX2_read_187 ?_
                          refine j_istore_n [some (.ref m), some (vi 2), some (vi 0), some (vi 0), some (vi k), some (vi ((sg.2 20) k)), some (vi 1)] dX2_read_188 (by decide) rfl rfl ?_
                          refine j_iinc [some (.ref m), some (vi 2), some (vi 0), some (vi 0), some (vi (k + 1)), some (vi ((sg.2 20) k)), some (vi 1)] dX2_read_189 rfl (by decide) rfl rfl ?_
                          refine m_goto 14 dX2_read_192 (by decide) ?_
                          refine mw_forget 5 ?_
                          refine mw_forget 6 ?_
                          exact ih14 _ (by omega) _ _ _ _ _ _ rfl (by omega) (by rw [rdI_s hk.1, hR]; first | exact rdS_d (by omega) | exact rdS_g (by omega) (by omega) (by (repeat' split) <;> omega)) (by first | exact rdB_d hB (by omega) | exact rdB_g hB (x := sg.2 20 k) (by omega) (by (repeat' split) <;> omega)) (by first | assumption | exact ok44_td ho (by omega))
          · refine j_iload_n dX2_read_77 rfl ?_
            refine j_if_eq 117 dX2_read_78 (by decide) ⟨by omega, by omega⟩ (fun c78 => ?_) (fun c78 => ?_)
            · refine j_iconst dX2_read_117 ?_
              refine m_goto 122 dX2_read_118 (by decide) ?_
              refine j_istore [some (.ref m), some (vi st), some (vi dg), some (vi nb), some (vi k), some (vi ((sg.2 20) k)), some (vi 1)] dX2_read_122 (by decide) rfl rfl ?_
              refine j_iload dX2_read_124 rfl ?_
              refine j_if_ne 132 dX2_read_126 (by decide) ⟨by decide, by decide⟩ (fun _ => ?_) (fun c => absurd c (by decide))
              refine m_aload_n dX2_read_132 rfl ?_
              refine j_iload_n dX2_read_133 rfl ?_
              refine j_iload_n dX2_read_134 rfl ?_
              refine t_inv [(vi st), (vi nb)] dX2_read_135 q3377 q3379 qs87 q3380 rfl (c_told K 0 h m sg _ _ rm row hT ⟨by omega, by omega⟩ ⟨by omega, by omega⟩ ⟨by omega, by omega⟩ (fun _ => by omega)) pdX2_told ⟨Nat.le_of_ble_eq_true rfl, by decide, by omega⟩ (kk_v fun h135 q135 => ?_) kx_v
              obtain rfl := q135
              have tmb : 0 ≤ tdM st rm ∧ tdM st rm ≤ 28 := by { unfold tdM; (repeat' split) <;> omega }
              refine j_iload dX2_read_138 rfl ?_
              refine j_bipush dX2_read_140 (by decide) ?_
              refine j_icmp_ne 149 dX2_read_142 (by decide) ⟨⟨by omega, by omega⟩, ⟨by omega, by omega⟩⟩ (fun c142 => False.elim (by omega)) (fun c142 => ?_)
              refine j_iconst dX2_read_145 ?_
              refine m_goto 184 dX2_read_146 (by decide) ?_
              refine j_istore_n [some (.ref m), some (vi 1), some (vi dg), some (vi nb), some (vi k), some (vi ((sg.2 20) k)), some (vi 1)] dX2_read_184 (by decide) rfl rfl ?_
              refine j_iconst dX2_read_185 ?_
              refine j_istore_n [some (.ref m), some (vi 1), some (vi dg), some (vi 0), some (vi k), some (vi ((sg.2 20) k)), some (vi 1)] dX2_read_186 (by decide) rfl rfl ?_
              refine j_iconst dX2_read_187 ?_
              refine j_istore_n [some (.ref m), some (vi 1), some (vi 0), some (vi 0), some (vi k), some (vi ((sg.2 20) k)), some (vi 1)] dX2_read_188 (by decide) rfl rfl ?_
              refine j_iinc [some (.ref m), some (vi 1), some (vi 0), some (vi 0), some (vi (k + 1)), some (vi ((sg.2 20) k)), some (vi 1)] dX2_read_189 rfl (by decide) rfl rfl ?_
              refine m_goto 14 dX2_read_192 (by decide) ?_
              refine mw_forget 5 ?_
              refine mw_forget 6 ?_
              exact ih14 _ (by omega) _ _ _ _ _ _ rfl (by omega) (by rw [rdI_s hk.1, hR]; first | exact rdS_d (by omega) | exact rdS_g (by omega) (by omega) (by (repeat' split) <;> omega)) (by first | exact rdB_d hB (by omega) | exact rdB_g hB (x := sg.2 20 k) (by omega) (by (repeat' split) <;> omega)) (by first | assumption | exact ok44_td ho (by omega))
            · refine j_iload dX2_read_81 rfl ?_
              refine j_bipush dX2_read_83 (by decide) ?_
              refine j_icmp_ne 93 dX2_read_85 (by decide) ⟨⟨by omega, by omega⟩, ⟨by omega, by omega⟩⟩ (fun c85 => ?_) (fun c85 => ?_)
              · refine j_iload dX2_read_93 rfl ?_
                refine j_bipush dX2_read_95 (by decide) ?_
                refine j_icmp_ne 105 dX2_read_97 (by decide) ⟨⟨by omega, by omega⟩, ⟨by omega, by omega⟩⟩ (fun c97 => ?_) (fun c97 => ?_)
                · refine j_iload dX2_read_105 rfl ?_
                  refine j_bipush dX2_read_107 (by decide) ?_
                  refine j_icmp_ne 121 dX2_read_109 (by decide) ⟨⟨by omega, by omega⟩, ⟨by omega, by omega⟩⟩ (fun c109 => ?_) (fun c109 => ?_)
                  · refine j_iconst dX2_read_121 ?_
                    refine j_istore [some (.ref m), some (vi st), some (vi dg), some (vi nb), some (vi k), some (vi ((sg.2 20) k)), some (vi 0)] dX2_read_122 (by decide) rfl rfl ?_
                    refine j_iload dX2_read_124 rfl ?_
                    refine j_if_ne 132 dX2_read_126 (by decide) ⟨by decide, by decide⟩ (fun c => absurd c (by decide)) (fun _ => ?_)
                    refine j_iload dX2_read_129 rfl ?_
                    subst hQ; exact j_iret dX2_read_131 rfl (⟨rm, row, rfl, ⟨by omega, by omega⟩, ho, ⟨by omega, by omega⟩, Or.inl ⟨by omega, by omega, _, hR, rdS_n (by omega) (by omega)⟩⟩)
                  · refine j_iload_n dX2_read_112 rfl ?_
                    refine j_iconst dX2_read_113 ?_
                    refine j_icmp_ne 121 dX2_read_114 (by decide) ⟨⟨by omega, by omega⟩, ⟨by omega, by omega⟩⟩ (fun c114 => ?_) (fun c114 => ?_)
                    · refine j_iconst dX2_read_121 ?_
                      refine j_istore [some (.ref m), some (vi st), some (vi dg), some (vi nb), some (vi k), some (vi ((sg.2 20) k)), some (vi 0)] dX2_read_122 (by decide) rfl rfl ?_
                      refine j_iload dX2_read_124 rfl ?_
                      refine j_if_ne 132 dX2_read_126 (by decide) ⟨by decide, by decide⟩ (fun c => absurd c (by decide)) (fun _ => ?_)
                      refine j_iload dX2_read_129 rfl ?_
                      subst hQ; exact j_iret dX2_read_131 rfl (⟨rm, row, rfl, ⟨by omega, by omega⟩, ho, ⟨by omega, by omega⟩, Or.inl ⟨by omega, by omega, _, hR, rdS_n (by omega) (by omega)⟩⟩)
                    · refine j_iconst dX2_read_117 ?_
                      refine m_goto 122 dX2_read_118 (by decide) ?_
                      refine j_istore [some (.ref m), some (vi st), some (vi dg), some (vi nb), some (vi k), some (vi ((sg.2 20) k)), some (vi 1)] dX2_read_122 (by decide) rfl rfl ?_
                      refine j_iload dX2_read_124 rfl ?_
                      refine j_if_ne 132 dX2_read_126 (by decide) ⟨by decide, by decide⟩ (fun _ => ?_) (fun c => absurd c (by decide))
                      refine m_aload_n dX2_read_132 rfl ?_
                      refine j_iload_n dX2_read_133 rfl ?_
                      refine j_iload_n dX2_read_134 rfl ?_
                      refine t_inv [(vi st), (vi nb)] dX2_read_135 q3377 q3379 qs87 q3380 rfl (c_told K 0 h m sg _ _ rm row hT ⟨by omega, by omega⟩ ⟨by omega, by omega⟩ ⟨by omega, by omega⟩ (fun _ => by omega)) pdX2_told ⟨Nat.le_of_ble_eq_true rfl, by decide, by omega⟩ (kk_v fun h135 q135 => ?_) kx_v
                      obtain rfl := q135
                      have tmb : 0 ≤ tdM st rm ∧ tdM st rm ≤ 28 := by { unfold tdM; (repeat' split) <;> omega }
                      refine j_iload dX2_read_138 rfl ?_
                      refine j_bipush dX2_read_140 (by decide) ?_
                      refine j_icmp_ne 149 dX2_read_142 (by decide) ⟨⟨by omega, by omega⟩, ⟨by omega, by omega⟩⟩ (fun c142 => False.elim (by omega)) (fun c142 => ?_)
                      refine j_iconst dX2_read_145 ?_
                      refine m_goto 184 dX2_read_146 (by decide) ?_
                      refine j_istore_n [some (.ref m), some (vi 1), some (vi dg), some (vi nb), some (vi k), some (vi ((sg.2 20) k)), some (vi 1)] dX2_read_184 (by decide) rfl rfl ?_
                      refine j_iconst dX2_read_185 ?_
                      refine j_istore_n [some (.ref m), some (vi 1), some (vi dg), some (vi 0), some (vi k), some (vi ((sg.2 20) k)), some (vi 1)] dX2_read_186 (by decide) rfl rfl ?_
                      refine j_iconst dX2_read_187 ?_
                      refine j_istore_n [some (.ref m), some (vi 1), some (vi 0), some (vi 0), some (vi k), some (vi ((sg.2 20) k)), some (vi 1)] dX2_read_188 (by decide) rfl rfl ?_
                      refine j_iinc [some (.ref m), some (vi 1), some (vi 0), some (vi 0), some (vi (k + 1)), some (vi ((sg.2 20) k)), some (vi 1)] dX2_read_189 rfl (by decide) rfl rfl ?_
                      refine m_goto 14 dX2_read_192 (by decide) ?_
                      refine mw_forget 5 ?_
                      refine mw_forget 6 ?_
                      exact ih14 _ (by omega) _ _ _ _ _ _ rfl (by omega) (by rw [rdI_s hk.1, hR]; first | exact rdS_d (by omega) | exact rdS_g (by omega) (by omega) (by (repeat' split) <;> omega)) (by first | exact rdB_d hB (by omega) | exact rdB_g hB (x := sg.2 20 k) (by omega) (by (repeat' split) <;> omega)) (by first | assumption | exact ok44_td ho (by omega))
                · refine j_iload_n dX2_read_100 rfl ?_
                  refine j_iconst dX2_read_101 ?_
                  refine j_icmp_ge 117 dX2_read_102 (by decide) ⟨⟨by omega, by omega⟩, ⟨by omega, by omega⟩⟩ (fun c102 => ?_) (fun c102 => ?_)
                  · refine j_iconst dX2_read_117 ?_
                    refine m_goto 122 dX2_read_118 (by decide) ?_
                    refine j_istore [some (.ref m), some (vi st), some (vi dg), some (vi nb), some (vi k), some (vi ((sg.2 20) k)), some (vi 1)] dX2_read_122 (by decide) rfl rfl ?_
                    refine j_iload dX2_read_124 rfl ?_
                    refine j_if_ne 132 dX2_read_126 (by decide) ⟨by decide, by decide⟩ (fun _ => ?_) (fun c => absurd c (by decide))
                    refine m_aload_n dX2_read_132 rfl ?_
                    refine j_iload_n dX2_read_133 rfl ?_
                    refine j_iload_n dX2_read_134 rfl ?_
                    refine t_inv [(vi st), (vi nb)] dX2_read_135 q3377 q3379 qs87 q3380 rfl (c_told K 0 h m sg _ _ rm row hT ⟨by omega, by omega⟩ ⟨by omega, by omega⟩ ⟨by omega, by omega⟩ (fun _ => by omega)) pdX2_told ⟨Nat.le_of_ble_eq_true rfl, by decide, by omega⟩ (kk_v fun h135 q135 => ?_) kx_v
                    obtain rfl := q135
                    have tmb : 0 ≤ tdM st rm ∧ tdM st rm ≤ 28 := by { unfold tdM; (repeat' split) <;> omega }
                    refine j_iload dX2_read_138 rfl ?_
                    refine j_bipush dX2_read_140 (by decide) ?_
                    refine j_icmp_ne 149 dX2_read_142 (by decide) ⟨⟨by omega, by omega⟩, ⟨by omega, by omega⟩⟩ (fun c142 => False.elim (by omega)) (fun c142 => ?_)
                    refine j_iconst dX2_read_145 ?_
                    refine m_goto 184 dX2_read_146 (by decide) ?_
                    refine j_istore_n [some (.ref m), some (vi 1), some (vi dg), some (vi nb), some (vi k), some (vi ((sg.2 20) k)), some (vi 1)] dX2_read_184 (by decide) rfl rfl ?_
                    refine j_iconst dX2_read_185 ?_
                    refine j_istore_n [some (.ref m), some (vi 1), some (vi dg), some (vi 0), some (vi k), some (vi ((sg.2 20) k)), some (vi 1)] dX2_read_186 (by decide) rfl rfl ?_
                    refine j_iconst dX2_read_187 ?_
                    refine j_istore_n [some (.ref m), some (vi 1), some (vi 0), some (vi 0), some (vi k), some (vi ((sg.2 20) k)), some (vi 1)] dX2_read_188 (by decide) rfl rfl ?_
                    refine j_iinc [some (.ref m), some (vi 1), some (vi 0), some (vi 0), some (vi (k + 1)), some (vi ((sg.2 20) k)), some (vi 1)] dX2_read_189 rfl (by decide) rfl rfl ?_
                    refine m_goto 14 dX2_read_192 (by decide) ?_
                    refine mw_forget 5 ?_
                    refine mw_forget 6 ?_
                    exact ih14 _ (by omega) _ _ _ _ _ _ rfl (by omega) (by rw [rdI_s hk.1, hR]; first | exact rdS_d (by omega) | exact rdS_g (by omega) (by omega) (by (repeat' split) <;> omega)) (by first | exact rdB_d hB (by omega) | exact rdB_g hB (x := sg.2 20 k) (by omega) (by (repeat' split) <;> omega)) (by first | assumption | exact ok44_td ho (by omega))
                  · refine j_iload dX2_read_105 rfl ?_
                    refine j_bipush dX2_read_107 (by decide) ?_
                    refine j_icmp_ne 121 dX2_read_109 (by decide) ⟨⟨by omega, by omega⟩, ⟨by omega, by omega⟩⟩ (fun c109 => ?_) (fun c109 => ?_)
                    · refine j_iconst dX2_read_121 ?_
                      refine j_istore [some (.ref m), some (vi st), some (vi dg), some (vi nb), some (vi k), some (vi ((sg.2 20) k)), some (vi 0)] dX2_read_122 (by decide) rfl rfl ?_
                      refine j_iload dX2_read_124 rfl ?_
                      refine j_if_ne 132 dX2_read_126 (by decide) ⟨by decide, by decide⟩ (fun c => absurd c (by decide)) (fun _ => ?_)
                      refine j_iload dX2_read_129 rfl ?_
                      subst hQ; exact j_iret dX2_read_131 rfl (⟨rm, row, rfl, ⟨by omega, by omega⟩, ho, ⟨by omega, by omega⟩, Or.inl ⟨by omega, by omega, _, hR, rdS_n (by omega) (by omega)⟩⟩)
                    · refine j_iload_n dX2_read_112 rfl ?_
                      refine j_iconst dX2_read_113 ?_
                      refine j_icmp_ne 121 dX2_read_114 (by decide) ⟨⟨by omega, by omega⟩, ⟨by omega, by omega⟩⟩ (fun c114 => ?_) (fun c114 => ?_)
                      · refine j_iconst dX2_read_121 ?_
                        refine j_istore [some (.ref m), some (vi st), some (vi dg), some (vi nb), some (vi k), some (vi ((sg.2 20) k)), some (vi 0)] dX2_read_122 (by decide) rfl rfl ?_
                        refine j_iload dX2_read_124 rfl ?_
                        refine j_if_ne 132 dX2_read_126 (by decide) ⟨by decide, by decide⟩ (fun c => absurd c (by decide)) (fun _ => ?_)
                        refine j_iload dX2_read_129 rfl ?_
                        subst hQ; exact j_iret dX2_read_131 rfl (⟨rm, row, rfl, ⟨by omega, by omega⟩, ho, ⟨by omega, by omega⟩, Or.inl ⟨by omega, by omega, _, hR, rdS_n (by omega) (by omega)⟩⟩)
                      · refine j_iconst dX2_read_117 ?_
                        refine m_goto 122 dX2_read_118 (by decide) ?_
                        refine j_istore [some (.ref m), some (vi st), some (vi dg), some (vi nb), some (vi k), some (vi ((sg.2 20) k)), some (vi 1)] dX2_read_122 (by decide) rfl rfl ?_
                        refine j_iload dX2_read_124 rfl ?_
                        refine j_if_ne 132 dX2_read_126 (by decide) ⟨by decide, by decide⟩ (fun _ => ?_) (fun c => absurd c (by decide))
                        refine m_aload_n dX2_read_132 rfl ?_
                        refine j_iload_n dX2_read_133 rfl ?_
                        refine j_iload_n dX2_read_134 rfl ?_
                        refine t_inv [(vi st), (vi nb)] dX2_read_135 q3377 q3379 qs87 q3380 rfl (c_told K 0 h m sg _ _ rm row hT ⟨by omega, by omega⟩ ⟨by omega, by omega⟩ ⟨by omega, by omega⟩ (fun _ => by omega)) pdX2_told ⟨Nat.le_of_ble_eq_true rfl, by decide, by omega⟩ (kk_v fun h135 q135 => ?_) kx_v
                        obtain rfl := q135
                        have tmb : 0 ≤ tdM st rm ∧ tdM st rm ≤ 28 := by { unfold tdM; (repeat' split) <;> omega }
                        refine j_iload dX2_read_138 rfl ?_
                        refine j_bipush dX2_read_140 (by decide) ?_
                        refine j_icmp_ne 149 dX2_read_142 (by decide) ⟨⟨by omega, by omega⟩, ⟨by omega, by omega⟩⟩ (fun c142 => False.elim (by omega)) (fun c142 => ?_)
                        refine j_iconst dX2_read_145 ?_
                        refine m_goto 184 dX2_read_146 (by decide) ?_
                        refine j_istore_n [some (.ref m), some (vi 1), some (vi dg), some (vi nb), some (vi k), some (vi ((sg.2 20) k)), some (vi 1)] dX2_read_184 (by decide) rfl rfl ?_
                        refine j_iconst dX2_read_185 ?_
                        refine j_istore_n [some (.ref m), some (vi 1), some (vi dg), some (vi 0), some (vi k), some (vi ((sg.2 20) k)), some (vi 1)] dX2_read_186 (by decide) rfl rfl ?_
                        refine j_iconst dX2_read_187 ?_
                        refine j_istore_n [some (.ref m), some (vi 1), some (vi 0), some (vi 0), some (vi k), some (vi ((sg.2 20) k)), some (vi 1)] dX2_read_188 (by decide) rfl rfl ?_
                        refine j_iinc [some (.ref m), some (vi 1), some (vi 0), some (vi 0), some (vi (k + 1)), some (vi ((sg.2 20) k)), some (vi 1)] dX2_read_189 rfl (by decide) rfl rfl ?_
                        refine m_goto 14 dX2_read_192 (by decide) ?_
                        refine mw_forget 5 ?_
                        refine mw_forget 6 ?_
                        exact ih14 _ (by omega) _ _ _ _ _ _ rfl (by omega) (by rw [rdI_s hk.1, hR]; first | exact rdS_d (by omega) | exact rdS_g (by omega) (by omega) (by (repeat' split) <;> omega)) (by first | exact rdB_d hB (by omega) | exact rdB_g hB (x := sg.2 20 k) (by omega) (by (repeat' split) <;> omega)) (by first | assumption | exact ok44_td ho (by omega))
              · refine j_iload_n dX2_read_88 rfl ?_
                refine j_iconst dX2_read_89 ?_
                refine j_icmp_eq 117 dX2_read_90 (by decide) ⟨⟨by omega, by omega⟩, ⟨by omega, by omega⟩⟩ (fun c90 => ?_) (fun c90 => ?_)
                · refine j_iconst dX2_read_117 ?_
                  refine m_goto 122 dX2_read_118 (by decide) ?_
                  refine j_istore [some (.ref m), some (vi st), some (vi dg), some (vi nb), some (vi k), some (vi ((sg.2 20) k)), some (vi 1)] dX2_read_122 (by decide) rfl rfl ?_
                  refine j_iload dX2_read_124 rfl ?_
                  refine j_if_ne 132 dX2_read_126 (by decide) ⟨by decide, by decide⟩ (fun _ => ?_) (fun c => absurd c (by decide))
                  refine m_aload_n dX2_read_132 rfl ?_
                  refine j_iload_n dX2_read_133 rfl ?_
                  refine j_iload_n dX2_read_134 rfl ?_
                  refine t_inv [(vi st), (vi nb)] dX2_read_135 q3377 q3379 qs87 q3380 rfl (c_told K 0 h m sg _ _ rm row hT ⟨by omega, by omega⟩ ⟨by omega, by omega⟩ ⟨by omega, by omega⟩ (fun _ => by omega)) pdX2_told ⟨Nat.le_of_ble_eq_true rfl, by decide, by omega⟩ (kk_v fun h135 q135 => ?_) kx_v
                  obtain rfl := q135
                  have tmb : 0 ≤ tdM st rm ∧ tdM st rm ≤ 28 := by { unfold tdM; (repeat' split) <;> omega }
                  refine j_iload dX2_read_138 rfl ?_
                  refine j_bipush dX2_read_140 (by decide) ?_
                  refine j_icmp_ne 149 dX2_read_142 (by decide) ⟨⟨by omega, by omega⟩, ⟨by omega, by omega⟩⟩ (fun c142 => False.elim (by omega)) (fun c142 => ?_)
                  refine j_iconst dX2_read_145 ?_
                  refine m_goto 184 dX2_read_146 (by decide) ?_
                  refine j_istore_n [some (.ref m), some (vi 1), some (vi dg), some (vi nb), some (vi k), some (vi ((sg.2 20) k)), some (vi 1)] dX2_read_184 (by decide) rfl rfl ?_
                  refine j_iconst dX2_read_185 ?_
                  refine j_istore_n [some (.ref m), some (vi 1), some (vi dg), some (vi 0), some (vi k), some (vi ((sg.2 20) k)), some (vi 1)] dX2_read_186 (by decide) rfl rfl ?_
                  refine j_iconst dX2_read_187 ?_
                  refine j_istore_n [some (.ref m), some (vi 1), some (vi 0), some (vi 0), some (vi k), some (vi ((sg.2 20) k)), some (vi 1)] dX2_read_188 (by decide) rfl rfl ?_
                  refine j_iinc [some (.ref m), some (vi 1), some (vi 0), some (vi 0), some (vi (k + 1)), some (vi ((sg.2 20) k)), some (vi 1)] dX2_read_189 rfl (by decide) rfl rfl ?_
                  refine m_goto 14 dX2_read_192 (by decide) ?_
                  refine mw_forget 5 ?_
                  refine mw_forget 6 ?_
                  exact ih14 _ (by omega) _ _ _ _ _ _ rfl (by omega) (by rw [rdI_s hk.1, hR]; first | exact rdS_d (by omega) | exact rdS_g (by omega) (by omega) (by (repeat' split) <;> omega)) (by first | exact rdB_d hB (by omega) | exact rdB_g hB (x := sg.2 20 k) (by omega) (by (repeat' split) <;> omega)) (by first | assumption | exact ok44_td ho (by omega))
                · refine j_iload dX2_read_93 rfl ?_
                  refine j_bipush dX2_read_95 (by decide) ?_
                  refine j_icmp_ne 105 dX2_read_97 (by decide) ⟨⟨by omega, by omega⟩, ⟨by omega, by omega⟩⟩ (fun c97 => ?_) (fun c97 => ?_)
                  · refine j_iload dX2_read_105 rfl ?_
                    refine j_bipush dX2_read_107 (by decide) ?_
                    refine j_icmp_ne 121 dX2_read_109 (by decide) ⟨⟨by omega, by omega⟩, ⟨by omega, by omega⟩⟩ (fun c109 => ?_) (fun c109 => ?_)
                    · refine j_iconst dX2_read_121 ?_
                      refine j_istore [some (.ref m), some (vi st), some (vi dg), some (vi nb), some (vi k), some (vi ((sg.2 20) k)), some (vi 0)] dX2_read_122 (by decide) rfl rfl ?_
                      refine j_iload dX2_read_124 rfl ?_
                      refine j_if_ne 132 dX2_read_126 (by decide) ⟨by decide, by decide⟩ (fun c => absurd c (by decide)) (fun _ => ?_)
                      refine j_iload dX2_read_129 rfl ?_
                      subst hQ; exact j_iret dX2_read_131 rfl (⟨rm, row, rfl, ⟨by omega, by omega⟩, ho, ⟨by omega, by omega⟩, Or.inl ⟨by omega, by omega, _, hR, rdS_n (by omega) (by omega)⟩⟩)
                    · refine j_iload_n dX2_read_112 rfl ?_
                      refine j_iconst dX2_read_113 ?_
                      refine j_icmp_ne 121 dX2_read_114 (by decide) ⟨⟨by omega, by omega⟩, ⟨by omega, by omega⟩⟩ (fun c114 => ?_) (fun c114 => ?_)
                      · refine j_iconst dX2_read_121 ?_
                        refine j_istore [some (.ref m), some (vi st), some (vi dg), some (vi nb), some (vi k), some (vi ((sg.2 20) k)), some (vi 0)] dX2_read_122 (by decide) rfl rfl ?_
                        refine j_iload dX2_read_124 rfl ?_
                        refine j_if_ne 132 dX2_read_126 (by decide) ⟨by decide, by decide⟩ (fun c => absurd c (by decide)) (fun _ => ?_)
                        refine j_iload dX2_read_129 rfl ?_
                        subst hQ; exact j_iret dX2_read_131 rfl (⟨rm, row, rfl, ⟨by omega, by omega⟩, ho, ⟨by omega, by omega⟩, Or.inl ⟨by omega, by omega, _, hR, rdS_n (by omega) (by omega)⟩⟩)
                      · refine j_iconst dX2_read_117 ?_
                        refine m_goto 122 dX2_read_118 (by decide) ?_
                        refine j_istore [some (.ref m), some (vi st), some (vi dg), some (vi nb), some (vi k), some (vi ((sg.2 20) k)), some (vi 1)] dX2_read_122 (by decide) rfl rfl ?_
                        refine j_iload dX2_read_124 rfl ?_
                        refine j_if_ne 132 dX2_read_126 (by decide) ⟨by decide, by decide⟩ (fun _ => ?_) (fun c => absurd c (by decide))
                        refine m_aload_n dX2_read_132 rfl ?_
                        refine j_iload_n dX2_read_133 rfl ?_
                        refine j_iload_n dX2_read_134 rfl ?_
                        refine t_inv [(vi st), (vi nb)] dX2_read_135 q3377 q3379 qs87 q3380 rfl (c_told K 0 h m sg _ _ rm row hT ⟨by omega, by omega⟩ ⟨by omega, by omega⟩ ⟨by omega, by omega⟩ (fun _ => by omega)) pdX2_told ⟨Nat.le_of_ble_eq_true rfl, by decide, by omega⟩ (kk_v fun h135 q135 => ?_) kx_v
                        obtain rfl := q135
                        have tmb : 0 ≤ tdM st rm ∧ tdM st rm ≤ 28 := by { unfold tdM; (repeat' split) <;> omega }
                        refine j_iload dX2_read_138 rfl ?_
                        refine j_bipush dX2_read_140 (by decide) ?_
                        refine j_icmp_ne 149 dX2_read_142 (by decide) ⟨⟨by omega, by omega⟩, ⟨by omega, by omega⟩⟩ (fun c142 => False.elim (by omega)) (fun c142 => ?_)
                        refine j_iconst dX2_read_145 ?_
                        refine m_goto 184 dX2_read_146 (by decide) ?_
                        refine j_istore_n [some (.ref m), some (vi 1), some (vi dg), some (vi nb), some (vi k), some (vi ((sg.2 20) k)), some (vi 1)] dX2_read_184 (by decide) rfl rfl ?_
                        refine j_iconst dX2_read_185 ?_
                        refine j_istore_n [some (.ref m), some (vi 1), some (vi dg), some (vi 0), some (vi k), some (vi ((sg.2 20) k)), some (vi 1)] dX2_read_186 (by decide) rfl rfl ?_
                        refine j_iconst dX2_read_187 ?_
                        refine j_istore_n [some (.ref m), some (vi 1), some (vi 0), some (vi 0), some (vi k), some (vi ((sg.2 20) k)), some (vi 1)] dX2_read_188 (by decide) rfl rfl ?_
                        refine j_iinc [some (.ref m), some (vi 1), some (vi 0), some (vi 0), some (vi (k + 1)), some (vi ((sg.2 20) k)), some (vi 1)] dX2_read_189 rfl (by decide) rfl rfl ?_
                        refine m_goto 14 dX2_read_192 (by decide) ?_
                        refine mw_forget 5 ?_
                        refine mw_forget 6 ?_
                        exact ih14 _ (by omega) _ _ _ _ _ _ rfl (by omega) (by rw [rdI_s hk.1, hR]; first | exact rdS_d (by omega) | exact rdS_g (by omega) (by omega) (by (repeat' split) <;> omega)) (by first | exact rdB_d hB (by omega) | exact rdB_g hB (x := sg.2 20 k) (by omega) (by (repeat' split) <;> omega)) (by first | assumption | exact ok44_td ho (by omega))
                  · refine j_iload_n dX2_read_100 rfl ?_
                    refine j_iconst dX2_read_101 ?_
                    refine j_icmp_ge 117 dX2_read_102 (by decide) ⟨⟨by omega, by omega⟩, ⟨by omega, by omega⟩⟩ (fun c102 => ?_) (fun c102 => ?_)
                    · refine j_iconst dX2_read_117 ?_
                      refine m_goto 122 dX2_read_118 (by decide) ?_
                      refine j_istore [some (.ref m), some (vi st), some (vi dg), some (vi nb), some (vi k), some (vi ((sg.2 20) k)), some (vi 1)] dX2_read_122 (by decide) rfl rfl ?_
                      refine j_iload dX2_read_124 rfl ?_
                      refine j_if_ne 132 dX2_read_126 (by decide) ⟨by decide, by decide⟩ (fun _ => ?_) (fun c => absurd c (by decide))
                      refine m_aload_n dX2_read_132 rfl ?_
                      refine j_iload_n dX2_read_133 rfl ?_
                      refine j_iload_n dX2_read_134 rfl ?_
                      refine t_inv [(vi st), (vi nb)] dX2_read_135 q3377 q3379 qs87 q3380 rfl (c_told K 0 h m sg _ _ rm row hT ⟨by omega, by omega⟩ ⟨by omega, by omega⟩ ⟨by omega, by omega⟩ (fun _ => by omega)) pdX2_told ⟨Nat.le_of_ble_eq_true rfl, by decide, by omega⟩ (kk_v fun h135 q135 => ?_) kx_v
                      obtain rfl := q135
                      have tmb : 0 ≤ tdM st rm ∧ tdM st rm ≤ 28 := by { unfold tdM; (repeat' split) <;> omega }
                      refine j_iload dX2_read_138 rfl ?_
                      refine j_bipush dX2_read_140 (by decide) ?_
                      refine j_icmp_ne 149 dX2_read_142 (by decide) ⟨⟨by omega, by omega⟩, ⟨by omega, by omega⟩⟩ (fun c142 => False.elim (by omega)) (fun c142 => ?_)
                      refine j_iconst dX2_read_145 ?_
                      refine m_goto 184 dX2_read_146 (by decide) ?_
                      refine j_istore_n [some (.ref m), some (vi 1), some (vi dg), some (vi nb), some (vi k), some (vi ((sg.2 20) k)), some (vi 1)] dX2_read_184 (by decide) rfl rfl ?_
                      refine j_iconst dX2_read_185 ?_
                      refine j_istore_n [some (.ref m), some (vi 1), some (vi dg), some (vi 0), some (vi k), some (vi ((sg.2 20) k)), some (vi 1)] dX2_read_186 (by decide) rfl rfl ?_
                      refine j_iconst dX2_read_187 ?_
                      refine j_istore_n [some (.ref m), some (vi 1), some (vi 0), some (vi 0), some (vi k), some (vi ((sg.2 20) k)), some (vi 1)] dX2_read_188 (by decide) rfl rfl ?_
                      refine j_iinc [some (.ref m), some (vi 1), some (vi 0), some (vi 0), some (vi (k + 1)), some (vi ((sg.2 20) k)), some (vi 1)] dX2_read_189 rfl (by decide) rfl rfl ?_
                      refine m_goto 14 dX2_read_192 (by decide) ?_
                      refine mw_forget 5 ?_
                      refine mw_forget 6 ?_
                      exact ih14 _ (by omega) _ _ _ _ _ _ rfl (by omega) (by rw [rdI_s hk.1, hR]; first | exact rdS_d (by omega) | exact rdS_g (by omega) (by omega) (by (repeat' split) <;> omega)) (by first | exact rdB_d hB (by omega) | exact rdB_g hB (x := sg.2 20 k) (by omega) (by (repeat' split) <;> omega)) (by first | assumption | exact ok44_td ho (by omega))
                    · refine j_iload dX2_read_105 rfl ?_
                      refine j_bipush dX2_read_107 (by decide) ?_
                      refine j_icmp_ne 121 dX2_read_109 (by decide) ⟨⟨by omega, by omega⟩, ⟨by omega, by omega⟩⟩ (fun c109 => ?_) (fun c109 => ?_)
                      · refine j_iconst dX2_read_121 ?_
                        refine j_istore [some (.ref m), some (vi st), some (vi dg), some (vi nb), some (vi k), some (vi ((sg.2 20) k)), some (vi 0)] dX2_read_122 (by decide) rfl rfl ?_
                        refine j_iload dX2_read_124 rfl ?_
                        refine j_if_ne 132 dX2_read_126 (by decide) ⟨by decide, by decide⟩ (fun c => absurd c (by decide)) (fun _ => ?_)
                        refine j_iload dX2_read_129 rfl ?_
                        subst hQ; exact j_iret dX2_read_131 rfl (⟨rm, row, rfl, ⟨by omega, by omega⟩, ho, ⟨by omega, by omega⟩, Or.inl ⟨by omega, by omega, _, hR, rdS_n (by omega) (by omega)⟩⟩)
                      · refine j_iload_n dX2_read_112 rfl ?_
                        refine j_iconst dX2_read_113 ?_
                        refine j_icmp_ne 121 dX2_read_114 (by decide) ⟨⟨by omega, by omega⟩, ⟨by omega, by omega⟩⟩ (fun c114 => ?_) (fun c114 => ?_)
                        · refine j_iconst dX2_read_121 ?_
                          refine j_istore [some (.ref m), some (vi st), some (vi dg), some (vi nb), some (vi k), some (vi ((sg.2 20) k)), some (vi 0)] dX2_read_122 (by decide) rfl rfl ?_
                          refine j_iload dX2_read_124 rfl ?_
                          refine j_if_ne 132 dX2_read_126 (by decide) ⟨by decide, by decide⟩ (fun c => absurd c (by decide)) (fun _ => ?_)
                          refine j_iload dX2_read_129 rfl ?_
                          subst hQ; exact j_iret dX2_read_131 rfl (⟨rm, row, rfl, ⟨by omega, by omega⟩, ho, ⟨by omega, by omega⟩, Or.inl ⟨by omega, by omega, _, hR, rdS_n (by omega) (by omega)⟩⟩)
                        · refine j_iconst dX2_read_117 ?_
                          refine m_goto 122 dX2_read_118 (by decide) ?_
                          refine j_istore [some (.ref m), some (vi st), some (vi dg), some (vi nb), some (vi k), some (vi ((sg.2 20) k)), some (vi 1)] dX2_read_122 (by decide) rfl rfl ?_
                          refine j_iload dX2_read_124 rfl ?_
                          refine j_if_ne 132 dX2_read_126 (by decide) ⟨by decide, by decide⟩ (fun _ => ?_) (fun c => absurd c (by decide))
                          refine m_aload_n dX2_read_132 rfl ?_
                          refine j_iload_n dX2_read_133 rfl ?_
                          refine j_iload_n dX2_read_134 rfl ?_
                          refine t_inv [(vi st), (vi nb)] dX2_read_135 q3377 q3379 qs87 q3380 rfl (c_told K 0 h m sg _ _ rm row hT ⟨by omega, by omega⟩ ⟨by omega, by omega⟩ ⟨by omega, by omega⟩ (fun _ => by omega)) pdX2_told ⟨Nat.le_of_ble_eq_true rfl, by decide, by omega⟩ (kk_v fun h135 q135 => ?_) kx_v
                          obtain rfl := q135
                          have tmb : 0 ≤ tdM st rm ∧ tdM st rm ≤ 28 := by { unfold tdM; (repeat' split) <;> omega }
                          refine j_iload dX2_read_138 rfl ?_
                          refine j_bipush dX2_read_140 (by decide) ?_
                          refine j_icmp_ne 149 dX2_read_142 (by decide) ⟨⟨by omega, by omega⟩, ⟨by omega, by omega⟩⟩ (fun c142 => False.elim (by omega)) (fun c142 => ?_)
                          refine j_iconst dX2_read_145 ?_
                          refine m_goto 184 dX2_read_146 (by decide) ?_
                          refine j_istore_n [some (.ref m), some (vi 1), some (vi dg), some (vi nb), some (vi k), some (vi ((sg.2 20) k)), some (vi 1)] dX2_read_184 (by decide) rfl rfl ?_
                          refine j_iconst dX2_read_185 ?_
                          refine j_istore_n [some (.ref m), some (vi 1), some (vi dg), some (vi 0), some (vi k), some (vi ((sg.2 20) k)), some (vi 1)] dX2_read_186 (by decide) rfl rfl ?_
                          refine j_iconst dX2_read_187 ?_
                          refine j_istore_n [some (.ref m), some (vi 1), some (vi 0), some (vi 0), some (vi k), some (vi ((sg.2 20) k)), some (vi 1)] dX2_read_188 (by decide) rfl rfl ?_
                          refine j_iinc [some (.ref m), some (vi 1), some (vi 0), some (vi 0), some (vi (k + 1)), some (vi ((sg.2 20) k)), some (vi 1)] dX2_read_189 rfl (by decide) rfl rfl ?_
                          refine m_goto 14 dX2_read_192 (by decide) ?_
                          refine mw_forget 5 ?_
                          refine mw_forget 6 ?_
                          exact ih14 _ (by omega) _ _ _ _ _ _ rfl (by omega) (by rw [rdI_s hk.1, hR]; first | exact rdS_d (by omega) | exact rdS_g (by omega) (by omega) (by (repeat' split) <;> omega)) (by first | exact rdB_d hB (by omega) | exact rdB_g hB (x := sg.2 20 k) (by omega) (by (repeat' split) <;> omega)) (by first | assumption | exact ok44_td ho (by omega))
      · refine j_iload_n dX2_read_44 rfl ?_
        refine j_iconst dX2_read_45 ?_
        refine j_icmp_ge 66 dX2_read_46 (by decide) ⟨⟨by omega, by omega⟩, ⟨by omega, by omega⟩⟩ (fun c46 => ?_) (fun c46 => ?_)
        · refine j_iload_n dX2_read_66 rfl ?_
          refine j_if_le 121 dX2_read_67 (by decide) ⟨by omega, by omega⟩ (fun c67 => ?_) (fun c67 => ?_)
          · refine j_iconst dX2_read_121 ?_
            refine j_istore [some (.ref m), some (vi st), some (vi dg), some (vi nb), some (vi k), some (vi ((sg.2 20) k)), some (vi 0)] dX2_read_122 (by decide) rfl rfl ?_
            refine j_iload dX2_read_124 rfl ?_
            refine j_if_ne 132 dX2_read_126 (by decide) ⟨by decide, by decide⟩ (fun c => absurd c (by decide)) (fun _ => ?_)
            refine j_iload dX2_read_129 rfl ?_
            subst hQ; exact j_iret dX2_read_131 rfl (⟨rm, row, rfl, ⟨by omega, by omega⟩, ho, ⟨by omega, by omega⟩, Or.inl ⟨by omega, by omega, _, hR, rdS_n (by omega) (by omega)⟩⟩)
          · refine j_iload dX2_read_70 rfl ?_
            refine j_bipush dX2_read_72 (by decide) ?_
            refine j_icmp_ne 81 dX2_read_74 (by decide) ⟨⟨by omega, by omega⟩, ⟨by omega, by omega⟩⟩ (fun c74 => ?_) (fun c74 => ?_)
            · refine j_iload dX2_read_81 rfl ?_
              refine j_bipush dX2_read_83 (by decide) ?_
              refine j_icmp_ne 93 dX2_read_85 (by decide) ⟨⟨by omega, by omega⟩, ⟨by omega, by omega⟩⟩ (fun c85 => ?_) (fun c85 => ?_)
              · refine j_iload dX2_read_93 rfl ?_
                refine j_bipush dX2_read_95 (by decide) ?_
                refine j_icmp_ne 105 dX2_read_97 (by decide) ⟨⟨by omega, by omega⟩, ⟨by omega, by omega⟩⟩ (fun c97 => ?_) (fun c97 => ?_)
                · refine j_iload dX2_read_105 rfl ?_
                  refine j_bipush dX2_read_107 (by decide) ?_
                  refine j_icmp_ne 121 dX2_read_109 (by decide) ⟨⟨by omega, by omega⟩, ⟨by omega, by omega⟩⟩ (fun c109 => ?_) (fun c109 => ?_)
                  · refine j_iconst dX2_read_121 ?_
                    refine j_istore [some (.ref m), some (vi st), some (vi dg), some (vi nb), some (vi k), some (vi ((sg.2 20) k)), some (vi 0)] dX2_read_122 (by decide) rfl rfl ?_
                    refine j_iload dX2_read_124 rfl ?_
                    refine j_if_ne 132 dX2_read_126 (by decide) ⟨by decide, by decide⟩ (fun c => absurd c (by decide)) (fun _ => ?_)
                    refine j_iload dX2_read_129 rfl ?_
                    subst hQ; exact j_iret dX2_read_131 rfl (⟨rm, row, rfl, ⟨by omega, by omega⟩, ho, ⟨by omega, by omega⟩, Or.inl ⟨by omega, by omega, _, hR, rdS_n (by omega) (by omega)⟩⟩)
                  · refine j_iload_n dX2_read_112 rfl ?_
                    refine j_iconst dX2_read_113 ?_
                    refine j_icmp_ne 121 dX2_read_114 (by decide) ⟨⟨by omega, by omega⟩, ⟨by omega, by omega⟩⟩ (fun c114 => ?_) (fun c114 => ?_)
                    · refine j_iconst dX2_read_121 ?_
                      refine j_istore [some (.ref m), some (vi st), some (vi dg), some (vi nb), some (vi k), some (vi ((sg.2 20) k)), some (vi 0)] dX2_read_122 (by decide) rfl rfl ?_
                      refine j_iload dX2_read_124 rfl ?_
                      refine j_if_ne 132 dX2_read_126 (by decide) ⟨by decide, by decide⟩ (fun c => absurd c (by decide)) (fun _ => ?_)
                      refine j_iload dX2_read_129 rfl ?_
                      subst hQ; exact j_iret dX2_read_131 rfl (⟨rm, row, rfl, ⟨by omega, by omega⟩, ho, ⟨by omega, by omega⟩, Or.inl ⟨by omega, by omega, _, hR, rdS_n (by omega) (by omega)⟩⟩)
                    · refine j_iconst dX2_read_117 ?_
                      refine m_goto 122 dX2_read_118 (by decide) ?_
                      refine j_istore [some (.ref m), some (vi st), some (vi dg), some (vi nb), some (vi k), some (vi ((sg.2 20) k)), some (vi 1)] dX2_read_122 (by decide) rfl rfl ?_
                      refine j_iload dX2_read_124 rfl ?_
                      refine j_if_ne 132 dX2_read_126 (by decide) ⟨by decide, by decide⟩ (fun _ => ?_) (fun c => absurd c (by decide))
                      refine m_aload_n dX2_read_132 rfl ?_
                      refine j_iload_n dX2_read_133 rfl ?_
                      refine j_iload_n dX2_read_134 rfl ?_
                      refine t_inv [(vi st), (vi nb)] dX2_read_135 q3377 q3379 qs87 q3380 rfl (c_told K 0 h m sg _ _ rm row hT ⟨by omega, by omega⟩ ⟨by omega, by omega⟩ ⟨by omega, by omega⟩ (fun _ => by omega)) pdX2_told ⟨Nat.le_of_ble_eq_true rfl, by decide, by omega⟩ (kk_v fun h135 q135 => ?_) kx_v
                      obtain rfl := q135
                      have tmb : 0 ≤ tdM st rm ∧ tdM st rm ≤ 28 := by { unfold tdM; (repeat' split) <;> omega }
                      refine j_iload dX2_read_138 rfl ?_
                      refine j_bipush dX2_read_140 (by decide) ?_
                      refine j_icmp_ne 149 dX2_read_142 (by decide) ⟨⟨by omega, by omega⟩, ⟨by omega, by omega⟩⟩ (fun c142 => ?_) (fun c142 => False.elim (by omega))
                      refine j_iload dX2_read_149 rfl ?_
                      refine j_bipush dX2_read_151 (by decide) ?_
                      refine j_icmp_ne 172 dX2_read_153 (by decide) ⟨⟨by omega, by omega⟩, ⟨by omega, by omega⟩⟩ (fun c153 => ?_) (fun c153 => False.elim (by omega))
                      refine j_iload dX2_read_172 rfl ?_
                      refine j_bipush dX2_read_174 (by decide) ?_
                      refine j_icmp_ne 183 dX2_read_176 (by decide) ⟨⟨by omega, by omega⟩, ⟨by omega, by omega⟩⟩ (fun c176 => ?_) (fun c176 => False.elim (by omega))
                      refine j_iconst dX2_read_183 ?_
                      refine j_istore_n [some (.ref m), some (vi 4), some (vi dg), some (vi nb), some (vi k), some (vi ((sg.2 20) k)), some (vi 1)] dX2_read_184 (by decide) rfl rfl ?_
                      refine j_iconst dX2_read_185 ?_
                      refine j_istore_n [some (.ref m), some (vi 4), some (vi dg), some (vi 0), some (vi k), some (vi ((sg.2 20) k)), some (vi 1)] dX2_read_186 (by decide) rfl rfl ?_
                      refine j_iconst dX2_read_187 ?_
                      refine j_istore_n [some (.ref m), some (vi 4), some (vi 0), some (vi 0), some (vi k), some (vi ((sg.2 20) k)), some (vi 1)] dX2_read_188 (by decide) rfl rfl ?_
                      refine j_iinc [some (.ref m), some (vi 4), some (vi 0), some (vi 0), some (vi (k + 1)), some (vi ((sg.2 20) k)), some (vi 1)] dX2_read_189 rfl (by decide) rfl rfl ?_
                      refine m_goto 14 dX2_read_192 (by decide) ?_
                      refine mw_forget 5 ?_
                      refine mw_forget 6 ?_
                      exact ih14 _ (by omega) _ _ _ _ _ _ rfl (by omega) (by rw [rdI_s hk.1, hR]; first | exact rdS_d (by omega) | exact rdS_g (by omega) (by omega) (by (repeat' split) <;> omega)) (by first | exact rdB_d hB (by omega) | exact rdB_g hB (x := sg.2 20 k) (by omega) (by (repeat' split) <;> omega)) (by first | assumption | exact ok44_td ho (by omega))
                · refine j_iload_n dX2_read_100 rfl ?_
                  refine j_iconst dX2_read_101 ?_
                  refine j_icmp_ge 117 dX2_read_102 (by decide) ⟨⟨by omega, by omega⟩, ⟨by omega, by omega⟩⟩ (fun c102 => ?_) (fun c102 => ?_)
                  · refine j_iconst dX2_read_117 ?_
                    refine m_goto 122 dX2_read_118 (by decide) ?_
                    refine j_istore [some (.ref m), some (vi st), some (vi dg), some (vi nb), some (vi k), some (vi ((sg.2 20) k)), some (vi 1)] dX2_read_122 (by decide) rfl rfl ?_
                    refine j_iload dX2_read_124 rfl ?_
                    refine j_if_ne 132 dX2_read_126 (by decide) ⟨by decide, by decide⟩ (fun _ => ?_) (fun c => absurd c (by decide))
                    refine m_aload_n dX2_read_132 rfl ?_
                    refine j_iload_n dX2_read_133 rfl ?_
                    refine j_iload_n dX2_read_134 rfl ?_
                    refine t_inv [(vi st), (vi nb)] dX2_read_135 q3377 q3379 qs87 q3380 rfl (c_told K 0 h m sg _ _ rm row hT ⟨by omega, by omega⟩ ⟨by omega, by omega⟩ ⟨by omega, by omega⟩ (fun _ => by omega)) pdX2_told ⟨Nat.le_of_ble_eq_true rfl, by decide, by omega⟩ (kk_v fun h135 q135 => ?_) kx_v
                    obtain rfl := q135
                    have tmb : 0 ≤ tdM st rm ∧ tdM st rm ≤ 28 := by { unfold tdM; (repeat' split) <;> omega }
                    refine j_iload dX2_read_138 rfl ?_
                    refine j_bipush dX2_read_140 (by decide) ?_
                    refine j_icmp_ne 149 dX2_read_142 (by decide) ⟨⟨by omega, by omega⟩, ⟨by omega, by omega⟩⟩ (fun c142 => ?_) (fun c142 => False.elim (by omega))
                    refine j_iload dX2_read_149 rfl ?_
                    refine j_bipush dX2_read_151 (by decide) ?_
                    refine j_icmp_ne 172 dX2_read_153 (by decide) ⟨⟨by omega, by omega⟩, ⟨by omega, by omega⟩⟩ (fun c153 => ?_) (fun c153 => False.elim (by omega))
                    refine j_iload dX2_read_172 rfl ?_
                    refine j_bipush dX2_read_174 (by decide) ?_
                    refine j_icmp_ne 183 dX2_read_176 (by decide) ⟨⟨by omega, by omega⟩, ⟨by omega, by omega⟩⟩ (fun c176 => False.elim (by omega)) (fun c176 => ?_)
                    refine j_iconst dX2_read_179 ?_
                    refine m_goto 184 dX2_read_180 (by decide) ?_
                    refine j_istore_n [some (.ref m), some (vi 1), some (vi dg), some (vi nb), some (vi k), some (vi ((sg.2 20) k)), some (vi 1)] dX2_read_184 (by decide) rfl rfl ?_
                    refine j_iconst dX2_read_185 ?_
                    refine j_istore_n [some (.ref m), some (vi 1), some (vi dg), some (vi 0), some (vi k), some (vi ((sg.2 20) k)), some (vi 1)] dX2_read_186 (by decide) rfl rfl ?_
                    refine j_iconst dX2_read_187 ?_
                    refine j_istore_n [some (.ref m), some (vi 1), some (vi 0), some (vi 0), some (vi k), some (vi ((sg.2 20) k)), some (vi 1)] dX2_read_188 (by decide) rfl rfl ?_
                    refine j_iinc [some (.ref m), some (vi 1), some (vi 0), some (vi 0), some (vi (k + 1)), some (vi ((sg.2 20) k)), some (vi 1)] dX2_read_189 rfl (by decide) rfl rfl ?_
                    refine m_goto 14 dX2_read_192 (by decide) ?_
                    refine mw_forget 5 ?_
                    refine mw_forget 6 ?_
                    exact ih14 _ (by omega) _ _ _ _ _ _ rfl (by omega) (by rw [rdI_s hk.1, hR]; first | exact rdS_d (by omega) | exact rdS_g (by omega) (by omega) (by (repeat' split) <;> omega)) (by first | exact rdB_d hB (by omega) | exact rdB_g hB (x := sg.2 20 k) (by omega) (by (repeat' split) <;> omega)) (by first | assumption | exact ok44_td ho (by omega))
                  · refine j_iload dX2_read_105 rfl ?_
                    refine j_bipush dX2_read_107 (by decide) ?_
                    refine j_icmp_ne 121 dX2_read_109 (by decide) ⟨⟨by omega, by omega⟩, ⟨by omega, by omega⟩⟩ (fun c109 => ?_) (fun c109 => ?_)
                    · refine j_iconst dX2_read_121 ?_
                      refine j_istore [some (.ref m), some (vi st), some (vi dg), some (vi nb), some (vi k), some (vi ((sg.2 20) k)), some (vi 0)] dX2_read_122 (by decide) rfl rfl ?_
                      refine j_iload dX2_read_124 rfl ?_
                      refine j_if_ne 132 dX2_read_126 (by decide) ⟨by decide, by decide⟩ (fun c => absurd c (by decide)) (fun _ => ?_)
                      refine j_iload dX2_read_129 rfl ?_
                      subst hQ; exact j_iret dX2_read_131 rfl (⟨rm, row, rfl, ⟨by omega, by omega⟩, ho, ⟨by omega, by omega⟩, Or.inl ⟨by omega, by omega, _, hR, rdS_n (by omega) (by omega)⟩⟩)
                    · refine j_iload_n dX2_read_112 rfl ?_
                      refine j_iconst dX2_read_113 ?_
                      refine j_icmp_ne 121 dX2_read_114 (by decide) ⟨⟨by omega, by omega⟩, ⟨by omega, by omega⟩⟩ (fun c114 => ?_) (fun c114 => ?_)
                      · refine j_iconst dX2_read_121 ?_
                        refine j_istore [some (.ref m), some (vi st), some (vi dg), some (vi nb), some (vi k), some (vi ((sg.2 20) k)), some (vi 0)] dX2_read_122 (by decide) rfl rfl ?_
                        refine j_iload dX2_read_124 rfl ?_
                        refine j_if_ne 132 dX2_read_126 (by decide) ⟨by decide, by decide⟩ (fun c => absurd c (by decide)) (fun _ => ?_)
                        refine j_iload dX2_read_129 rfl ?_
                        subst hQ; exact j_iret dX2_read_131 rfl (⟨rm, row, rfl, ⟨by omega, by omega⟩, ho, ⟨by omega, by omega⟩, Or.inl ⟨by omega, by omega, _, hR, rdS_n (by omega) (by omega)⟩⟩)
                      · refine j_iconst dX2_read_117 ?_
                        refine m_goto 122 dX2_read_118 (by decide) ?_
                        refine j_istore [some (.ref m), some (vi st), some (vi dg), some (vi nb), some (vi k), some (vi ((sg.2 20) k)), some (vi 1)] dX2_read_122 (by decide) rfl rfl ?_
                        refine j_iload dX2_read_124 rfl ?_
                        refine j_if_ne 132 dX2_read_126 (by decide) ⟨by decide, by decide⟩ (fun _ => ?_) (fun c => absurd c (by decide))
                        refine m_aload_n dX2_read_132 rfl ?_
                        refine j_iload_n dX2_read_133 rfl ?_
                        refine j_iload_n dX2_read_134 rfl ?_
                        refine t_inv [(vi st), (vi nb)] dX2_read_135 q3377 q3379 qs87 q3380 rfl (c_told K 0 h m sg _ _ rm row hT ⟨by omega, by omega⟩ ⟨by omega, by omega⟩ ⟨by omega, by omega⟩ (fun _ => by omega)) pdX2_told ⟨Nat.le_of_ble_eq_true rfl, by decide, by omega⟩ (kk_v fun h135 q135 => ?_) kx_v
                        obtain rfl := q135
                        have tmb : 0 ≤ tdM st rm ∧ tdM st rm ≤ 28 := by { unfold tdM; (repeat' split) <;> omega }
                        refine j_iload dX2_read_138 rfl ?_
                        refine j_bipush dX2_read_140 (by decide) ?_
                        refine j_icmp_ne 149 dX2_read_142 (by decide) ⟨⟨by omega, by omega⟩, ⟨by omega, by omega⟩⟩ (fun c142 => ?_) (fun c142 => False.elim (by omega))
                        refine j_iload dX2_read_149 rfl ?_
                        refine j_bipush dX2_read_151 (by decide) ?_
                        refine j_icmp_ne 172 dX2_read_153 (by decide) ⟨⟨by omega, by omega⟩, ⟨by omega, by omega⟩⟩ (fun c153 => ?_) (fun c153 => False.elim (by omega))
                        refine j_iload dX2_read_172 rfl ?_
                        refine j_bipush dX2_read_174 (by decide) ?_
                        refine j_icmp_ne 183 dX2_read_176 (by decide) ⟨⟨by omega, by omega⟩, ⟨by omega, by omega⟩⟩ (fun c176 => False.elim (by omega)) (fun c176 => ?_)
                        refine j_iconst dX2_read_179 ?_
                        refine m_goto 184 dX2_read_180 (by decide) ?_
                        refine j_istore_n [some (.ref m), some (vi 1), some (vi dg), some (vi nb), some (vi k), some (vi ((sg.2 20) k)), some (vi 1)] dX2_read_184 (by decide) rfl rfl ?_
                        refine j_iconst dX2_read_185 ?_
                        refine j_istore_n [some (.ref m), some (vi 1), some (vi dg), some (vi 0), some (vi k), some (vi ((sg.2 20) k)), some (vi 1)] dX2_read_186 (by decide) rfl rfl ?_
                        refine j_iconst dX2_read_187 ?_
                        refine j_istore_n [some (.ref m), some (vi 1), some (vi 0), some (vi 0), some (vi k), some (vi ((sg.2 20) k)), some (vi 1)] dX2_read_188 (by decide) rfl rfl ?_
                        refine j_iinc [some (.ref m), some (vi 1), some (vi 0), some (vi 0), some (vi (k + 1)), some (vi ((sg.2 20) k)), some (vi 1)] dX2_read_189 rfl (by decide) rfl rfl ?_
                        refine m_goto 14 dX2_read_192 (by decide) ?_
                        refine mw_forget 5 ?_
                        refine mw_forget 6 ?_
                        exact ih14 _ (by omega) _ _ _ _ _ _ rfl (by omega) (by rw [rdI_s hk.1, hR]; first | exact rdS_d (by omega) | exact rdS_g (by omega) (by omega) (by (repeat' split) <;> omega)) (by first | exact rdB_d hB (by omega) | exact rdB_g hB (x := sg.2 20 k) (by omega) (by (repeat' split) <;> omega)) (by first | assumption | exact ok44_td ho (by omega))
              · refine j_iload_n dX2_read_88 rfl ?_
                refine j_iconst dX2_read_89 ?_
                refine j_icmp_eq 117 dX2_read_90 (by decide) ⟨⟨by omega, by omega⟩, ⟨by omega, by omega⟩⟩ (fun c90 => ?_) (fun c90 => ?_)
                · refine j_iconst dX2_read_117 ?_
                  refine m_goto 122 dX2_read_118 (by decide) ?_
                  refine j_istore [some (.ref m), some (vi st), some (vi dg), some (vi nb), some (vi k), some (vi ((sg.2 20) k)), some (vi 1)] dX2_read_122 (by decide) rfl rfl ?_
                  refine j_iload dX2_read_124 rfl ?_
                  refine j_if_ne 132 dX2_read_126 (by decide) ⟨by decide, by decide⟩ (fun _ => ?_) (fun c => absurd c (by decide))
                  refine m_aload_n dX2_read_132 rfl ?_
                  refine j_iload_n dX2_read_133 rfl ?_
                  refine j_iload_n dX2_read_134 rfl ?_
                  refine t_inv [(vi st), (vi nb)] dX2_read_135 q3377 q3379 qs87 q3380 rfl (c_told K 0 h m sg _ _ rm row hT ⟨by omega, by omega⟩ ⟨by omega, by omega⟩ ⟨by omega, by omega⟩ (fun _ => by omega)) pdX2_told ⟨Nat.le_of_ble_eq_true rfl, by decide, by omega⟩ (kk_v fun h135 q135 => ?_) kx_v
                  obtain rfl := q135
                  have tmb : 0 ≤ tdM st rm ∧ tdM st rm ≤ 28 := by { unfold tdM; (repeat' split) <;> omega }
                  refine j_iload dX2_read_138 rfl ?_
                  refine j_bipush dX2_read_140 (by decide) ?_
                  refine j_icmp_ne 149 dX2_read_142 (by decide) ⟨⟨by omega, by omega⟩, ⟨by omega, by omega⟩⟩ (fun c142 => ?_) (fun c142 => False.elim (by omega))
                  refine j_iload dX2_read_149 rfl ?_
                  refine j_bipush dX2_read_151 (by decide) ?_
                  refine j_icmp_ne 172 dX2_read_153 (by decide) ⟨⟨by omega, by omega⟩, ⟨by omega, by omega⟩⟩ (fun c153 => False.elim (by omega)) (fun c153 => ?_)
                  refine m_aload_n dX2_read_156 rfl ?_
                  refine t_geti 45 (by decide) (tdM st rm) dX2_read_157 q3138 rfl ?_
                  refine j_iconst dX2_read_160 ?_
                  refine j_icmp_ne 168 dX2_read_161 (by decide) ⟨⟨by omega, by omega⟩, ⟨by omega, by omega⟩⟩ (fun c161 => ?_) (fun c161 => ?_)
                  · refine j_iconst dX2_read_168 ?_
                    refine m_goto 184 dX2_read_169 (by decide) ?_
                    refine j_istore_n [some (.ref m), some (vi 3), some (vi dg), some (vi nb), some (vi k), some (vi ((sg.2 20) k)), some (vi 1)] dX2_read_184 (by decide) rfl rfl ?_
                    refine j_iconst dX2_read_185 ?_
                    refine j_istore_n [some (.ref m), some (vi 3), some (vi dg), some (vi 0), some (vi k), some (vi ((sg.2 20) k)), some (vi 1)] dX2_read_186 (by decide) rfl rfl ?_
                    refine j_iconst dX2_read_187 ?_
                    refine j_istore_n [some (.ref m), some (vi 3), some (vi 0), some (vi 0), some (vi k), some (vi ((sg.2 20) k)), some (vi 1)] dX2_read_188 (by decide) rfl rfl ?_
                    refine j_iinc [some (.ref m), some (vi 3), some (vi 0), some (vi 0), some (vi (k + 1)), some (vi ((sg.2 20) k)), some (vi 1)] dX2_read_189 rfl (by decide) rfl rfl ?_
                    refine m_goto 14 dX2_read_192 (by decide) ?_
                    refine mw_forget 5 ?_
                    refine mw_forget 6 ?_
                    exact ih14 _ (by omega) _ _ _ _ _ _ rfl (by omega) (by rw [rdI_s hk.1, hR]; first | exact rdS_d (by omega) | exact rdS_g (by omega) (by omega) (by (repeat' split) <;> omega)) (by first | exact rdB_d hB (by omega) | exact rdB_g hB (x := sg.2 20 k) (by omega) (by (repeat' split) <;> omega)) (by first | assumption | exact ok44_td ho (by omega))
                  · refine j_iconst dX2_read_164 ?_
                    refine m_goto 184 dX2_read_165 (by decide) ?_
                    refine j_istore_n [some (.ref m), some (vi 2), some (vi dg), some (vi nb), some (vi k), some (vi ((sg.2 20) k)), some (vi 1)] dX2_read_184 (by decide) rfl rfl ?_
                    refine j_iconst dX2_read_185 ?_
                    refine j_istore_n [some (.ref m), some (vi 2), some (vi dg), some (vi 0), some (vi k), some (vi ((sg.2 20) k)), some (vi 1)] dX2_read_186 (by decide) rfl rfl ?_
                    refine j_iconst dX2_read_187 ?_
                    refine j_istore_n [some (.ref m), some (vi 2), some (vi 0), some (vi 0), some (vi k), some (vi ((sg.2 20) k)), some (vi 1)] dX2_read_188 (by decide) rfl rfl ?_
                    refine j_iinc [some (.ref m), some (vi 2), some (vi 0), some (vi 0), some (vi (k + 1)), some (vi ((sg.2 20) k)), some (vi 1)] dX2_read_189 rfl (by decide) rfl rfl ?_
                    refine m_goto 14 dX2_read_192 (by decide) ?_
                    refine mw_forget 5 ?_
                    refine mw_forget 6 ?_
                    exact ih14 _ (by omega) _ _ _ _ _ _ rfl (by omega) (by rw [rdI_s hk.1, hR]; first | exact rdS_d (by omega) | exact rdS_g (by omega) (by omega) (by (repeat' split) <;> omega)) (by first | exact rdB_d hB (by omega) | exact rdB_g hB (x := sg.2 20 k) (by omega) (by (repeat' split) <;> omega)) (by first | assumption | exact ok44_td ho (by omega))
                · refine j_iload dX2_read_93 rfl ?_
                  refine j_bipush dX2_read_95 (by decide) ?_
                  refine j_icmp_ne 105 dX2_read_97 (by decide) ⟨⟨by omega, by omega⟩, ⟨by omega, by omega⟩⟩ (fun c97 => ?_) (fun c97 => ?_)
                  · refine j_iload dX2_read_105 rfl ?_
                    refine j_bipush dX2_read_107 (by decide) ?_
                    refine j_icmp_ne 121 dX2_read_109 (by decide) ⟨⟨by omega, by omega⟩, ⟨by omega, by omega⟩⟩ (fun c109 => ?_) (fun c109 => ?_)
                    · refine j_iconst dX2_read_121 ?_
                      refine j_istore [some (.ref m), some (vi st), some (vi dg), some (vi nb), some (vi k), some (vi ((sg.2 20) k)), some (vi 0)] dX2_read_122 (by decide) rfl rfl ?_
                      refine j_iload dX2_read_124 rfl ?_
                      refine j_if_ne 132 dX2_read_126 (by decide) ⟨by decide, by decide⟩ (fun c => absurd c (by decide)) (fun _ => ?_)
                      refine j_iload dX2_read_129 rfl ?_
                      subst hQ; exact j_iret dX2_read_131 rfl (⟨rm, row, rfl, ⟨by omega, by omega⟩, ho, ⟨by omega, by omega⟩, Or.inl ⟨by omega, by omega, _, hR, rdS_n (by omega) (by omega)⟩⟩)
                    · refine j_iload_n dX2_read_112 rfl ?_
                      refine j_iconst dX2_read_113 ?_
                      refine j_icmp_ne 121 dX2_read_114 (by decide) ⟨⟨by omega, by omega⟩, ⟨by omega, by omega⟩⟩ (fun c114 => ?_) (fun c114 => ?_)
                      · refine j_iconst dX2_read_121 ?_
                        refine j_istore [some (.ref m), some (vi st), some (vi dg), some (vi nb), some (vi k), some (vi ((sg.2 20) k)), some (vi 0)] dX2_read_122 (by decide) rfl rfl ?_
                        refine j_iload dX2_read_124 rfl ?_
                        refine j_if_ne 132 dX2_read_126 (by decide) ⟨by decide, by decide⟩ (fun c => absurd c (by decide)) (fun _ => ?_)
                        refine j_iload dX2_read_129 rfl ?_
                        subst hQ; exact j_iret dX2_read_131 rfl (⟨rm, row, rfl, ⟨by omega, by omega⟩, ho, ⟨by omega, by omega⟩, Or.inl ⟨by omega, by omega, _, hR, rdS_n (by omega) (by omega)⟩⟩)
                      · refine j_iconst dX2_read_117 ?_
                        refine m_goto 122 dX2_read_118 (by decide) ?_
                        refine j_istore [some (.ref m), some (vi st), some (vi dg), some (vi nb), some (vi k), some (vi ((sg.2 20) k)), some (vi 1)] dX2_read_122 (by decide) rfl rfl ?_
                        refine j_iload dX2_read_124 rfl ?_
                        refine j_if_ne 132 dX2_read_126 (by decide) ⟨by decide, by decide⟩ (fun _ => ?_) (fun c => absurd c (by decide))
                        refine m_aload_n dX2_read_132 rfl ?_
                        refine j_iload_n dX2_read_133 rfl ?_
                        refine j_iload_n dX2_read_134 rfl ?_
                        refine t_inv [(vi st), (vi nb)] dX2_read_135 q3377 q3379 qs87 q3380 rfl (c_told K 0 h m sg _ _ rm row hT ⟨by omega, by omega⟩ ⟨by omega, by omega⟩ ⟨by omega, by omega⟩ (fun _ => by omega)) pdX2_told ⟨Nat.le_of_ble_eq_true rfl, by decide, by omega⟩ (kk_v fun h135 q135 => ?_) kx_v
                        obtain rfl := q135
                        have tmb : 0 ≤ tdM st rm ∧ tdM st rm ≤ 28 := by { unfold tdM; (repeat' split) <;> omega }
                        refine j_iload dX2_read_138 rfl ?_
                        refine j_bipush dX2_read_140 (by decide) ?_
                        refine j_icmp_ne 149 dX2_read_142 (by decide) ⟨⟨by omega, by omega⟩, ⟨by omega, by omega⟩⟩ (fun c142 => ?_) (fun c142 => False.elim (by omega))
                        refine j_iload dX2_read_149 rfl ?_
                        refine j_bipush dX2_read_151 (by decide) ?_
                        refine j_icmp_ne 172 dX2_read_153 (by decide) ⟨⟨by omega, by omega⟩, ⟨by omega, by omega⟩⟩ (fun c153 => False.elim (by omega)) (fun c153 => ?_)
                        refine m_aload_n dX2_read_156 rfl ?_
                        refine t_geti 45 (by decide) (tdM st rm) dX2_read_157 q3138 rfl ?_
                        refine j_iconst dX2_read_160 ?_
                        refine j_icmp_ne 168 dX2_read_161 (by decide) ⟨⟨by omega, by omega⟩, ⟨by omega, by omega⟩⟩ (fun c161 => ?_) (fun c161 => ?_)
                        · refine j_iconst dX2_read_168 ?_
                          refine m_goto 184 dX2_read_169 (by decide) ?_
                          refine j_istore_n [some (.ref m), some (vi 3), some (vi dg), some (vi nb), some (vi k), some (vi ((sg.2 20) k)), some (vi 1)] dX2_read_184 (by decide) rfl rfl ?_
                          refine j_iconst dX2_read_185 ?_
                          refine j_istore_n [some (.ref m), some (vi 3), some (vi dg), some (vi 0), some (vi k), some (vi ((sg.2 20) k)), some (vi 1)] dX2_read_186 (by decide) rfl rfl ?_
                          refine j_iconst dX2_read_187 ?_
                          refine j_istore_n [some (.ref m), some (vi 3), some (vi 0), some (vi 0), some (vi k), some (vi ((sg.2 20) k)), some (vi 1)] dX2_read_188 (by decide) rfl rfl ?_
                          refine j_iinc [some (.ref m), some (vi 3), some (vi 0), some (vi 0), some (vi (k + 1)), some (vi ((sg.2 20) k)), some (vi 1)] dX2_read_189 rfl (by decide) rfl rfl ?_
                          refine m_goto 14 dX2_read_192 (by decide) ?_
                          refine mw_forget 5 ?_
                          refine mw_forget 6 ?_
                          exact ih14 _ (by omega) _ _ _ _ _ _ rfl (by omega) (by rw [rdI_s hk.1, hR]; first | exact rdS_d (by omega) | exact rdS_g (by omega) (by omega) (by (repeat' split) <;> omega)) (by first | exact rdB_d hB (by omega) | exact rdB_g hB (x := sg.2 20 k) (by omega) (by (repeat' split) <;> omega)) (by first | assumption | exact ok44_td ho (by omega))
                        · refine j_iconst dX2_read_164 ?_
                          refine m_goto 184 dX2_read_165 (by decide) ?_
                          refine j_istore_n [some (.ref m), some (vi 2), some (vi dg), some (vi nb), some (vi k), some (vi ((sg.2 20) k)), some (vi 1)] dX2_read_184 (by decide) rfl rfl ?_
                          refine j_iconst dX2_read_185 ?_
                          refine j_istore_n [some (.ref m), some (vi 2), some (vi dg), some (vi 0), some (vi k), some (vi ((sg.2 20) k)), some (vi 1)] dX2_read_186 (by decide) rfl rfl ?_
                          refine j_iconst dX2_read_187 ?_
                          refine j_istore_n [some (.ref m), some (vi 2), some (vi 0), some (vi 0), some (vi k), some (vi ((sg.2 20) k)), some (vi 1)] dX2_read_188 (by decide) rfl rfl ?_
                          refine j_iinc [some (.ref m), some (vi 2), some (vi 0), some (vi 0), some (vi (k + 1)), some (vi ((sg.2 20) k)), some (vi 1)] dX2_read_189 rfl (by decide) rfl rfl ?_
                          refine m_goto 14 dX2_read_192 (by decide) ?_
                          refine mw_forget 5 ?_
                          refine mw_forget 6 ?_
                          exact ih14 _ (by omega) _ _ _ _ _ _ rfl (by omega) (by rw [rdI_s hk.1, hR]; first | exact rdS_d (by omega) | exact rdS_g (by omega) (by omega) (by (repeat' split) <;> omega)) (by first | exact rdB_d hB (by omega) | exact rdB_g hB (x := sg.2 20 k) (by omega) (by (repeat' split) <;> omega)) (by first | assumption | exact ok44_td ho (by omega))
                  · refine j_iload_n dX2_read_100 rfl ?_
                    refine j_iconst dX2_read_101 ?_
                    refine j_icmp_ge 117 dX2_read_102 (by decide) ⟨⟨by omega, by omega⟩, ⟨by omega, by omega⟩⟩ (fun c102 => ?_) (fun c102 => ?_)
                    · refine j_iconst dX2_read_117 ?_
                      refine m_goto 122 dX2_read_118 (by decide) ?_
                      refine j_istore [some (.ref m), some (vi st), some (vi dg), some (vi nb), some (vi k), some (vi ((sg.2 20) k)), some (vi 1)] dX2_read_122 (by decide) rfl rfl ?_
                      refine j_iload dX2_read_124 rfl ?_
                      refine j_if_ne 132 dX2_read_126 (by decide) ⟨by decide, by decide⟩ (fun _ => ?_) (fun c => absurd c (by decide))
                      refine m_aload_n dX2_read_132 rfl ?_
                      refine j_iload_n dX2_read_133 rfl ?_
                      refine j_iload_n dX2_read_134 rfl ?_
                      refine t_inv [(vi st), (vi nb)] dX2_read_135 q3377 q3379 qs87 q3380 rfl (c_told K 0 h m sg _ _ rm row hT ⟨by omega, by omega⟩ ⟨by omega, by omega⟩ ⟨by omega, by omega⟩ (fun _ => by omega)) pdX2_told ⟨Nat.le_of_ble_eq_true rfl, by decide, by omega⟩ (kk_v fun h135 q135 => ?_) kx_v
                      obtain rfl := q135
                      have tmb : 0 ≤ tdM st rm ∧ tdM st rm ≤ 28 := by { unfold tdM; (repeat' split) <;> omega }
                      refine j_iload dX2_read_138 rfl ?_
                      refine j_bipush dX2_read_140 (by decide) ?_
                      refine j_icmp_ne 149 dX2_read_142 (by decide) ⟨⟨by omega, by omega⟩, ⟨by omega, by omega⟩⟩ (fun c142 => ?_) (fun c142 => False.elim (by omega))
                      refine j_iload dX2_read_149 rfl ?_
                      refine j_bipush dX2_read_151 (by decide) ?_
                      refine j_icmp_ne 172 dX2_read_153 (by decide) ⟨⟨by omega, by omega⟩, ⟨by omega, by omega⟩⟩ (fun c153 => False.elim (by omega)) (fun c153 => ?_)
                      refine m_aload_n dX2_read_156 rfl ?_
                      refine t_geti 45 (by decide) (tdM st rm) dX2_read_157 q3138 rfl ?_
                      refine j_iconst dX2_read_160 ?_
                      refine j_icmp_ne 168 dX2_read_161 (by decide) ⟨⟨by omega, by omega⟩, ⟨by omega, by omega⟩⟩ (fun c161 => ?_) (fun c161 => ?_)
                      · refine j_iconst dX2_read_168 ?_
                        refine m_goto 184 dX2_read_169 (by decide) ?_
                        refine j_istore_n [some (.ref m), some (vi 3), some (vi dg), some (vi nb), some (vi k), some (vi ((sg.2 20) k)), some (vi 1)] dX2_read_184 (by decide) rfl rfl ?_
                        refine j_iconst dX2_read_185 ?_
                        refine j_istore_n [some (.ref m), some (vi 3), some (vi dg), some (vi 0), some (vi k), some (vi ((sg.2 20) k)), some (vi 1)] dX2_read_186 (by decide) rfl rfl ?_
                        refine j_iconst dX2_read_187 ?_
                        refine j_istore_n [some (.ref m), some (vi 3), some (vi 0), some (vi 0), some (vi k), some (vi ((sg.2 20) k)), some (vi 1)] dX2_read_188 (by decide) rfl rfl ?_
                        refine j_iinc [some (.ref m), some (vi 3), some (vi 0), some (vi 0), some (vi (k + 1)), some (vi ((sg.2 20) k)), some (vi 1)] dX2_read_189 rfl (by decide) rfl rfl ?_
                        refine m_goto 14 dX2_read_192 (by decide) ?_
                        refine mw_forget 5 ?_
                        refine mw_forget 6 ?_
                        exact ih14 _ (by omega) _ _ _ _ _ _ rfl (by omega) (by rw [rdI_s hk.1, hR]; first | exact rdS_d (by omega) | exact rdS_g (by omega) (by omega) (by (repeat' split) <;> omega)) (by first | exact rdB_d hB (by omega) | exact rdB_g hB (x := sg.2 20 k) (by omega) (by (repeat' split) <;> omega)) (by first | assumption | exact ok44_td ho (by omega))
                      · refine j_iconst dX2_read_164 ?_
                        refine m_goto 184 dX2_read_165 (by decide) ?_
                        refine j_istore_n [some (.ref m), some (vi 2), some (vi dg), some (vi nb), some (vi k), some (vi ((sg.2 20) k)), some (vi 1)] dX2_read_184 (by decide) rfl rfl ?_
                        refine j_iconst dX2_read_185 ?_
                        refine j_istore_n [some (.ref m), some (vi 2), some (vi dg), some (vi 0), some (vi k), some (vi ((sg.2 20) k)), some (vi 1)] dX2_read_186 (by decide) rfl rfl ?_
                        refine j_iconst dX2_read_187 ?_
                        refine j_istore_n [some (.ref m), some (vi 2), some (vi 0), some (vi 0), some (vi k), some (vi ((sg.2 20) k)), some (vi 1)] dX2_read_188 (by decide) rfl rfl ?_
                        refine j_iinc [some (.ref m), some (vi 2), some (vi 0), some (vi 0), some (vi (k + 1)), some (vi ((sg.2 20) k)), some (vi 1)] dX2_read_189 rfl (by decide) rfl rfl ?_
                        refine m_goto 14 dX2_read_192 (by decide) ?_
                        refine mw_forget 5 ?_
                        refine mw_forget 6 ?_
                        exact ih14 _ (by omega) _ _ _ _ _ _ rfl (by omega) (by rw [rdI_s hk.1, hR]; first | exact rdS_d (by omega) | exact rdS_g (by omega) (by omega) (by (repeat' split) <;> omega)) (by first | exact rdB_d hB (by omega) | exact rdB_g hB (x := sg.2 20 k) (by omega) (by (repeat' split) <;> omega)) (by first | assumption | exact ok44_td ho (by omega))
                    · refine j_iload dX2_read_105 rfl ?_
                      refine j_bipush dX2_read_107 (by decide) ?_
                      refine j_icmp_ne 121 dX2_read_109 (by decide) ⟨⟨by omega, by omega⟩, ⟨by omega, by omega⟩⟩ (fun c109 => ?_) (fun c109 => ?_)
                      · refine j_iconst dX2_read_121 ?_
                        refine j_istore [some (.ref m), some (vi st), some (vi dg), some (vi nb), some (vi k), some (vi ((sg.2 20) k)), some (vi 0)] dX2_read_122 (by decide) rfl rfl ?_
                        refine j_iload dX2_read_124 rfl ?_
                        refine j_if_ne 132 dX2_read_126 (by decide) ⟨by decide, by decide⟩ (fun c => absurd c (by decide)) (fun _ => ?_)
                        refine j_iload dX2_read_129 rfl ?_
                        subst hQ; exact j_iret dX2_read_131 rfl (⟨rm, row, rfl, ⟨by omega, by omega⟩, ho, ⟨by omega, by omega⟩, Or.inl ⟨by omega, by omega, _, hR, rdS_n (by omega) (by omega)⟩⟩)
                      · refine j_iload_n dX2_read_112 rfl ?_
                        refine j_iconst dX2_read_113 ?_
                        refine j_icmp_ne 121 dX2_read_114 (by decide) ⟨⟨by omega, by omega⟩, ⟨by omega, by omega⟩⟩ (fun c114 => ?_) (fun c114 => ?_)
                        · refine j_iconst dX2_read_121 ?_
                          refine j_istore [some (.ref m), some (vi st), some (vi dg), some (vi nb), some (vi k), some (vi ((sg.2 20) k)), some (vi 0)] dX2_read_122 (by decide) rfl rfl ?_
                          refine j_iload dX2_read_124 rfl ?_
                          refine j_if_ne 132 dX2_read_126 (by decide) ⟨by decide, by decide⟩ (fun c => absurd c (by decide)) (fun _ => ?_)
                          refine j_iload dX2_read_129 rfl ?_
                          subst hQ; exact j_iret dX2_read_131 rfl (⟨rm, row, rfl, ⟨by omega, by omega⟩, ho, ⟨by omega, by omega⟩, Or.inl ⟨by omega, by omega, _, hR, rdS_n (by omega) (by omega)⟩⟩)
                        · refine j_iconst dX2_read_117 ?_
                          refine m_goto 122 dX2_read_118 (by decide) ?_
                          refine j_istore [some (.ref m), some (vi st), some (vi dg), some (vi nb), some (vi k), some (vi ((sg.2 20) k)), some (vi 1)] dX2_read_122 (by decide) rfl rfl ?_
                          refine j_iload dX2_read_124 rfl ?_
                          refine j_if_ne 132 dX2_read_126 (by decide) ⟨by decide, by decide⟩ (fun _ => ?_) (fun c => absurd c (by decide))
                          refine m_aload_n dX2_read_132 rfl ?_
                          refine j_iload_n dX2_read_133 rfl ?_
                          refine j_iload_n dX2_read_134 rfl ?_
                          refine t_inv [(vi st), (vi nb)] dX2_read_135 q3377 q3379 qs87 q3380 rfl (c_told K 0 h m sg _ _ rm row hT ⟨by omega, by omega⟩ ⟨by omega, by omega⟩ ⟨by omega, by omega⟩ (fun _ => by omega)) pdX2_told ⟨Nat.le_of_ble_eq_true rfl, by decide, by omega⟩ (kk_v fun h135 q135 => ?_) kx_v
                          obtain rfl := q135
                          have tmb : 0 ≤ tdM st rm ∧ tdM st rm ≤ 28 := by { unfold tdM; (repeat' split) <;> omega }
                          refine j_iload dX2_read_138 rfl ?_
                          refine j_bipush dX2_read_140 (by decide) ?_
                          refine j_icmp_ne 149 dX2_read_142 (by decide) ⟨⟨by omega, by omega⟩, ⟨by omega, by omega⟩⟩ (fun c142 => ?_) (fun c142 => False.elim (by omega))
                          refine j_iload dX2_read_149 rfl ?_
                          refine j_bipush dX2_read_151 (by decide) ?_
                          refine j_icmp_ne 172 dX2_read_153 (by decide) ⟨⟨by omega, by omega⟩, ⟨by omega, by omega⟩⟩ (fun c153 => False.elim (by omega)) (fun c153 => ?_)
                          refine m_aload_n dX2_read_156 rfl ?_
                          refine t_geti 45 (by decide) (tdM st rm) dX2_read_157 q3138 rfl ?_
                          refine j_iconst dX2_read_160 ?_
                          refine j_icmp_ne 168 dX2_read_161 (by decide) ⟨⟨by omega, by omega⟩, ⟨by omega, by omega⟩⟩ (fun c161 => ?_) (fun c161 => ?_)
                          · refine j_iconst dX2_read_168 ?_
                            refine m_goto 184 dX2_read_169 (by decide) ?_
                            refine j_istore_n [some (.ref m), some (vi 3), some (vi dg), some (vi nb), some (vi k), some (vi ((sg.2 20) k)), some (vi 1)] dX2_read_184 (by decide) rfl rfl ?_
                            refine j_iconst dX2_read_185 ?_
                            refine j_istore_n [some (.ref m), some (vi 3), some (vi dg), some (vi 0), some (vi k), some (vi ((sg.2 20) k)), some (vi 1)] dX2_read_186 (by decide) rfl rfl ?_
                            refine j_iconst dX2_read_187 ?_
                            refine j_istore_n [some (.ref m), some (vi 3), some (vi 0), some (vi 0), some (vi k), some (vi ((sg.2 20) k)), some (vi 1)] dX2_read_188 (by decide) rfl rfl ?_
                            refine j_iinc [some (.ref m), some (vi 3), some (vi 0), some (vi 0), some (vi (k + 1)), some (vi ((sg.2 20) k)), some (vi 1)] dX2_read_189 rfl (by decide) rfl rfl ?_
                            refine m_goto 14 dX2_read_192 (by decide) ?_
                            refine mw_forget 5 ?_
                            refine mw_forget 6 ?_
                            exact ih14 _ (by omega) _ _ _ _ _ _ rfl (by omega) (by rw [rdI_s hk.1, hR]; first | exact rdS_d (by omega) | exact rdS_g (by omega) (by omega) (by (repeat' split) <;> omega)) (by first | exact rdB_d hB (by omega) | exact rdB_g hB (x := sg.2 20 k) (by omega) (by (repeat' split) <;> omega)) (by first | assumption | exact ok44_td ho (by omega))
                          · refine j_iconst dX2_read_164 ?_
                            refine m_goto 184 dX2_read_165 (by decide) ?_
                            refine j_istore_n [some (.ref m), some (vi 2), some (vi dg), some (vi nb), some (vi k), some (vi ((sg.2 20) k)), some (vi 1)] dX2_read_184 (by decide) rfl rfl ?_
                            refine j_iconst dX2_read_185 ?_
                            refine j_istore_n [some (.ref m), some (vi 2), some (vi dg), some (vi 0), some (vi k), some (vi ((sg.2 20) k)), some (vi 1)] dX2_read_186 (by decide) rfl rfl ?_
                            refine j_iconst dX2_read_187 ?_
                            refine j_istore_n [some (.ref m), some (vi 2), some (vi 0), some (vi 0), some (vi k), some (vi ((sg.2 20) k)), some (vi 1)] dX2_read_188 (by decide) rfl rfl ?_
                            refine j_iinc [some (.ref m), some (vi 2), some (vi 0), some (vi 0), some (vi (k + 1)), some (vi ((sg.2 20) k)), some (vi 1)] dX2_read_189 rfl (by decide) rfl rfl ?_
                            refine m_goto 14 dX2_read_192 (by decide) ?_
                            refine mw_forget 5 ?_
                            refine mw_forget 6 ?_
                            exact ih14 _ (by omega) _ _ _ _ _ _ rfl (by omega) (by rw [rdI_s hk.1, hR]; first | exact rdS_d (by omega) | exact rdS_g (by omega) (by omega) (by (repeat' split) <;> omega)) (by first | exact rdB_d hB (by omega) | exact rdB_g hB (x := sg.2 20 k) (by omega) (by (repeat' split) <;> omega)) (by first | assumption | exact ok44_td ho (by omega))
            · refine j_iload_n dX2_read_77 rfl ?_
              refine j_if_eq 117 dX2_read_78 (by decide) ⟨by omega, by omega⟩ (fun c78 => ?_) (fun c78 => ?_)
              · refine j_iconst dX2_read_117 ?_
                refine m_goto 122 dX2_read_118 (by decide) ?_
                refine j_istore [some (.ref m), some (vi st), some (vi dg), some (vi nb), some (vi k), some (vi ((sg.2 20) k)), some (vi 1)] dX2_read_122 (by decide) rfl rfl ?_
                refine j_iload dX2_read_124 rfl ?_
                refine j_if_ne 132 dX2_read_126 (by decide) ⟨by decide, by decide⟩ (fun _ => ?_) (fun c => absurd c (by decide))
                refine m_aload_n dX2_read_132 rfl ?_
                refine j_iload_n dX2_read_133 rfl ?_
                refine j_iload_n dX2_read_134 rfl ?_
                refine t_inv [(vi st), (vi nb)] dX2_read_135 q3377 q3379 qs87 q3380 rfl (c_told K 0 h m sg _ _ rm row hT ⟨by omega, by omega⟩ ⟨by omega, by omega⟩ ⟨by omega, by omega⟩ (fun _ => by omega)) pdX2_told ⟨Nat.le_of_ble_eq_true rfl, by decide, by omega⟩ (kk_v fun h135 q135 => ?_) kx_v
                obtain rfl := q135
                have tmb : 0 ≤ tdM st rm ∧ tdM st rm ≤ 28 := by { unfold tdM; (repeat' split) <;> omega }
                refine j_iload dX2_read_138 rfl ?_
                refine j_bipush dX2_read_140 (by decide) ?_
                refine j_icmp_ne 149 dX2_read_142 (by decide) ⟨⟨by omega, by omega⟩, ⟨by omega, by omega⟩⟩ (fun c142 => False.elim (by omega)) (fun c142 => ?_)
                refine j_iconst dX2_read_145 ?_
                refine m_goto 184 dX2_read_146 (by decide) ?_
                refine j_istore_n [some (.ref m), some (vi 1), some (vi dg), some (vi nb), some (vi k), some (vi ((sg.2 20) k)), some (vi 1)] dX2_read_184 (by decide) rfl rfl ?_
                refine j_iconst dX2_read_185 ?_
                refine j_istore_n [some (.ref m), some (vi 1), some (vi dg), some (vi 0), some (vi k), some (vi ((sg.2 20) k)), some (vi 1)] dX2_read_186 (by decide) rfl rfl ?_
                refine j_iconst dX2_read_187 ?_
                refine j_istore_n [some (.ref m), some (vi 1), some (vi 0), some (vi 0), some (vi k), some (vi ((sg.2 20) k)), some (vi 1)] dX2_read_188 (by decide) rfl rfl ?_
                refine j_iinc [some (.ref m), some (vi 1), some (vi 0), some (vi 0), some (vi (k + 1)), some (vi ((sg.2 20) k)), some (vi 1)] dX2_read_189 rfl (by decide) rfl rfl ?_
                refine m_goto 14 dX2_read_192 (by decide) ?_
                refine mw_forget 5 ?_
                refine mw_forget 6 ?_
                exact ih14 _ (by omega) _ _ _ _ _ _ rfl (by omega) (by rw [rdI_s hk.1, hR]; first | exact rdS_d (by omega) | exact rdS_g (by omega) (by omega) (by (repeat' split) <;> omega)) (by first | exact rdB_d hB (by omega) | exact rdB_g hB (x := sg.2 20 k) (by omega) (by (repeat' split) <;> omega)) (by first | assumption | exact ok44_td ho (by omega))
              · refine j_iload dX2_read_81 rfl ?_
                refine j_bipush dX2_read_83 (by decide) ?_
                refine j_icmp_ne 93 dX2_read_85 (by decide) ⟨⟨by omega, by omega⟩, ⟨by omega, by omega⟩⟩ (fun c85 => ?_) (fun c85 => ?_)
                · refine j_iload dX2_read_93 rfl ?_
                  refine j_bipush dX2_read_95 (by decide) ?_
                  refine j_icmp_ne 105 dX2_read_97 (by decide) ⟨⟨by omega, by omega⟩, ⟨by omega, by omega⟩⟩ (fun c97 => ?_) (fun c97 => ?_)
                  · refine j_iload dX2_read_105 rfl ?_
                    refine j_bipush dX2_read_107 (by decide) ?_
                    refine j_icmp_ne 121 dX2_read_109 (by decide) ⟨⟨by omega, by omega⟩, ⟨by omega, by omega⟩⟩ (fun c109 => ?_) (fun c109 => ?_)
                    · refine j_iconst dX2_read_121 ?_
                      refine j_istore [some (.ref m), some (vi st), some (vi dg), some (vi nb), some (vi k), some (vi ((sg.2 20) k)), some (vi 0)] dX2_read_122 (by decide) rfl rfl ?_
                      refine j_iload dX2_read_124 rfl ?_
                      refine j_if_ne 132 dX2_read_126 (by decide) ⟨by decide, by decide⟩ (fun c => absurd c (by decide)) (fun _ => ?_)
                      refine j_iload dX2_read_129 rfl ?_
                      subst hQ; exact j_iret dX2_read_131 rfl (⟨rm, row, rfl, ⟨by omega, by omega⟩, ho, ⟨by omega, by omega⟩, Or.inl ⟨by omega, by omega, _, hR, rdS_n (by omega) (by omega)⟩⟩)
                    · refine j_iload_n dX2_read_112 rfl ?_
                      refine j_iconst dX2_read_113 ?_
                      refine j_icmp_ne 121 dX2_read_114 (by decide) ⟨⟨by omega, by omega⟩, ⟨by omega, by omega⟩⟩ (fun c114 => ?_) (fun c114 => ?_)
                      · refine j_iconst dX2_read_121 ?_
                        refine j_istore [some (.ref m), some (vi st), some (vi dg), some (vi nb), some (vi k), some (vi ((sg.2 20) k)), some (vi 0)] dX2_read_122 (by decide) rfl rfl ?_
                        refine j_iload dX2_read_124 rfl ?_
                        refine j_if_ne 132 dX2_read_126 (by decide) ⟨by decide, by decide⟩ (fun c => absurd c (by decide)) (fun _ => ?_)
                        refine j_iload dX2_read_129 rfl ?_
                        subst hQ; exact j_iret dX2_read_131 rfl (⟨rm, row, rfl, ⟨by omega, by omega⟩, ho, ⟨by omega, by omega⟩, Or.inl ⟨by omega, by omega, _, hR, rdS_n (by omega) (by omega)⟩⟩)
                      · refine j_iconst dX2_read_117 ?_
                        refine m_goto 122 dX2_read_118 (by decide) ?_
                        refine j_istore [some (.ref m), some (vi st), some (vi dg), some (vi nb), some (vi k), some (vi ((sg.2 20) k)), some (vi 1)] dX2_read_122 (by decide) rfl rfl ?_
                        refine j_iload dX2_read_124 rfl ?_
                        refine j_if_ne 132 dX2_read_126 (by decide) ⟨by decide, by decide⟩ (fun _ => ?_) (fun c => absurd c (by decide))
                        refine m_aload_n dX2_read_132 rfl ?_
                        refine j_iload_n dX2_read_133 rfl ?_
                        refine j_iload_n dX2_read_134 rfl ?_
                        refine t_inv [(vi st), (vi nb)] dX2_read_135 q3377 q3379 qs87 q3380 rfl (c_told K 0 h m sg _ _ rm row hT ⟨by omega, by omega⟩ ⟨by omega, by omega⟩ ⟨by omega, by omega⟩ (fun _ => by omega)) pdX2_told ⟨Nat.le_of_ble_eq_true rfl, by decide, by omega⟩ (kk_v fun h135 q135 => ?_) kx_v
                        obtain rfl := q135
                        have tmb : 0 ≤ tdM st rm ∧ tdM st rm ≤ 28 := by { unfold tdM; (repeat' split) <;> omega }
                        refine j_iload dX2_read_138 rfl ?_
                        refine j_bipush dX2_read_140 (by decide) ?_
                        refine j_icmp_ne 149 dX2_read_142 (by decide) ⟨⟨by omega, by omega⟩, ⟨by omega, by omega⟩⟩ (fun c142 => False.elim (by omega)) (fun c142 => ?_)
                        refine j_iconst dX2_read_145 ?_
                        refine m_goto 184 dX2_read_146 (by decide) ?_
                        refine j_istore_n [some (.ref m), some (vi 1), some (vi dg), some (vi nb), some (vi k), some (vi ((sg.2 20) k)), some (vi 1)] dX2_read_184 (by decide) rfl rfl ?_
                        refine j_iconst dX2_read_185 ?_
                        refine j_istore_n [some (.ref m), some (vi 1), some (vi dg), some (vi 0), some (vi k), some (vi ((sg.2 20) k)), some (vi 1)] dX2_read_186 (by decide) rfl rfl ?_
                        refine j_iconst dX2_read_187 ?_
                        refine j_istore_n [some (.ref m), some (vi 1), some (vi 0), some (vi 0), some (vi k), some (vi ((sg.2 20) k)), some (vi 1)] dX2_read_188 (by decide) rfl rfl ?_
                        refine j_iinc [some (.ref m), some (vi 1), some (vi 0), some (vi 0), some (vi (k + 1)), some (vi ((sg.2 20) k)), some (vi 1)] dX2_read_189 rfl (by decide) rfl rfl ?_
                        refine m_goto 14 dX2_read_192 (by decide) ?_
                        refine mw_forget 5 ?_
                        refine mw_forget 6 ?_
                        exact ih14 _ (by omega) _ _ _ _ _ _ rfl (by omega) (by rw [rdI_s hk.1, hR]; first | exact rdS_d (by omega) | exact rdS_g (by omega) (by omega) (by (repeat' split) <;> omega)) (by first | exact rdB_d hB (by omega) | exact rdB_g hB (x := sg.2 20 k) (by omega) (by (repeat' split) <;> omega)) (by first | assumption | exact ok44_td ho (by omega))
                  · refine j_iload_n dX2_read_100 rfl ?_
                    refine j_iconst dX2_read_101 ?_
                    refine j_icmp_ge 117 dX2_read_102 (by decide) ⟨⟨by omega, by omega⟩, ⟨by omega, by omega⟩⟩ (fun c102 => ?_) (fun c102 => ?_)
                    · refine j_iconst dX2_read_117 ?_
                      refine m_goto 122 dX2_read_118 (by decide) ?_
                      refine j_istore [some (.ref m), some (vi st), some (vi dg), some (vi nb), some (vi k), some (vi ((sg.2 20) k)), some (vi 1)] dX2_read_122 (by decide) rfl rfl ?_
                      refine j_iload dX2_read_124 rfl ?_
                      refine j_if_ne 132 dX2_read_126 (by decide) ⟨by decide, by decide⟩ (fun _ => ?_) (fun c => absurd c (by decide))
                      refine m_aload_n dX2_read_132 rfl ?_
                      refine j_iload_n dX2_read_133 rfl ?_
                      refine j_iload_n dX2_read_134 rfl ?_
                      refine t_inv [(vi st), (vi nb)] dX2_read_135 q3377 q3379 qs87 q3380 rfl (c_told K 0 h m sg _ _ rm row hT ⟨by omega, by omega⟩ ⟨by omega, by omega⟩ ⟨by omega, by omega⟩ (fun _ => by omega)) pdX2_told ⟨Nat.le_of_ble_eq_true rfl, by decide, by omega⟩ (kk_v fun h135 q135 => ?_) kx_v
                      obtain rfl := q135
                      have tmb : 0 ≤ tdM st rm ∧ tdM st rm ≤ 28 := by { unfold tdM; (repeat' split) <;> omega }
                      refine j_iload dX2_read_138 rfl ?_
                      refine j_bipush dX2_read_140 (by decide) ?_
                      refine j_icmp_ne 149 dX2_read_142 (by decide) ⟨⟨by omega, by omega⟩, ⟨by omega, by omega⟩⟩ (fun c142 => False.elim (by omega)) (fun c142 => ?_)
                      refine j_iconst dX2_read_145 ?_
                      refine m_goto 184 dX2_read_146 (by decide) ?_
                      refine j_istore_n [some (.ref m), some (vi 1), some (vi dg), some (vi nb), some (vi k), some (vi ((sg.2 20) k)), some (vi 1)] dX2_read_184 (by decide) rfl rfl ?_
                      refine j_iconst dX2_read_185 ?_
                      refine j_istore_n [some (.ref m), some (vi 1), some (vi dg), some (vi 0), some (vi k), some (vi ((sg.2 20) k)), some (vi 1)] dX2_read_186 (by decide) rfl rfl ?_
                      refine j_iconst dX2_read_187 ?_
                      refine j_istore_n [some (.ref m), some (vi 1), some (vi 0), some (vi 0), some (vi k), some (vi ((sg.2 20) k)), some (vi 1)] dX2_read_188 (by decide) rfl rfl ?_
                      refine j_iinc [some (.ref m), some (vi 1), some (vi 0), some (vi 0), some (vi (k + 1)), some (vi ((sg.2 20) k)), some (vi 1)] dX2_read_189 rfl (by decide) rfl rfl ?_
                      refine m_goto 14 dX2_read_192 (by decide) ?_
                      refine mw_forget 5 ?_
                      refine mw_forget 6 ?_
                      exact ih14 _ (by omega) _ _ _ _ _ _ rfl (by omega) (by rw [rdI_s hk.1, hR]; first | exact rdS_d (by omega) | exact rdS_g (by omega) (by omega) (by (repeat' split) <;> omega)) (by first | exact rdB_d hB (by omega) | exact rdB_g hB (x := sg.2 20 k) (by omega) (by (repeat' split) <;> omega)) (by first | assumption | exact ok44_td ho (by omega))
                    · refine j_iload dX2_read_105 rfl ?_
                      refine j_bipush dX2_read_107 (by decide) ?_
                      refine j_icmp_ne 121 dX2_read_109 (by decide) ⟨⟨by omega, by omega⟩, ⟨by omega, by omega⟩⟩ (fun c109 => ?_) (fun c109 => ?_)
                      · refine j_iconst dX2_read_121 ?_
                        refine j_istore [some (.ref m), some (vi st), some (vi dg), some (vi nb), some (vi k), some (vi ((sg.2 20) k)), some (vi 0)] dX2_read_122 (by decide) rfl rfl ?_
                        refine j_iload dX2_read_124 rfl ?_
                        refine j_if_ne 132 dX2_read_126 (by decide) ⟨by decide, by decide⟩ (fun c => absurd c (by decide)) (fun _ => ?_)
                        refine j_iload dX2_read_129 rfl ?_
                        subst hQ; exact j_iret dX2_read_131 rfl (⟨rm, row, rfl, ⟨by omega, by omega⟩, ho, ⟨by omega, by omega⟩, Or.inl ⟨by omega, by omega, _, hR, rdS_n (by omega) (by omega)⟩⟩)
                      · refine j_iload_n dX2_read_112 rfl ?_
                        refine j_iconst dX2_read_113 ?_
                        refine j_icmp_ne 121 dX2_read_114 (by decide) ⟨⟨by omega, by omega⟩, ⟨by omega, by omega⟩⟩ (fun c114 => ?_) (fun c114 => ?_)
                        · refine j_iconst dX2_read_121 ?_
                          refine j_istore [some (.ref m), some (vi st), some (vi dg), some (vi nb), some (vi k), some (vi ((sg.2 20) k)), some (vi 0)] dX2_read_122 (by decide) rfl rfl ?_
                          refine j_iload dX2_read_124 rfl ?_
                          refine j_if_ne 132 dX2_read_126 (by decide) ⟨by decide, by decide⟩ (fun c => absurd c (by decide)) (fun _ => ?_)
                          refine j_iload dX2_read_129 rfl ?_
                          subst hQ; exact j_iret dX2_read_131 rfl (⟨rm, row, rfl, ⟨by omega, by omega⟩, ho, ⟨by omega, by omega⟩, Or.inl ⟨by omega, by omega, _, hR, rdS_n (by omega) (by omega)⟩⟩)
                        · refine j_iconst dX2_read_117 ?_
                          refine m_goto 122 dX2_read_118 (by decide) ?_
                          refine j_istore [some (.ref m), some (vi st), some (vi dg), some (vi nb), some (vi k), some (vi ((sg.2 20) k)), some (vi 1)] dX2_read_122 (by decide) rfl rfl ?_
                          refine j_iload dX2_read_124 rfl ?_
                          refine j_if_ne 132 dX2_read_126 (by decide) ⟨by decide, by decide⟩ (fun _ => ?_) (fun c => absurd c (by decide))
                          refine m_aload_n dX2_read_132 rfl ?_
                          refine j_iload_n dX2_read_133 rfl ?_
                          refine j_iload_n dX2_read_134 rfl ?_
                          refine t_inv [(vi st), (vi nb)] dX2_read_135 q3377 q3379 qs87 q3380 rfl (c_told K 0 h m sg _ _ rm row hT ⟨by omega, by omega⟩ ⟨by omega, by omega⟩ ⟨by omega, by omega⟩ (fun _ => by omega)) pdX2_told ⟨Nat.le_of_ble_eq_true rfl, by decide, by omega⟩ (kk_v fun h135 q135 => ?_) kx_v
                          obtain rfl := q135
                          have tmb : 0 ≤ tdM st rm ∧ tdM st rm ≤ 28 := by { unfold tdM; (repeat' split) <;> omega }
                          refine j_iload dX2_read_138 rfl ?_
                          refine j_bipush dX2_read_140 (by decide) ?_
                          refine j_icmp_ne 149 dX2_read_142 (by decide) ⟨⟨by omega, by omega⟩, ⟨by omega, by omega⟩⟩ (fun c142 => False.elim (by omega)) (fun c142 => ?_)
                          refine j_iconst dX2_read_145 ?_
                          refine m_goto 184 dX2_read_146 (by decide) ?_
                          refine j_istore_n [some (.ref m), some (vi 1), some (vi dg), some (vi nb), some (vi k), some (vi ((sg.2 20) k)), some (vi 1)] dX2_read_184 (by decide) rfl rfl ?_
                          refine j_iconst dX2_read_185 ?_
                          refine j_istore_n [some (.ref m), some (vi 1), some (vi dg), some (vi 0), some (vi k), some (vi ((sg.2 20) k)), some (vi 1)] dX2_read_186 (by decide) rfl rfl ?_
                          refine j_iconst dX2_read_187 ?_
                          refine j_istore_n [some (.ref m), some (vi 1), some (vi 0), some (vi 0), some (vi k), some (vi ((sg.2 20) k)), some (vi 1)] dX2_read_188 (by decide) rfl rfl ?_
                          refine j_iinc [some (.ref m), some (vi 1), some (vi 0), some (vi 0), some (vi (k + 1)), some (vi ((sg.2 20) k)), some (vi 1)] dX2_read_189 rfl (by decide) rfl rfl ?_
                          refine m_goto 14 dX2_read_192 (by decide) ?_
                          refine mw_forget 5 ?_
                          refine mw_forget 6 ?_
                          exact ih14 _ (by omega) _ _ _ _ _ _ rfl (by omega) (by rw [rdI_s hk.1, hR]; first | exact rdS_d (by omega) | exact rdS_g (by omega) (by omega) (by (repeat' split) <;> omega)) (by first | exact rdB_d hB (by omega) | exact rdB_g hB (x := sg.2 20 k) (by omega) (by (repeat' split) <;> omega)) (by first | assumption | exact ok44_td ho (by omega))
                · refine j_iload_n dX2_read_88 rfl ?_
                  refine j_iconst dX2_read_89 ?_
                  refine j_icmp_eq 117 dX2_read_90 (by decide) ⟨⟨by omega, by omega⟩, ⟨by omega, by omega⟩⟩ (fun c90 => ?_) (fun c90 => ?_)
                  · refine j_iconst dX2_read_117 ?_
                    refine m_goto 122 dX2_read_118 (by decide) ?_
                    refine j_istore [some (.ref m), some (vi st), some (vi dg), some (vi nb), some (vi k), some (vi ((sg.2 20) k)), some (vi 1)] dX2_read_122 (by decide) rfl rfl ?_
                    refine j_iload dX2_read_124 rfl ?_
                    refine j_if_ne 132 dX2_read_126 (by decide) ⟨by decide, by decide⟩ (fun _ => ?_) (fun c => absurd c (by decide))
                    refine m_aload_n dX2_read_132 rfl ?_
                    refine j_iload_n dX2_read_133 rfl ?_
                    refine j_iload_n dX2_read_134 rfl ?_
                    refine t_inv [(vi st), (vi nb)] dX2_read_135 q3377 q3379 qs87 q3380 rfl (c_told K 0 h m sg _ _ rm row hT ⟨by omega, by omega⟩ ⟨by omega, by omega⟩ ⟨by omega, by omega⟩ (fun _ => by omega)) pdX2_told ⟨Nat.le_of_ble_eq_true rfl, by decide, by omega⟩ (kk_v fun h135 q135 => ?_) kx_v
                    obtain rfl := q135
                    have tmb : 0 ≤ tdM st rm ∧ tdM st rm ≤ 28 := by { unfold tdM; (repeat' split) <;> omega }
                    refine j_iload dX2_read_138 rfl ?_
                    refine j_bipush dX2_read_140 (by decide) ?_
                    refine j_icmp_ne 149 dX2_read_142 (by decide) ⟨⟨by omega, by omega⟩, ⟨by omega, by omega⟩⟩ (fun c142 => False.elim (by omega)) (fun c142 => ?_)
                    refine j_iconst dX2_read_145 ?_
                    refine m_goto 184 dX2_read_146 (by decide) ?_
                    refine j_istore_n [some (.ref m), some (vi 1), some (vi dg), some (vi nb), some (vi k), some (vi ((sg.2 20) k)), some (vi 1)] dX2_read_184 (by decide) rfl rfl ?_
                    refine j_iconst dX2_read_185 ?_
                    refine j_istore_n [some (.ref m), some (vi 1), some (vi dg), some (vi 0), some (vi k), some (vi ((sg.2 20) k)), some (vi 1)] dX2_read_186 (by decide) rfl rfl ?_
                    refine j_iconst dX2_read_187 ?_
                    refine j_istore_n [some (.ref m), some (vi 1), some (vi 0), some (vi 0), some (vi k), some (vi ((sg.2 20) k)), some (vi 1)] dX2_read_188 (by decide) rfl rfl ?_
                    refine j_iinc [some (.ref m), some (vi 1), some (vi 0), some (vi 0), some (vi (k + 1)), some (vi ((sg.2 20) k)), some (vi 1)] dX2_read_189 rfl (by decide) rfl rfl ?_
                    refine m_goto 14 dX2_read_192 (by decide) ?_
                    refine mw_forget 5 ?_
                    refine mw_forget 6 ?_
                    exact ih14 _ (by omega) _ _ _ _ _ _ rfl (by omega) (by rw [rdI_s hk.1, hR]; first | exact rdS_d (by omega) | exact rdS_g (by omega) (by omega) (by (repeat' split) <;> omega)) (by first | exact rdB_d hB (by omega) | exact rdB_g hB (x := sg.2 20 k) (by omega) (by (repeat' split) <;> omega)) (by first | assumption | exact ok44_td ho (by omega))
                  · refine j_iload dX2_read_93 rfl ?_
                    refine j_bipush dX2_read_95 (by decide) ?_
                    refine j_icmp_ne 105 dX2_read_97 (by decide) ⟨⟨by omega, by omega⟩, ⟨by omega, by omega⟩⟩ (fun c97 => ?_) (fun c97 => ?_)
                    · refine j_iload dX2_read_105 rfl ?_
                      refine j_bipush dX2_read_107 (by decide) ?_
                      refine j_icmp_ne 121 dX2_read_109 (by decide) ⟨⟨by omega, by omega⟩, ⟨by omega, by omega⟩⟩ (fun c109 => ?_) (fun c109 => ?_)
                      · refine j_iconst dX2_read_121 ?_
                        refine j_istore [some (.ref m), some (vi st), some (vi dg), some (vi nb), some (vi k), some (vi ((sg.2 20) k)), some (vi 0)] dX2_read_122 (by decide) rfl rfl ?_
                        refine j_iload dX2_read_124 rfl ?_
                        refine j_if_ne 132 dX2_read_126 (by decide) ⟨by decide, by decide⟩ (fun c => absurd c (by decide)) (fun _ => ?_)
                        refine j_iload dX2_read_129 rfl ?_
                        subst hQ; exact j_iret dX2_read_131 rfl (⟨rm, row, rfl, ⟨by omega, by omega⟩, ho, ⟨by omega, by omega⟩, Or.inl ⟨by omega, by omega, _, hR, rdS_n (by omega) (by omega)⟩⟩)
                      · refine j_iload_n dX2_read_112 rfl ?_
                        refine j_iconst dX2_read_113 ?_
                        refine j_icmp_ne 121 dX2_read_114 (by decide) ⟨⟨by omega, by omega⟩, ⟨by omega, by omega⟩⟩ (fun c114 => ?_) (fun c114 => ?_)
                        · refine j_iconst dX2_read_121 ?_
                          refine j_istore [some (.ref m), some (vi st), some (vi dg), some (vi nb), some (vi k), some (vi ((sg.2 20) k)), some (vi 0)] dX2_read_122 (by decide) rfl rfl ?_
                          refine j_iload dX2_read_124 rfl ?_
                          refine j_if_ne 132 dX2_read_126 (by decide) ⟨by decide, by decide⟩ (fun c => absurd c (by decide)) (fun _ => ?_)
                          refine j_iload dX2_read_129 rfl ?_
                          subst hQ; exact j_iret dX2_read_131 rfl (⟨rm, row, rfl, ⟨by omega, by omega⟩, ho, ⟨by omega, by omega⟩, Or.inl ⟨by omega, by omega, _, hR, rdS_n (by omega) (by omega)⟩⟩)
                        · refine j_iconst dX2_read_117 ?_
                          refine m_goto 122 dX2_read_118 (by decide) ?_
                          refine j_istore [some (.ref m), some (vi st), some (vi dg), some (vi nb), some (vi k), some (vi ((sg.2 20) k)), some (vi 1)] dX2_read_122 (by decide) rfl rfl ?_
                          refine j_iload dX2_read_124 rfl ?_
                          refine j_if_ne 132 dX2_read_126 (by decide) ⟨by decide, by decide⟩ (fun _ => ?_) (fun c => absurd c (by decide))
                          refine m_aload_n dX2_read_132 rfl ?_
                          refine j_iload_n dX2_read_133 rfl ?_
                          refine j_iload_n dX2_read_134 rfl ?_
                          refine t_inv [(vi st), (vi nb)] dX2_read_135 q3377 q3379 qs87 q3380 rfl (c_told K 0 h m sg _ _ rm row hT ⟨by omega, by omega⟩ ⟨by omega, by omega⟩ ⟨by omega, by omega⟩ (fun _ => by omega)) pdX2_told ⟨Nat.le_of_ble_eq_true rfl, by decide, by omega⟩ (kk_v fun h135 q135 => ?_) kx_v
                          obtain rfl := q135
                          have tmb : 0 ≤ tdM st rm ∧ tdM st rm ≤ 28 := by { unfold tdM; (repeat' split) <;> omega }
                          refine j_iload dX2_read_138 rfl ?_
                          refine j_bipush dX2_read_140 (by decide) ?_
                          refine j_icmp_ne 149 dX2_read_142 (by decide) ⟨⟨by omega, by omega⟩, ⟨by omega, by omega⟩⟩ (fun c142 => False.elim (by omega)) (fun c142 => ?_)
                          refine j_iconst dX2_read_145 ?_
                          refine m_goto 184 dX2_read_146 (by decide) ?_
                          refine j_istore_n [some (.ref m), some (vi 1), some (vi dg), some (vi nb), some (vi k), some (vi ((sg.2 20) k)), some (vi 1)] dX2_read_184 (by decide) rfl rfl ?_
                          refine j_iconst dX2_read_185 ?_
                          refine j_istore_n [some (.ref m), some (vi 1), some (vi dg), some (vi 0), some (vi k), some (vi ((sg.2 20) k)), some (vi 1)] dX2_read_186 (by decide) rfl rfl ?_
                          refine j_iconst dX2_read_187 ?_
                          refine j_istore_n [some (.ref m), some (vi 1), some (vi 0), some (vi 0), some (vi k), some (vi ((sg.2 20) k)), some (vi 1)] dX2_read_188 (by decide) rfl rfl ?_
                          refine j_iinc [some (.ref m), some (vi 1), some (vi 0), some (vi 0), some (vi (k + 1)), some (vi ((sg.2 20) k)), some (vi 1)] dX2_read_189 rfl (by decide) rfl rfl ?_
                          refine m_goto 14 dX2_read_192 (by decide) ?_
                          refine mw_forget 5 ?_
                          refine mw_forget 6 ?_
                          exact ih14 _ (by omega) _ _ _ _ _ _ rfl (by omega) (by rw [rdI_s hk.1, hR]; first | exact rdS_d (by omega) | exact rdS_g (by omega) (by omega) (by (repeat' split) <;> omega)) (by first | exact rdB_d hB (by omega) | exact rdB_g hB (x := sg.2 20 k) (by omega) (by (repeat' split) <;> omega)) (by first | assumption | exact ok44_td ho (by omega))
                    · refine j_iload_n dX2_read_100 rfl ?_
                      refine j_iconst dX2_read_101 ?_
                      refine j_icmp_ge 117 dX2_read_102 (by decide) ⟨⟨by omega, by omega⟩, ⟨by omega, by omega⟩⟩ (fun c102 => ?_) (fun c102 => ?_)
                      · refine j_iconst dX2_read_117 ?_
                        refine m_goto 122 dX2_read_118 (by decide) ?_
                        refine j_istore [some (.ref m), some (vi st), some (vi dg), some (vi nb), some (vi k), some (vi ((sg.2 20) k)), some (vi 1)] dX2_read_122 (by decide) rfl rfl ?_
                        refine j_iload dX2_read_124 rfl ?_
                        refine j_if_ne 132 dX2_read_126 (by decide) ⟨by decide, by decide⟩ (fun _ => ?_) (fun c => absurd c (by decide))
                        refine m_aload_n dX2_read_132 rfl ?_
                        refine j_iload_n dX2_read_133 rfl ?_
                        refine j_iload_n dX2_read_134 rfl ?_
                        refine t_inv [(vi st), (vi nb)] dX2_read_135 q3377 q3379 qs87 q3380 rfl (c_told K 0 h m sg _ _ rm row hT ⟨by omega, by omega⟩ ⟨by omega, by omega⟩ ⟨by omega, by omega⟩ (fun _ => by omega)) pdX2_told ⟨Nat.le_of_ble_eq_true rfl, by decide, by omega⟩ (kk_v fun h135 q135 => ?_) kx_v
                        obtain rfl := q135
                        have tmb : 0 ≤ tdM st rm ∧ tdM st rm ≤ 28 := by { unfold tdM; (repeat' split) <;> omega }
                        refine j_iload dX2_read_138 rfl ?_
                        refine j_bipush dX2_read_140 (by decide) ?_
                        refine j_icmp_ne 149 dX2_read_142 (by decide) ⟨⟨by omega, by omega⟩, ⟨by omega, by omega⟩⟩ (fun c142 => False.elim (by omega)) (fun c142 => ?_)
                        refine j_iconst dX2_read_145 ?_
                        refine m_goto 184 dX2_read_146 (by decide) ?_
                        refine j_istore_n [some (.ref m), some (vi 1), some (vi dg), some (vi nb), some (vi k), some (vi ((sg.2 20) k)), some (vi 1)] dX2_read_184 (by decide) rfl rfl ?_
                        refine j_iconst dX2_read_185 ?_
                        refine j_istore_n [some (.ref m), some (vi 1), some (vi dg), some (vi 0), some (vi k), some (vi ((sg.2 20) k)), some (vi 1)] dX2_read_186 (by decide) rfl rfl ?_
                        refine j_iconst dX2_read_187 ?_
                        refine j_istore_n [some (.ref m), some (vi 1), some (vi 0), some (vi 0), some (vi k), some (vi ((sg.2 20) k)), some (vi 1)] dX2_read_188 (by decide) rfl rfl ?_
                        refine j_iinc [some (.ref m), some (vi 1), some (vi 0), some (vi 0), some (vi (k + 1)), some (vi ((sg.2 20) k)), some (vi 1)] dX2_read_189 rfl (by decide) rfl rfl ?_
                        refine m_goto 14 dX2_read_192 (by decide) ?_
                        refine mw_forget 5 ?_
                        refine mw_forget 6 ?_
                        exact ih14 _ (by omega) _ _ _ _ _ _ rfl (by omega) (by rw [rdI_s hk.1, hR]; first | exact rdS_d (by omega) | exact rdS_g (by omega) (by omega) (by (repeat' split) <;> omega)) (by first | exact rdB_d hB (by omega) | exact rdB_g hB (x := sg.2 20 k) (by omega) (by (repeat' split) <;> omega)) (by first | assumption | exact ok44_td ho (by omega))
                      · refine j_iload dX2_read_105 rfl ?_
                        refine j_bipush dX2_read_107 (by decide) ?_
                        refine j_icmp_ne 121 dX2_read_109 (by decide) ⟨⟨by omega, by omega⟩, ⟨by omega, by omega⟩⟩ (fun c109 => ?_) (fun c109 => ?_)
                        · refine j_iconst dX2_read_121 ?_
                          refine j_istore [some (.ref m), some (vi st), some (vi dg), some (vi nb), some (vi k), some (vi ((sg.2 20) k)), some (vi 0)] dX2_read_122 (by decide) rfl rfl ?_
                          refine j_iload dX2_read_124 rfl ?_
                          refine j_if_ne 132 dX2_read_126 (by decide) ⟨by decide, by decide⟩ (fun c => absurd c (by decide)) (fun _ => ?_)
                          refine j_iload dX2_read_129 rfl ?_
                          subst hQ; exact j_iret dX2_read_131 rfl (⟨rm, row, rfl, ⟨by omega, by omega⟩, ho, ⟨by omega, by omega⟩, Or.inl ⟨by omega, by omega, _, hR, rdS_n (by omega) (by omega)⟩⟩)
                        · refine j_iload_n dX2_read_112 rfl ?_
                          refine j_iconst dX2_read_113 ?_
                          refine j_icmp_ne 121 dX2_read_114 (by decide) ⟨⟨by omega, by omega⟩, ⟨by omega, by omega⟩⟩ (fun c114 => ?_) (fun c114 => ?_)
                          · refine j_iconst dX2_read_121 ?_
                            refine j_istore [some (.ref m), some (vi st), some (vi dg), some (vi nb), some (vi k), some (vi ((sg.2 20) k)), some (vi 0)] dX2_read_122 (by decide) rfl rfl ?_
                            refine j_iload dX2_read_124 rfl ?_
                            refine j_if_ne 132 dX2_read_126 (by decide) ⟨by decide, by decide⟩ (fun c => absurd c (by decide)) (fun _ => ?_)
                            refine j_iload dX2_read_129 rfl ?_
                            subst hQ; exact j_iret dX2_read_131 rfl (⟨rm, row, rfl, ⟨by omega, by omega⟩, ho, ⟨by omega, by omega⟩, Or.inl ⟨by omega, by omega, _, hR, rdS_n (by omega) (by omega)⟩⟩)
                          · refine j_iconst dX2_read_117 ?_
                            refine m_goto 122 dX2_read_118 (by decide) ?_
                            refine j_istore [some (.ref m), some (vi st), some (vi dg), some (vi nb), some (vi k), some (vi ((sg.2 20) k)), some (vi 1)] dX2_read_122 (by decide) rfl rfl ?_
                            refine j_iload dX2_read_124 rfl ?_
                            refine j_if_ne 132 dX2_read_126 (by decide) ⟨by decide, by decide⟩ (fun _ => ?_) (fun c => absurd c (by decide))
                            refine m_aload_n dX2_read_132 rfl ?_
                            refine j_iload_n dX2_read_133 rfl ?_
                            refine j_iload_n dX2_read_134 rfl ?_
                            refine t_inv [(vi st), (vi nb)] dX2_read_135 q3377 q3379 qs87 q3380 rfl (c_told K 0 h m sg _ _ rm row hT ⟨by omega, by omega⟩ ⟨by omega, by omega⟩ ⟨by omega, by omega⟩ (fun _ => by omega)) pdX2_told ⟨Nat.le_of_ble_eq_true rfl, by decide, by omega⟩ (kk_v fun h135 q135 => ?_) kx_v
                            obtain rfl := q135
                            have tmb : 0 ≤ tdM st rm ∧ tdM st rm ≤ 28 := by { unfold tdM; (repeat' split) <;> omega }
                            refine j_iload dX2_read_138 rfl ?_
                            refine j_bipush dX2_read_140 (by decide) ?_
                            refine j_icmp_ne 149 dX2_read_142 (by decide) ⟨⟨by omega, by omega⟩, ⟨by omega, by omega⟩⟩ (fun c142 => False.elim (by omega)) (fun c142 => ?_)
                            refine j_iconst dX2_read_145 ?_
                            refine m_goto 184 dX2_read_146 (by decide) ?_
                            refine j_istore_n [some (.ref m), some (vi 1), some (vi dg), some (vi nb), some (vi k), some (vi ((sg.2 20) k)), some (vi 1)] dX2_read_184 (by decide) rfl rfl ?_
                            refine j_iconst dX2_read_185 ?_
                            refine j_istore_n [some (.ref m), some (vi 1), some (vi dg), some (vi 0), some (vi k), some (vi ((sg.2 20) k)), some (vi 1)] dX2_read_186 (by decide) rfl rfl ?_
                            refine j_iconst dX2_read_187 ?_
                            refine j_istore_n [some (.ref m), some (vi 1), some (vi 0), some (vi 0), some (vi k), some (vi ((sg.2 20) k)), some (vi 1)] dX2_read_188 (by decide) rfl rfl ?_
                            refine j_iinc [some (.ref m), some (vi 1), some (vi 0), some (vi 0), some (vi (k + 1)), some (vi ((sg.2 20) k)), some (vi 1)] dX2_read_189 rfl (by decide) rfl rfl ?_
                            refine m_goto 14 dX2_read_192 (by decide) ?_
                            refine mw_forget 5 ?_
                            refine mw_forget 6 ?_
                            exact ih14 _ (by omega) _ _ _ _ _ _ rfl (by omega) (by rw [rdI_s hk.1, hR]; first | exact rdS_d (by omega) | exact rdS_g (by omega) (by omega) (by (repeat' split) <;> omega)) (by first | exact rdB_d hB (by omega) | exact rdB_g hB (x := sg.2 20 k) (by omega) (by (repeat' split) <;> omega)) (by first | assumption | exact ok44_td ho (by omega))
        · refine j_bipush dX2_read_49 (by decide) ?_
          refine j_iload_n dX2_read_51 rfl ?_
          refine j_imul dX2_read_52 ?_
          refine j_iload dX2_read_53 rfl ?_
          refine j_iadd dX2_read_55 ?_
          refine j_bipush dX2_read_56 (by decide) ?_
          refine j_isub dX2_read_58 ?_
          refine j_istore_n [some (.ref m), some (vi st), some (vi dg), some (vi (((10 * nb) + ((sg.2 20) k)) - 48)), some (vi k), some (vi ((sg.2 20) k)), none] dX2_read_59 (by decide) rfl rfl ?_
          refine j_iinc [some (.ref m), some (vi st), some (vi (dg + 1)), some (vi (((10 * nb) + ((sg.2 20) k)) - 48)), some (vi k), some (vi ((sg.2 20) k)), none] dX2_read_60 rfl (by decide) rfl rfl ?_
          refine m_goto 189 dX2_read_63 (by decide) ?_
          refine j_iinc [some (.ref m), some (vi st), some (vi (dg + 1)), some (vi (((10 * nb) + ((sg.2 20) k)) - 48)), some (vi (k + 1)), some (vi ((sg.2 20) k)), none] dX2_read_189 rfl (by decide) rfl rfl ?_
          refine m_goto 14 dX2_read_192 (by decide) ?_
          refine mw_forget 5 ?_
          exact ih14 _ (by omega) _ _ _ _ _ _ rfl (by omega) (by rw [rdI_s hk.1, hR]; first | exact rdS_d (by omega) | exact rdS_g (by omega) (by omega) (by (repeat' split) <;> omega)) (by first | exact rdB_d hB (by omega) | exact rdB_g hB (x := sg.2 20 k) (by omega) (by (repeat' split) <;> omega)) (by first | assumption | exact ok44_td ho (by omega))
  refine mw_tov (b := ovr sg [(45, 0)] [(44, (sg.2 44))]) (ovr_addA _ _ _ 44) ?_
  exact L14 _ _ _ _ _ _ _ rfl (by omega) rfl (by unfold rdB; omega) (hT.2 44)
/-- a call of the row is wrong -/
def rwB (sg : TS) (c : Int) : Prop := sg.1 1 ≤ sg.2 44 (1 + 3 * c) ∨ 2879 < sg.2 44 (1 + 3 * c + 1) ∨ 2879 < sg.2 44 (1 + 3 * c + 2) ∨ sg.2 44 (1 + 3 * c + 2) < sg.2 44 (1 + 3 * c + 1) ∨ (0 < c ∧ (sg.2 44 (1 + 3 * c + 1) ≤ sg.2 44 (1 + 3 * c - 1) ∨ sg.2 44 (1 + 3 * c) = sg.2 44 (1 + 3 * c - 3)))
def rwW (sg : TS) : Prop := (sg.1 6 ≤ sg.2 44 0 ∨ 8 < (sg.1 45 - 1) / 3) ∨ ∃ c, 0 ≤ c ∧ c < (sg.1 45 - 1) / 3 ∧ c < 8 ∧ rwB sg c
def rwE (sg : TS) (k : Int) : Prop := (sg.1 6 ≤ sg.2 44 0 ∨ 8 < (sg.1 45 - 1) / 3) ∨ ∃ c, 0 ≤ c ∧ c < k ∧ rwB sg c
theorem rw_y {sg : TS} {k : Int} (hk : 0 ≤ k) (h : rwB sg k) : (1 : Int) = 1 ↔ rwE sg (k + 1) := ⟨fun _ => Or.inr ⟨k, hk, by omega, h⟩, fun _ => rfl⟩
theorem rw_n {sg : TS} {k i : Int} (hb : i = 1 ↔ rwE sg k) (h : ¬ rwB sg k) : i = 1 ↔ rwE sg (k + 1) := by
  rw [hb]
  unfold rwE
  constructor
  · rintro (h1 | ⟨c, a, b, e⟩)
    · exact Or.inl h1
    · exact Or.inr ⟨c, a, by omega, e⟩
  · rintro (h1 | ⟨c, a, b, e⟩)
    · exact Or.inl h1
    · by_cases e2 : c = k
      · subst e2; exact absurd e h
      · exact Or.inr ⟨c, a, by omega, e⟩
theorem rw_1 {sg : TS} (h : sg.1 6 ≤ sg.2 44 0 ∨ 8 < (sg.1 45 - 1) / 3) : (1 : Int) = 1 ↔ rwE sg 0 := ⟨fun _ => Or.inl h, fun _ => rfl⟩
theorem rw_0 {sg : TS} (h : ¬ (sg.1 6 ≤ sg.2 44 0 ∨ 8 < (sg.1 45 - 1) / 3)) : (0 : Int) = 1 ↔ rwE sg 0 := ⟨fun h9 => absurd h9 (by decide), fun h9 => h9.elim (fun g => absurd g h) (fun ⟨c, a, b, _⟩ => by omega)⟩
theorem rw_f {sg : TS} {k : Int} (h1 : k ≤ (sg.1 45 - 1) / 3 ∧ k ≤ 8) (h2 : (sg.1 45 - 1) / 3 ≤ k ∨ 8 ≤ k) : rwE sg k ↔ rwW sg := ⟨fun h9 => h9.elim Or.inl fun ⟨c, a, b, e⟩ => Or.inr ⟨c, a, by omega, by omega, e⟩, fun h9 => h9.elim Or.inl fun ⟨c, a, b, b2, e⟩ => Or.inr ⟨c, a, by omega, e⟩⟩
theorem c_isRowWrong (K : KT) (d : Nat) (h : MH) (m : Nat) (sg : TS)  (hd : 0 ≤ d) (hT : TB sg)  (hr : 1 ≤ sg.1 45 ∧ sg.1 45 ≤ 28) : Mt K yiX2_isRowWrong d [.ref m] (tov K h m sg) (Rz fun v h' => h' = tov K h m sg ∧ (v = 0 ∨ v = 1) ∧ (v = 1 ↔ rwW sg)) := by
  refine mt_ofQ (by decide) (Nat.le_of_ble_eq_true rfl) (fun Q hQ => ?_)
  show MW K yiX2_isRowWrong d (tov K h m (ovr sg [] [])) 0 [some (.ref m), none, none, none, none] [] Q
  have f1 := of1 (hT.1 1)
  have f6 := of6 (hT.1 6)
  have f45 := of45 (hT.1 45)
  refine m_aload_n dX2_isRowWrong_0 rfl ?_
  refine t_geti 45 (by decide) (sg.1 45) dX2_isRowWrong_1 q3138 rfl ?_
  refine j_iconst dX2_isRowWrong_4 ?_
  refine j_isub dX2_isRowWrong_5 ?_
  refine j_iconst dX2_isRowWrong_6 ?_
  refine j_idiv dX2_isRowWrong_7 ⟨⟨by omega, by omega⟩, ⟨by omega, by omega⟩⟩ ⟨by omega, by omega⟩ ?_
  refine j_istore_n [some (.ref m), some (vi (((sg.1 45) - 1) / 3)), none, none, none] dX2_isRowWrong_8 (by decide) rfl rfl ?_
  refine m_aload_n dX2_isRowWrong_9 rfl ?_
  refine t_geta 44 31 (by decide) dX2_isRowWrong_10 q3137 rfl ?_
  refine j_iconst dX2_isRowWrong_13 ?_
  refine t_aldB 31 (by decide) (n := 32) (sg.2 44) dX2_isRowWrong_14 rfl (Nat.le_of_ble_eq_true rfl) (oa44 (hT.2 44)) ⟨by omega, by omega⟩ (fun b14 => ?_)
  refine m_aload_n dX2_isRowWrong_15 rfl ?_
  refine t_geti 6 (by decide) (sg.1 6) dX2_isRowWrong_16 q3099 rfl ?_
  refine j_icmp_ge 28 dX2_isRowWrong_19 (by decide) ⟨⟨by omega, by omega⟩, ⟨by omega, by omega⟩⟩ (fun c19 => ?_) (fun c19 => ?_)
  · refine j_iconst dX2_isRowWrong_28 ?_
    refine m_goto 33 dX2_isRowWrong_29 (by decide) ?_
    refine j_istore_n [some (.ref m), some (vi (((sg.1 45) - 1) / 3)), some (vi 1), none, none] dX2_isRowWrong_33 (by decide) rfl rfl ?_
    refine j_iconst dX2_isRowWrong_34 ?_
    refine j_istore_n [some (.ref m), some (vi (((sg.1 45) - 1) / 3)), some (vi 1), some (vi 0), none] dX2_isRowWrong_35 (by decide) rfl rfl ?_
    have L36 : ∀ (N : Nat) (i k : Int), (8 - k).toNat = N → (0 ≤ k ∧ k ≤ 8 ∧ (k ≤ (sg.1 45 - 1) / 3)) → (i = 0 ∨ i = 1) → (i = 1 ↔ rwE sg k) → MW K yiX2_isRowWrong d (tov K h m (ovr sg [] [])) 36 [some (.ref m), some (vi ((sg.1 45 - 1) / 3)), some (vi i), some (vi k), none] [] Q := by
      intro N
      induction N using Nat.strongRecOn with
      | _ N ih36 =>
      intro i k hN36 hk hi hb
      refine j_iload_n dX2_isRowWrong_36 rfl ?_
      refine j_iload_n dX2_isRowWrong_37 rfl ?_
      refine j_icmp_ge 185 dX2_isRowWrong_38 (by decide) ⟨⟨by omega, by omega⟩, ⟨by omega, by omega⟩⟩ (fun c38 => ?_) (fun c38 => ?_)
      · refine j_iload_n dX2_isRowWrong_185 rfl ?_
        subst hQ; exact j_zret dX2_isRowWrong_186 rfl (by omega) (⟨rfl, hi, hb.trans (rw_f (by omega) (by omega))⟩)
      · refine j_iload_n dX2_isRowWrong_41 rfl ?_
        refine j_bipush dX2_isRowWrong_42 (by decide) ?_
        refine j_icmp_ge 185 dX2_isRowWrong_44 (by decide) ⟨⟨by omega, by omega⟩, ⟨by omega, by omega⟩⟩ (fun c44 => ?_) (fun c44 => ?_)
        · refine j_iload_n dX2_isRowWrong_185 rfl ?_
          subst hQ; exact j_zret dX2_isRowWrong_186 rfl (by omega) (⟨rfl, hi, hb.trans (rw_f (by omega) (by omega))⟩)
        · refine j_iconst dX2_isRowWrong_47 ?_
          refine j_iconst dX2_isRowWrong_48 ?_
          refine j_iload_n dX2_isRowWrong_49 rfl ?_
          refine j_imul dX2_isRowWrong_50 ?_
          refine j_iadd dX2_isRowWrong_51 ?_
          refine j_istore [some (.ref m), some (vi ((sg.1 45 - 1) / 3)), some (vi i), some (vi k), some (vi (1 + (3 * k)))] dX2_isRowWrong_52 (by decide) rfl rfl ?_
          refine j_iload_n dX2_isRowWrong_54 rfl ?_
          refine m_aload_n dX2_isRowWrong_55 rfl ?_
          refine t_geta 44 31 (by decide) dX2_isRowWrong_56 q3137 rfl ?_
          refine j_iload dX2_isRowWrong_59 rfl ?_
          refine t_aldB 31 (by decide) (n := 32) (sg.2 44) dX2_isRowWrong_61 rfl (Nat.le_of_ble_eq_true rfl) (oa44 (hT.2 44)) ⟨by omega, by omega⟩ (fun b61 => ?_)
          refine m_aload_n dX2_isRowWrong_62 rfl ?_
          refine t_geti 1 (by decide) (sg.1 1) dX2_isRowWrong_63 q3094 rfl ?_
          refine j_icmp_ge 120 dX2_isRowWrong_66 (by decide) ⟨⟨by omega, by omega⟩, ⟨by omega, by omega⟩⟩ (fun c66 => ?_) (fun c66 => ?_)
          · refine j_iconst dX2_isRowWrong_120 ?_
            refine m_goto 125 dX2_isRowWrong_121 (by decide) ?_
            refine j_ior1 dX2_isRowWrong_125 (by omega) ?_
            refine j_istore_n [some (.ref m), some (vi ((sg.1 45 - 1) / 3)), some (vi 1), some (vi k), some (vi (1 + (3 * k)))] dX2_isRowWrong_126 (by decide) rfl rfl ?_
            refine j_iload_n dX2_isRowWrong_127 rfl ?_
            refine j_iload_n dX2_isRowWrong_128 rfl ?_
            refine j_if_le 176 dX2_isRowWrong_129 (by decide) ⟨by omega, by omega⟩ (fun c129 => ?_) (fun c129 => ?_)
            · refine j_iconst dX2_isRowWrong_176 ?_
              refine j_ior0 dX2_isRowWrong_177 ?_
              refine j_istore_n [some (.ref m), some (vi ((sg.1 45 - 1) / 3)), some (vi 1), some (vi k), some (vi (1 + (3 * k)))] dX2_isRowWrong_178 (by decide) rfl rfl ?_
              refine j_iinc [some (.ref m), some (vi ((sg.1 45 - 1) / 3)), some (vi 1), some (vi (k + 1)), some (vi (1 + (3 * k)))] dX2_isRowWrong_179 rfl (by decide) rfl rfl ?_
              refine m_goto 36 dX2_isRowWrong_182 (by decide) ?_
              refine mw_forget 4 ?_
              exact ih36 _ (by omega) _ _ rfl (by omega) (by omega) (by first | exact rw_y hk.1 (by unfold rwB; omega) | exact rw_n hb (by unfold rwB; omega))
            · refine m_aload_n dX2_isRowWrong_132 rfl ?_
              refine t_geta 44 31 (by decide) dX2_isRowWrong_133 q3137 rfl ?_
              refine j_iload dX2_isRowWrong_136 rfl ?_
              refine j_iconst dX2_isRowWrong_138 ?_
              refine j_iadd dX2_isRowWrong_139 ?_
              refine t_aldB 31 (by decide) (n := 32) (sg.2 44) dX2_isRowWrong_140 rfl (Nat.le_of_ble_eq_true rfl) (oa44 (hT.2 44)) ⟨by omega, by omega⟩ (fun b140 => ?_)
              refine m_aload_n dX2_isRowWrong_141 rfl ?_
              refine t_geta 44 31 (by decide) dX2_isRowWrong_142 q3137 rfl ?_
              refine j_iload dX2_isRowWrong_145 rfl ?_
              refine j_iconst dX2_isRowWrong_147 ?_
              refine j_isub dX2_isRowWrong_148 ?_
              refine t_aldB 31 (by decide) (n := 32) (sg.2 44) dX2_isRowWrong_149 rfl (Nat.le_of_ble_eq_true rfl) (oa44 (hT.2 44)) ⟨by omega, by omega⟩ (fun b149 => ?_)
              refine j_icmp_le 172 dX2_isRowWrong_150 (by decide) ⟨⟨by omega, by omega⟩, ⟨by omega, by omega⟩⟩ (fun c150 => ?_) (fun c150 => ?_)
              · refine j_iconst dX2_isRowWrong_172 ?_
                refine m_goto 177 dX2_isRowWrong_173 (by decide) ?_
                refine j_ior1 dX2_isRowWrong_177 (by omega) ?_
                refine j_istore_n [some (.ref m), some (vi ((sg.1 45 - 1) / 3)), some (vi 1), some (vi k), some (vi (1 + (3 * k)))] dX2_isRowWrong_178 (by decide) rfl rfl ?_
                refine j_iinc [some (.ref m), some (vi ((sg.1 45 - 1) / 3)), some (vi 1), some (vi (k + 1)), some (vi (1 + (3 * k)))] dX2_isRowWrong_179 rfl (by decide) rfl rfl ?_
                refine m_goto 36 dX2_isRowWrong_182 (by decide) ?_
                refine mw_forget 4 ?_
                exact ih36 _ (by omega) _ _ rfl (by omega) (by omega) (by first | exact rw_y hk.1 (by unfold rwB; omega) | exact rw_n hb (by unfold rwB; omega))
              · refine m_aload_n dX2_isRowWrong_153 rfl ?_
                refine t_geta 44 31 (by decide) dX2_isRowWrong_154 q3137 rfl ?_
                refine j_iload dX2_isRowWrong_157 rfl ?_
                refine t_aldB 31 (by decide) (n := 32) (sg.2 44) dX2_isRowWrong_159 rfl (Nat.le_of_ble_eq_true rfl) (oa44 (hT.2 44)) ⟨by omega, by omega⟩ (fun b159 => ?_)
                refine m_aload_n dX2_isRowWrong_160 rfl ?_
                refine t_geta 44 31 (by decide) dX2_isRowWrong_161 q3137 rfl ?_
                refine j_iload dX2_isRowWrong_164 rfl ?_
                refine j_iconst dX2_isRowWrong_166 ?_
                refine j_isub dX2_isRowWrong_167 ?_
                refine t_aldB 31 (by decide) (n := 32) (sg.2 44) dX2_isRowWrong_168 rfl (Nat.le_of_ble_eq_true rfl) (oa44 (hT.2 44)) ⟨by omega, by omega⟩ (fun b168 => ?_)
                refine j_icmp_ne 176 dX2_isRowWrong_169 (by decide) ⟨⟨by omega, by omega⟩, ⟨by omega, by omega⟩⟩ (fun c169 => ?_) (fun c169 => ?_)
                · refine j_iconst dX2_isRowWrong_176 ?_
                  refine j_ior0 dX2_isRowWrong_177 ?_
                  refine j_istore_n [some (.ref m), some (vi ((sg.1 45 - 1) / 3)), some (vi 1), some (vi k), some (vi (1 + (3 * k)))] dX2_isRowWrong_178 (by decide) rfl rfl ?_
                  refine j_iinc [some (.ref m), some (vi ((sg.1 45 - 1) / 3)), some (vi 1), some (vi (k + 1)), some (vi (1 + (3 * k)))] dX2_isRowWrong_179 rfl (by decide) rfl rfl ?_
                  refine m_goto 36 dX2_isRowWrong_182 (by decide) ?_
                  refine mw_forget 4 ?_
                  exact ih36 _ (by omega) _ _ rfl (by omega) (by omega) (by first | exact rw_y hk.1 (by unfold rwB; omega) | exact rw_n hb (by unfold rwB; omega))
                · refine j_iconst dX2_isRowWrong_172 ?_
                  refine m_goto 177 dX2_isRowWrong_173 (by decide) ?_
                  refine j_ior1 dX2_isRowWrong_177 (by omega) ?_
                  refine j_istore_n [some (.ref m), some (vi ((sg.1 45 - 1) / 3)), some (vi 1), some (vi k), some (vi (1 + (3 * k)))] dX2_isRowWrong_178 (by decide) rfl rfl ?_
                  refine j_iinc [some (.ref m), some (vi ((sg.1 45 - 1) / 3)), some (vi 1), some (vi (k + 1)), some (vi (1 + (3 * k)))] dX2_isRowWrong_179 rfl (by decide) rfl rfl ?_
                  refine m_goto 36 dX2_isRowWrong_182 (by decide) ?_
                  refine mw_forget 4 ?_
                  exact ih36 _ (by omega) _ _ rfl (by omega) (by omega) (by first | exact rw_y hk.1 (by unfold rwB; omega) | exact rw_n hb (by unfold rwB; omega))
          · refine m_aload_n dX2_isRowWrong_69 rfl ?_
            refine t_geta 44 31 (by decide) dX2_isRowWrong_70 q3137 rfl ?_
            refine j_iload dX2_isRowWrong_73 rfl ?_
            refine j_iconst dX2_isRowWrong_75 ?_
            refine j_iadd dX2_isRowWrong_76 ?_
            refine t_aldB 31 (by decide) (n := 32) (sg.2 44) dX2_isRowWrong_77 rfl (Nat.le_of_ble_eq_true rfl) (oa44 (hT.2 44)) ⟨by omega, by omega⟩ (fun b77 => ?_)
            refine j_sipush dX2_isRowWrong_78 (by decide) ?_
            refine j_icmp_gt 120 dX2_isRowWrong_81 (by decide) ⟨⟨by omega, by omega⟩, ⟨by omega, by omega⟩⟩ (fun c81 => ?_) (fun c81 => ?_)
            · refine j_iconst dX2_isRowWrong_120 ?_
              refine m_goto 125 dX2_isRowWrong_121 (by decide) ?_
              refine j_ior1 dX2_isRowWrong_125 (by omega) ?_
              refine j_istore_n [some (.ref m), some (vi ((sg.1 45 - 1) / 3)), some (vi 1), some (vi k), some (vi (1 + (3 * k)))] dX2_isRowWrong_126 (by decide) rfl rfl ?_
              refine j_iload_n dX2_isRowWrong_127 rfl ?_
              refine j_iload_n dX2_isRowWrong_128 rfl ?_
              refine j_if_le 176 dX2_isRowWrong_129 (by decide) ⟨by omega, by omega⟩ (fun c129 => ?_) (fun c129 => ?_)
              · refine j_iconst dX2_isRowWrong_176 ?_
                refine j_ior0 dX2_isRowWrong_177 ?_
                refine j_istore_n [some (.ref m), some (vi ((sg.1 45 - 1) / 3)), some (vi 1), some (vi k), some (vi (1 + (3 * k)))] dX2_isRowWrong_178 (by decide) rfl rfl ?_
                refine j_iinc [some (.ref m), some (vi ((sg.1 45 - 1) / 3)), some (vi 1), some (vi (k + 1)), some (vi (1 + (3 * k)))] dX2_isRowWrong_179 rfl (by decide) rfl rfl ?_
                refine m_goto 36 dX2_isRowWrong_182 (by decide) ?_
                refine mw_forget 4 ?_
                exact ih36 _ (by omega) _ _ rfl (by omega) (by omega) (by first | exact rw_y hk.1 (by unfold rwB; omega) | exact rw_n hb (by unfold rwB; omega))
              · refine m_aload_n dX2_isRowWrong_132 rfl ?_
                refine t_geta 44 31 (by decide) dX2_isRowWrong_133 q3137 rfl ?_
                refine j_iload dX2_isRowWrong_136 rfl ?_
                refine j_iconst dX2_isRowWrong_138 ?_
                refine j_iadd dX2_isRowWrong_139 ?_
                refine t_aldB 31 (by decide) (n := 32) (sg.2 44) dX2_isRowWrong_140 rfl (Nat.le_of_ble_eq_true rfl) (oa44 (hT.2 44)) ⟨by omega, by omega⟩ (fun b140 => ?_)
                refine m_aload_n dX2_isRowWrong_141 rfl ?_
                refine t_geta 44 31 (by decide) dX2_isRowWrong_142 q3137 rfl ?_
                refine j_iload dX2_isRowWrong_145 rfl ?_
                refine j_iconst dX2_isRowWrong_147 ?_
                refine j_isub dX2_isRowWrong_148 ?_
                refine t_aldB 31 (by decide) (n := 32) (sg.2 44) dX2_isRowWrong_149 rfl (Nat.le_of_ble_eq_true rfl) (oa44 (hT.2 44)) ⟨by omega, by omega⟩ (fun b149 => ?_)
                refine j_icmp_le 172 dX2_isRowWrong_150 (by decide) ⟨⟨by omega, by omega⟩, ⟨by omega, by omega⟩⟩ (fun c150 => ?_) (fun c150 => ?_)
                · refine j_iconst dX2_isRowWrong_172 ?_
                  refine m_goto 177 dX2_isRowWrong_173 (by decide) ?_
                  refine j_ior1 dX2_isRowWrong_177 (by omega) ?_
                  refine j_istore_n [some (.ref m), some (vi ((sg.1 45 - 1) / 3)), some (vi 1), some (vi k), some (vi (1 + (3 * k)))] dX2_isRowWrong_178 (by decide) rfl rfl ?_
                  refine j_iinc [some (.ref m), some (vi ((sg.1 45 - 1) / 3)), some (vi 1), some (vi (k + 1)), some (vi (1 + (3 * k)))] dX2_isRowWrong_179 rfl (by decide) rfl rfl ?_
                  refine m_goto 36 dX2_isRowWrong_182 (by decide) ?_
                  refine mw_forget 4 ?_
                  exact ih36 _ (by omega) _ _ rfl (by omega) (by omega) (by first | exact rw_y hk.1 (by unfold rwB; omega) | exact rw_n hb (by unfold rwB; omega))
                · refine m_aload_n dX2_isRowWrong_153 rfl ?_
                  refine t_geta 44 31 (by decide) dX2_isRowWrong_154 q3137 rfl ?_
                  refine j_iload dX2_isRowWrong_157 rfl ?_
                  refine t_aldB 31 (by decide) (n := 32) (sg.2 44) dX2_isRowWrong_159 rfl (Nat.le_of_ble_eq_true rfl) (oa44 (hT.2 44)) ⟨by omega, by omega⟩ (fun b159 => ?_)
                  refine m_aload_n dX2_isRowWrong_160 rfl ?_
                  refine t_geta 44 31 (by decide) dX2_isRowWrong_161 q3137 rfl ?_
                  refine j_iload dX2_isRowWrong_164 rfl ?_
                  refine j_iconst dX2_isRowWrong_166 ?_
                  refine j_isub dX2_isRowWrong_167 ?_
                  refine t_aldB 31 (by decide) (n := 32) (sg.2 44) dX2_isRowWrong_168 rfl (Nat.le_of_ble_eq_true rfl) (oa44 (hT.2 44)) ⟨by omega, by omega⟩ (fun b168 => ?_)
                  refine j_icmp_ne 176 dX2_isRowWrong_169 (by decide) ⟨⟨by omega, by omega⟩, ⟨by omega, by omega⟩⟩ (fun c169 => ?_) (fun c169 => ?_)
                  · refine j_iconst dX2_isRowWrong_176 ?_
                    refine j_ior0 dX2_isRowWrong_177 ?_
                    refine j_istore_n [some (.ref m), some (vi ((sg.1 45 - 1) / 3)), some (vi 1), some (vi k), some (vi (1 + (3 * k)))] dX2_isRowWrong_178 (by decide) rfl rfl ?_
                    refine j_iinc [some (.ref m), some (vi ((sg.1 45 - 1) / 3)), some (vi 1), some (vi (k + 1)), some (vi (1 + (3 * k)))] dX2_isRowWrong_179 rfl (by decide) rfl rfl ?_
                    refine m_goto 36 dX2_isRowWrong_182 (by decide) ?_
                    refine mw_forget 4 ?_
                    exact ih36 _ (by omega) _ _ rfl (by omega) (by omega) (by first | exact rw_y hk.1 (by unfold rwB; omega) | exact rw_n hb (by unfold rwB; omega))
                  · refine j_iconst dX2_isRowWrong_172 ?_
                    refine m_goto 177 dX2_isRowWrong_173 (by decide) ?_
                    refine j_ior1 dX2_isRowWrong_177 (by omega) ?_
                    refine j_istore_n [some (.ref m), some (vi ((sg.1 45 - 1) / 3)), some (vi 1), some (vi k), some (vi (1 + (3 * k)))] dX2_isRowWrong_178 (by decide) rfl rfl ?_
                    refine j_iinc [some (.ref m), some (vi ((sg.1 45 - 1) / 3)), some (vi 1), some (vi (k + 1)), some (vi (1 + (3 * k)))] dX2_isRowWrong_179 rfl (by decide) rfl rfl ?_
                    refine m_goto 36 dX2_isRowWrong_182 (by decide) ?_
                    refine mw_forget 4 ?_
                    exact ih36 _ (by omega) _ _ rfl (by omega) (by omega) (by first | exact rw_y hk.1 (by unfold rwB; omega) | exact rw_n hb (by unfold rwB; omega))
            · refine m_aload_n dX2_isRowWrong_84 rfl ?_
              refine t_geta 44 31 (by decide) dX2_isRowWrong_85 q3137 rfl ?_
              refine j_iload dX2_isRowWrong_88 rfl ?_
              refine j_iconst dX2_isRowWrong_90 ?_
              refine j_iadd dX2_isRowWrong_91 ?_
              refine t_aldB 31 (by decide) (n := 32) (sg.2 44) dX2_isRowWrong_92 rfl (Nat.le_of_ble_eq_true rfl) (oa44 (hT.2 44)) ⟨by omega, by omega⟩ (fun b92 => ?_)
              refine j_sipush dX2_isRowWrong_93 (by decide) ?_
              refine j_icmp_gt 120 dX2_isRowWrong_96 (by decide) ⟨⟨by omega, by omega⟩, ⟨by omega, by omega⟩⟩ (fun c96 => ?_) (fun c96 => ?_)
              · refine j_iconst dX2_isRowWrong_120 ?_
                refine m_goto 125 dX2_isRowWrong_121 (by decide) ?_
                refine j_ior1 dX2_isRowWrong_125 (by omega) ?_
                refine j_istore_n [some (.ref m), some (vi ((sg.1 45 - 1) / 3)), some (vi 1), some (vi k), some (vi (1 + (3 * k)))] dX2_isRowWrong_126 (by decide) rfl rfl ?_
                refine j_iload_n dX2_isRowWrong_127 rfl ?_
                refine j_iload_n dX2_isRowWrong_128 rfl ?_
                refine j_if_le 176 dX2_isRowWrong_129 (by decide) ⟨by omega, by omega⟩ (fun c129 => ?_) (fun c129 => ?_)
                · refine j_iconst dX2_isRowWrong_176 ?_
                  refine j_ior0 dX2_isRowWrong_177 ?_
                  refine j_istore_n [some (.ref m), some (vi ((sg.1 45 - 1) / 3)), some (vi 1), some (vi k), some (vi (1 + (3 * k)))] dX2_isRowWrong_178 (by decide) rfl rfl ?_
                  refine j_iinc [some (.ref m), some (vi ((sg.1 45 - 1) / 3)), some (vi 1), some (vi (k + 1)), some (vi (1 + (3 * k)))] dX2_isRowWrong_179 rfl (by decide) rfl rfl ?_
                  refine m_goto 36 dX2_isRowWrong_182 (by decide) ?_
                  refine mw_forget 4 ?_
                  exact ih36 _ (by omega) _ _ rfl (by omega) (by omega) (by first | exact rw_y hk.1 (by unfold rwB; omega) | exact rw_n hb (by unfold rwB; omega))
                · refine m_aload_n dX2_isRowWrong_132 rfl ?_
                  refine t_geta 44 31 (by decide) dX2_isRowWrong_133 q3137 rfl ?_
                  refine j_iload dX2_isRowWrong_136 rfl ?_
                  refine j_iconst dX2_isRowWrong_138 ?_
                  refine j_iadd dX2_isRowWrong_139 ?_
                  refine t_aldB 31 (by decide) (n := 32) (sg.2 44) dX2_isRowWrong_140 rfl (Nat.le_of_ble_eq_true rfl) (oa44 (hT.2 44)) ⟨by omega, by omega⟩ (fun b140 => ?_)
                  refine m_aload_n dX2_isRowWrong_141 rfl ?_
                  refine t_geta 44 31 (by decide) dX2_isRowWrong_142 q3137 rfl ?_
                  refine j_iload dX2_isRowWrong_145 rfl ?_
                  refine j_iconst dX2_isRowWrong_147 ?_
                  refine j_isub dX2_isRowWrong_148 ?_
                  refine t_aldB 31 (by decide) (n := 32) (sg.2 44) dX2_isRowWrong_149 rfl (Nat.le_of_ble_eq_true rfl) (oa44 (hT.2 44)) ⟨by omega, by omega⟩ (fun b149 => ?_)
                  refine j_icmp_le 172 dX2_isRowWrong_150 (by decide) ⟨⟨by omega, by omega⟩, ⟨by omega, by omega⟩⟩ (fun c150 => ?_) (fun c150 => ?_)
                  · refine j_iconst dX2_isRowWrong_172 ?_
                    refine m_goto 177 dX2_isRowWrong_173 (by decide) ?_
                    refine j_ior1 dX2_isRowWrong_177 (by omega) ?_
                    refine j_istore_n [some (.ref m), some (vi ((sg.1 45 - 1) / 3)), some (vi 1), some (vi k), some (vi (1 + (3 * k)))] dX2_isRowWrong_178 (by decide) rfl rfl ?_
                    refine j_iinc [some (.ref m), some (vi ((sg.1 45 - 1) / 3)), some (vi 1), some (vi (k + 1)), some (vi (1 + (3 * k)))] dX2_isRowWrong_179 rfl (by decide) rfl rfl ?_
                    refine m_goto 36 dX2_isRowWrong_182 (by decide) ?_
                    refine mw_forget 4 ?_
                    exact ih36 _ (by omega) _ _ rfl (by omega) (by omega) (by first | exact rw_y hk.1 (by unfold rwB; omega) | exact rw_n hb (by unfold rwB; omega))
                  · refine m_aload_n dX2_isRowWrong_153 rfl ?_
                    refine t_geta 44 31 (by decide) dX2_isRowWrong_154 q3137 rfl ?_
                    refine j_iload dX2_isRowWrong_157 rfl ?_
                    refine t_aldB 31 (by decide) (n := 32) (sg.2 44) dX2_isRowWrong_159 rfl (Nat.le_of_ble_eq_true rfl) (oa44 (hT.2 44)) ⟨by omega, by omega⟩ (fun b159 => ?_)
                    refine m_aload_n dX2_isRowWrong_160 rfl ?_
                    refine t_geta 44 31 (by decide) dX2_isRowWrong_161 q3137 rfl ?_
                    refine j_iload dX2_isRowWrong_164 rfl ?_
                    refine j_iconst dX2_isRowWrong_166 ?_
                    refine j_isub dX2_isRowWrong_167 ?_
                    refine t_aldB 31 (by decide) (n := 32) (sg.2 44) dX2_isRowWrong_168 rfl (Nat.le_of_ble_eq_true rfl) (oa44 (hT.2 44)) ⟨by omega, by omega⟩ (fun b168 => ?_)
                    refine j_icmp_ne 176 dX2_isRowWrong_169 (by decide) ⟨⟨by omega, by omega⟩, ⟨by omega, by omega⟩⟩ (fun c169 => ?_) (fun c169 => ?_)
                    · refine j_iconst dX2_isRowWrong_176 ?_
                      refine j_ior0 dX2_isRowWrong_177 ?_
                      refine j_istore_n [some (.ref m), some (vi ((sg.1 45 - 1) / 3)), some (vi 1), some (vi k), some (vi (1 + (3 * k)))] dX2_isRowWrong_178 (by decide) rfl rfl ?_
                      refine j_iinc [some (.ref m), some (vi ((sg.1 45 - 1) / 3)), some (vi 1), some (vi (k + 1)), some (vi (1 + (3 * k)))] dX2_isRowWrong_179 rfl (by decide) rfl rfl ?_
                      refine m_goto 36 dX2_isRowWrong_182 (by decide) ?_
                      refine mw_forget 4 ?_
                      exact ih36 _ (by omega) _ _ rfl (by omega) (by omega) (by first | exact rw_y hk.1 (by unfold rwB; omega) | exact rw_n hb (by unfold rwB; omega))
                    · refine j_iconst dX2_isRowWrong_172 ?_
                      refine m_goto 177 dX2_isRowWrong_173 (by decide) ?_
                      refine j_ior1 dX2_isRowWrong_177 (by omega) ?_
                      refine j_istore_n [some (.ref m), some (vi ((sg.1 45 - 1) / 3)), some (vi 1), some (vi k), some (vi (1 + (3 * k)))] dX2_isRowWrong_178 (by decide) rfl rfl ?_
                      refine j_iinc [some (.ref m), some (vi ((sg.1 45 - 1) / 3)), some (vi 1), some (vi (k + 1)), some (vi (1 + (3 * k)))] dX2_isRowWrong_179 rfl (by decide) rfl rfl ?_
                      refine m_goto 36 dX2_isRowWrong_182 (by decide) ?_
                      refine mw_forget 4 ?_
                      exact ih36 _ (by omega) _ _ rfl (by omega) (by omega) (by first | exact rw_y hk.1 (by unfold rwB; omega) | exact rw_n hb (by unfold rwB; omega))
              · refine m_aload_n dX2_isRowWrong_99 rfl ?_
                refine t_geta 44 31 (by decide) dX2_isRowWrong_100 q3137 rfl ?_
                refine j_iload dX2_isRowWrong_103 rfl ?_
                refine j_iconst dX2_isRowWrong_105 ?_
                refine j_iadd dX2_isRowWrong_106 ?_
                refine t_aldB 31 (by decide) (n := 32) (sg.2 44) dX2_isRowWrong_107 rfl (Nat.le_of_ble_eq_true rfl) (oa44 (hT.2 44)) ⟨by omega, by omega⟩ (fun b107 => ?_)
                refine m_aload_n dX2_isRowWrong_108 rfl ?_
                refine t_geta 44 31 (by decide) dX2_isRowWrong_109 q3137 rfl ?_
                refine j_iload dX2_isRowWrong_112 rfl ?_
                refine j_iconst dX2_isRowWrong_114 ?_
                refine j_iadd dX2_isRowWrong_115 ?_
                refine t_aldB 31 (by decide) (n := 32) (sg.2 44) dX2_isRowWrong_116 rfl (Nat.le_of_ble_eq_true rfl) (oa44 (hT.2 44)) ⟨by omega, by omega⟩ (fun b116 => ?_)
                refine j_icmp_ge 124 dX2_isRowWrong_117 (by decide) ⟨⟨by omega, by omega⟩, ⟨by omega, by omega⟩⟩ (fun c117 => ?_) (fun c117 => ?_)
                · refine j_iconst dX2_isRowWrong_124 ?_
                  refine j_ior0 dX2_isRowWrong_125 ?_
                  refine j_istore_n [some (.ref m), some (vi ((sg.1 45 - 1) / 3)), some (vi i), some (vi k), some (vi (1 + (3 * k)))] dX2_isRowWrong_126 (by decide) rfl rfl ?_
                  refine j_iload_n dX2_isRowWrong_127 rfl ?_
                  refine j_iload_n dX2_isRowWrong_128 rfl ?_
                  refine j_if_le 176 dX2_isRowWrong_129 (by decide) ⟨by omega, by omega⟩ (fun c129 => ?_) (fun c129 => ?_)
                  · refine j_iconst dX2_isRowWrong_176 ?_
                    refine j_ior0 dX2_isRowWrong_177 ?_
                    refine j_istore_n [some (.ref m), some (vi ((sg.1 45 - 1) / 3)), some (vi i), some (vi k), some (vi (1 + (3 * k)))] dX2_isRowWrong_178 (by decide) rfl rfl ?_
                    refine j_iinc [some (.ref m), some (vi ((sg.1 45 - 1) / 3)), some (vi i), some (vi (k + 1)), some (vi (1 + (3 * k)))] dX2_isRowWrong_179 rfl (by decide) rfl rfl ?_
                    refine m_goto 36 dX2_isRowWrong_182 (by decide) ?_
                    refine mw_forget 4 ?_
                    exact ih36 _ (by omega) _ _ rfl (by omega) (by omega) (by first | exact rw_y hk.1 (by unfold rwB; omega) | exact rw_n hb (by unfold rwB; omega))
                  · refine m_aload_n dX2_isRowWrong_132 rfl ?_
                    refine t_geta 44 31 (by decide) dX2_isRowWrong_133 q3137 rfl ?_
                    refine j_iload dX2_isRowWrong_136 rfl ?_
                    refine j_iconst dX2_isRowWrong_138 ?_
                    refine j_iadd dX2_isRowWrong_139 ?_
                    refine t_aldB 31 (by decide) (n := 32) (sg.2 44) dX2_isRowWrong_140 rfl (Nat.le_of_ble_eq_true rfl) (oa44 (hT.2 44)) ⟨by omega, by omega⟩ (fun b140 => ?_)
                    refine m_aload_n dX2_isRowWrong_141 rfl ?_
                    refine t_geta 44 31 (by decide) dX2_isRowWrong_142 q3137 rfl ?_
                    refine j_iload dX2_isRowWrong_145 rfl ?_
                    refine j_iconst dX2_isRowWrong_147 ?_
                    refine j_isub dX2_isRowWrong_148 ?_
                    refine t_aldB 31 (by decide) (n := 32) (sg.2 44) dX2_isRowWrong_149 rfl (Nat.le_of_ble_eq_true rfl) (oa44 (hT.2 44)) ⟨by omega, by omega⟩ (fun b149 => ?_)
                    refine j_icmp_le 172 dX2_isRowWrong_150 (by decide) ⟨⟨by omega, by omega⟩, ⟨by omega, by omega⟩⟩ (fun c150 => ?_) (fun c150 => ?_)
                    · refine j_iconst dX2_isRowWrong_172 ?_
                      refine m_goto 177 dX2_isRowWrong_173 (by decide) ?_
                      refine j_ior1 dX2_isRowWrong_177 (by omega) ?_
                      refine j_istore_n [some (.ref m), some (vi ((sg.1 45 - 1) / 3)), some (vi 1), some (vi k), some (vi (1 + (3 * k)))] dX2_isRowWrong_178 (by decide) rfl rfl ?_
                      refine j_iinc [some (.ref m), some (vi ((sg.1 45 - 1) / 3)), some (vi 1), some (vi (k + 1)), some (vi (1 + (3 * k)))] dX2_isRowWrong_179 rfl (by decide) rfl rfl ?_
                      refine m_goto 36 dX2_isRowWrong_182 (by decide) ?_
                      refine mw_forget 4 ?_
                      exact ih36 _ (by omega) _ _ rfl (by omega) (by omega) (by first | exact rw_y hk.1 (by unfold rwB; omega) | exact rw_n hb (by unfold rwB; omega))
                    · refine m_aload_n dX2_isRowWrong_153 rfl ?_
                      refine t_geta 44 31 (by decide) dX2_isRowWrong_154 q3137 rfl ?_
                      refine j_iload dX2_isRowWrong_157 rfl ?_
                      refine t_aldB 31 (by decide) (n := 32) (sg.2 44) dX2_isRowWrong_159 rfl (Nat.le_of_ble_eq_true rfl) (oa44 (hT.2 44)) ⟨by omega, by omega⟩ (fun b159 => ?_)
                      refine m_aload_n dX2_isRowWrong_160 rfl ?_
                      refine t_geta 44 31 (by decide) dX2_isRowWrong_161 q3137 rfl ?_
                      refine j_iload dX2_isRowWrong_164 rfl ?_
                      refine j_iconst dX2_isRowWrong_166 ?_
                      refine j_isub dX2_isRowWrong_167 ?_
                      refine t_aldB 31 (by decide) (n := 32) (sg.2 44) dX2_isRowWrong_168 rfl (Nat.le_of_ble_eq_true rfl) (oa44 (hT.2 44)) ⟨by omega, by omega⟩ (fun b168 => ?_)
                      refine j_icmp_ne 176 dX2_isRowWrong_169 (by decide) ⟨⟨by omega, by omega⟩, ⟨by omega, by omega⟩⟩ (fun c169 => ?_) (fun c169 => ?_)
                      · refine j_iconst dX2_isRowWrong_176 ?_
                        refine j_ior0 dX2_isRowWrong_177 ?_
                        refine j_istore_n [some (.ref m), some (vi ((sg.1 45 - 1) / 3)), some (vi i), some (vi k), some (vi (1 + (3 * k)))] dX2_isRowWrong_178 (by decide) rfl rfl ?_
                        refine j_iinc [some (.ref m), some (vi ((sg.1 45 - 1) / 3)), some (vi i), some (vi (k + 1)), some (vi (1 + (3 * k)))] dX2_isRowWrong_179 rfl (by decide) rfl rfl ?_
                        refine m_goto 36 dX2_isRowWrong_182 (by decide) ?_
                        refine mw_forget 4 ?_
                        exact ih36 _ (by omega) _ _ rfl (by omega) (by omega) (by first | exact rw_y hk.1 (by unfold rwB; omega) | exact rw_n hb (by unfold rwB; omega))
                      · refine j_iconst dX2_isRowWrong_172 ?_
                        refine m_goto 177 dX2_isRowWrong_173 (by decide) ?_
                        refine j_ior1 dX2_isRowWrong_177 (by omega) ?_
                        refine j_istore_n [some (.ref m), some (vi ((sg.1 45 - 1) / 3)), some (vi 1), some (vi k), some (vi (1 + (3 * k)))] dX2_isRowWrong_178 (by decide) rfl rfl ?_
                        refine j_iinc [some (.ref m), some (vi ((sg.1 45 - 1) / 3)), some (vi 1), some (vi (k + 1)), some (vi (1 + (3 * k)))] dX2_isRowWrong_179 rfl (by decide) rfl rfl ?_
                        refine m_goto 36 dX2_isRowWrong_182 (by decide) ?_
                        refine mw_forget 4 ?_
                        exact ih36 _ (by omega) _ _ rfl (by omega) (by omega) (by first | exact rw_y hk.1 (by unfold rwB; omega) | exact rw_n hb (by unfold rwB; omega))
                · refine j_iconst dX2_isRowWrong_120 ?_
                  refine m_goto 125 dX2_isRowWrong_121 (by decide) ?_
                  refine j_ior1 dX2_isRowWrong_125 (by omega) ?_
                  refine j_istore_n [some (.ref m), some (vi ((sg.1 45 - 1) / 3)), some (vi 1), some (vi k), some (vi (1 + (3 * k)))] dX2_isRowWrong_126 (by decide) rfl rfl ?_
                  refine j_iload_n dX2_isRowWrong_127 rfl ?_
                  refine j_iload_n dX2_isRowWrong_128 rfl ?_
                  refine j_if_le 176 dX2_isRowWrong_129 (by decide) ⟨by omega, by omega⟩ (fun c129 => ?_) (fun c129 => ?_)
                  · refine j_iconst dX2_isRowWrong_176 ?_
                    refine j_ior0 dX2_isRowWrong_177 ?_
                    refine j_istore_n [some (.ref m), some (vi ((sg.1 45 - 1) / 3)), some (vi 1), some (vi k), some (vi (1 + (3 * k)))] dX2_isRowWrong_178 (by decide) rfl rfl ?_
                    refine j_iinc [some (.ref m), some (vi ((sg.1 45 - 1) / 3)), some (vi 1), some (vi (k + 1)), some (vi (1 + (3 * k)))] dX2_isRowWrong_179 rfl (by decide) rfl rfl ?_
                    refine m_goto 36 dX2_isRowWrong_182 (by decide) ?_
                    refine mw_forget 4 ?_
                    exact ih36 _ (by omega) _ _ rfl (by omega) (by omega) (by first | exact rw_y hk.1 (by unfold rwB; omega) | exact rw_n hb (by unfold rwB; omega))
                  · refine m_aload_n dX2_isRowWrong_132 rfl ?_
                    refine t_geta 44 31 (by decide) dX2_isRowWrong_133 q3137 rfl ?_
                    refine j_iload dX2_isRowWrong_136 rfl ?_
                    refine j_iconst dX2_isRowWrong_138 ?_
                    refine j_iadd dX2_isRowWrong_139 ?_
                    refine t_aldB 31 (by decide) (n := 32) (sg.2 44) dX2_isRowWrong_140 rfl (Nat.le_of_ble_eq_true rfl) (oa44 (hT.2 44)) ⟨by omega, by omega⟩ (fun b140 => ?_)
                    refine m_aload_n dX2_isRowWrong_141 rfl ?_
                    refine t_geta 44 31 (by decide) dX2_isRowWrong_142 q3137 rfl ?_
                    refine j_iload dX2_isRowWrong_145 rfl ?_
                    refine j_iconst dX2_isRowWrong_147 ?_
                    refine j_isub dX2_isRowWrong_148 ?_
                    refine t_aldB 31 (by decide) (n := 32) (sg.2 44) dX2_isRowWrong_149 rfl (Nat.le_of_ble_eq_true rfl) (oa44 (hT.2 44)) ⟨by omega, by omega⟩ (fun b149 => ?_)
                    refine j_icmp_le 172 dX2_isRowWrong_150 (by decide) ⟨⟨by omega, by omega⟩, ⟨by omega, by omega⟩⟩ (fun c150 => ?_) (fun c150 => ?_)
                    · refine j_iconst dX2_isRowWrong_172 ?_
                      refine m_goto 177 dX2_isRowWrong_173 (by decide) ?_
                      refine j_ior1 dX2_isRowWrong_177 (by omega) ?_
                      refine j_istore_n [some (.ref m), some (vi ((sg.1 45 - 1) / 3)), some (vi 1), some (vi k), some (vi (1 + (3 * k)))] dX2_isRowWrong_178 (by decide) rfl rfl ?_
                      refine j_iinc [some (.ref m), some (vi ((sg.1 45 - 1) / 3)), some (vi 1), some (vi (k + 1)), some (vi (1 + (3 * k)))] dX2_isRowWrong_179 rfl (by decide) rfl rfl ?_
                      refine m_goto 36 dX2_isRowWrong_182 (by decide) ?_
                      refine mw_forget 4 ?_
                      exact ih36 _ (by omega) _ _ rfl (by omega) (by omega) (by first | exact rw_y hk.1 (by unfold rwB; omega) | exact rw_n hb (by unfold rwB; omega))
                    · refine m_aload_n dX2_isRowWrong_153 rfl ?_
                      refine t_geta 44 31 (by decide) dX2_isRowWrong_154 q3137 rfl ?_
                      refine j_iload dX2_isRowWrong_157 rfl ?_
                      refine t_aldB 31 (by decide) (n := 32) (sg.2 44) dX2_isRowWrong_159 rfl (Nat.le_of_ble_eq_true rfl) (oa44 (hT.2 44)) ⟨by omega, by omega⟩ (fun b159 => ?_)
                      refine m_aload_n dX2_isRowWrong_160 rfl ?_
                      refine t_geta 44 31 (by decide) dX2_isRowWrong_161 q3137 rfl ?_
                      refine j_iload dX2_isRowWrong_164 rfl ?_
                      refine j_iconst dX2_isRowWrong_166 ?_
                      refine j_isub dX2_isRowWrong_167 ?_
                      refine t_aldB 31 (by decide) (n := 32) (sg.2 44) dX2_isRowWrong_168 rfl (Nat.le_of_ble_eq_true rfl) (oa44 (hT.2 44)) ⟨by omega, by omega⟩ (fun b168 => ?_)
                      refine j_icmp_ne 176 dX2_isRowWrong_169 (by decide) ⟨⟨by omega, by omega⟩, ⟨by omega, by omega⟩⟩ (fun c169 => ?_) (fun c169 => ?_)
                      · refine j_iconst dX2_isRowWrong_176 ?_
                        refine j_ior0 dX2_isRowWrong_177 ?_
                        refine j_istore_n [some (.ref m), some (vi ((sg.1 45 - 1) / 3)), some (vi 1), some (vi k), some (vi (1 + (3 * k)))] dX2_isRowWrong_178 (by decide) rfl rfl ?_
                        refine j_iinc [some (.ref m), some (vi ((sg.1 45 - 1) / 3)), some (vi 1), some (vi (k + 1)), some (vi (1 + (3 * k)))] dX2_isRowWrong_179 rfl (by decide) rfl rfl ?_
                        refine m_goto 36 dX2_isRowWrong_182 (by decide) ?_
                        refine mw_forget 4 ?_
                        exact ih36 _ (by omega) _ _ rfl (by omega) (by omega) (by first | exact rw_y hk.1 (by unfold rwB; omega) | exact rw_n hb (by unfold rwB; omega))
                      · refine j_iconst dX2_isRowWrong_172 ?_
                        refine m_goto 177 dX2_isRowWrong_173 (by decide) ?_
                        refine j_ior1 dX2_isRowWrong_177 (by omega) ?_
                        refine j_istore_n [some (.ref m), some (vi ((sg.1 45 - 1) / 3)), some (vi 1), some (vi k), some (vi (1 + (3 * k)))] dX2_isRowWrong_178 (by decide) rfl rfl ?_
                        refine j_iinc [some (.ref m), some (vi ((sg.1 45 - 1) / 3)), some (vi 1), some (vi (k + 1)), some (vi (1 + (3 * k)))] dX2_isRowWrong_179 rfl (by decide) rfl rfl ?_
                        refine m_goto 36 dX2_isRowWrong_182 (by decide) ?_
                        refine mw_forget 4 ?_
                        exact ih36 _ (by omega) _ _ rfl (by omega) (by omega) (by first | exact rw_y hk.1 (by unfold rwB; omega) | exact rw_n hb (by unfold rwB; omega))
    exact L36 _ _ _ rfl (by omega) (by omega) (by first | exact rw_1 (by omega) | exact rw_0 (by omega))
  · refine j_iload_n dX2_isRowWrong_22 rfl ?_
    refine j_bipush dX2_isRowWrong_23 (by decide) ?_
    refine j_icmp_le 32 dX2_isRowWrong_25 (by decide) ⟨⟨by omega, by omega⟩, ⟨by omega, by omega⟩⟩ (fun c25 => ?_) (fun c25 => ?_)
    · refine j_iconst dX2_isRowWrong_32 ?_
      refine j_istore_n [some (.ref m), some (vi (((sg.1 45) - 1) / 3)), some (vi 0), none, none] dX2_isRowWrong_33 (by decide) rfl rfl ?_
      refine j_iconst dX2_isRowWrong_34 ?_
      refine j_istore_n [some (.ref m), some (vi (((sg.1 45) - 1) / 3)), some (vi 0), some (vi 0), none] dX2_isRowWrong_35 (by decide) rfl rfl ?_
      have L36 : ∀ (N : Nat) (i k : Int), (8 - k).toNat = N → (0 ≤ k ∧ k ≤ 8 ∧ (k ≤ (sg.1 45 - 1) / 3)) → (i = 0 ∨ i = 1) → (i = 1 ↔ rwE sg k) → MW K yiX2_isRowWrong d (tov K h m (ovr sg [] [])) 36 [some (.ref m), some (vi ((sg.1 45 - 1) / 3)), some (vi i), some (vi k), none] [] Q := by
        intro N
        induction N using Nat.strongRecOn with
        | _ N ih36 =>
        intro i k hN36 hk hi hb
        refine j_iload_n dX2_isRowWrong_36 rfl ?_
        refine j_iload_n dX2_isRowWrong_37 rfl ?_
        refine j_icmp_ge 185 dX2_isRowWrong_38 (by decide) ⟨⟨by omega, by omega⟩, ⟨by omega, by omega⟩⟩ (fun c38 => ?_) (fun c38 => ?_)
        · refine j_iload_n dX2_isRowWrong_185 rfl ?_
          subst hQ; exact j_zret dX2_isRowWrong_186 rfl (by omega) (⟨rfl, hi, hb.trans (rw_f (by omega) (by omega))⟩)
        · refine j_iload_n dX2_isRowWrong_41 rfl ?_
          refine j_bipush dX2_isRowWrong_42 (by decide) ?_
          refine j_icmp_ge 185 dX2_isRowWrong_44 (by decide) ⟨⟨by omega, by omega⟩, ⟨by omega, by omega⟩⟩ (fun c44 => ?_) (fun c44 => ?_)
          · refine j_iload_n dX2_isRowWrong_185 rfl ?_
            subst hQ; exact j_zret dX2_isRowWrong_186 rfl (by omega) (⟨rfl, hi, hb.trans (rw_f (by omega) (by omega))⟩)
          · refine j_iconst dX2_isRowWrong_47 ?_
            refine j_iconst dX2_isRowWrong_48 ?_
            refine j_iload_n dX2_isRowWrong_49 rfl ?_
            refine j_imul dX2_isRowWrong_50 ?_
            refine j_iadd dX2_isRowWrong_51 ?_
            refine j_istore [some (.ref m), some (vi ((sg.1 45 - 1) / 3)), some (vi i), some (vi k), some (vi (1 + (3 * k)))] dX2_isRowWrong_52 (by decide) rfl rfl ?_
            refine j_iload_n dX2_isRowWrong_54 rfl ?_
            refine m_aload_n dX2_isRowWrong_55 rfl ?_
            refine t_geta 44 31 (by decide) dX2_isRowWrong_56 q3137 rfl ?_
            refine j_iload dX2_isRowWrong_59 rfl ?_
            refine t_aldB 31 (by decide) (n := 32) (sg.2 44) dX2_isRowWrong_61 rfl (Nat.le_of_ble_eq_true rfl) (oa44 (hT.2 44)) ⟨by omega, by omega⟩ (fun b61 => ?_)
            refine m_aload_n dX2_isRowWrong_62 rfl ?_
            refine t_geti 1 (by decide) (sg.1 1) dX2_isRowWrong_63 q3094 rfl ?_
            refine j_icmp_ge 120 dX2_isRowWrong_66 (by decide) ⟨⟨by omega, by omega⟩, ⟨by omega, by omega⟩⟩ (fun c66 => ?_) (fun c66 => ?_)
            · refine j_iconst dX2_isRowWrong_120 ?_
              refine m_goto 125 dX2_isRowWrong_121 (by decide) ?_
              refine j_ior1 dX2_isRowWrong_125 (by omega) ?_
              refine j_istore_n [some (.ref m), some (vi ((sg.1 45 - 1) / 3)), some (vi 1), some (vi k), some (vi (1 + (3 * k)))] dX2_isRowWrong_126 (by decide) rfl rfl ?_
              refine j_iload_n dX2_isRowWrong_127 rfl ?_
              refine j_iload_n dX2_isRowWrong_128 rfl ?_
              refine j_if_le 176 dX2_isRowWrong_129 (by decide) ⟨by omega, by omega⟩ (fun c129 => ?_) (fun c129 => ?_)
              · refine j_iconst dX2_isRowWrong_176 ?_
                refine j_ior0 dX2_isRowWrong_177 ?_
                refine j_istore_n [some (.ref m), some (vi ((sg.1 45 - 1) / 3)), some (vi 1), some (vi k), some (vi (1 + (3 * k)))] dX2_isRowWrong_178 (by decide) rfl rfl ?_
                refine j_iinc [some (.ref m), some (vi ((sg.1 45 - 1) / 3)), some (vi 1), some (vi (k + 1)), some (vi (1 + (3 * k)))] dX2_isRowWrong_179 rfl (by decide) rfl rfl ?_
                refine m_goto 36 dX2_isRowWrong_182 (by decide) ?_
                refine mw_forget 4 ?_
                exact ih36 _ (by omega) _ _ rfl (by omega) (by omega) (by first | exact rw_y hk.1 (by unfold rwB; omega) | exact rw_n hb (by unfold rwB; omega))
              · refine m_aload_n dX2_isRowWrong_132 rfl ?_
                refine t_geta 44 31 (by decide) dX2_isRowWrong_133 q3137 rfl ?_
                refine j_iload dX2_isRowWrong_136 rfl ?_
                refine j_iconst dX2_isRowWrong_138 ?_
                refine j_iadd dX2_isRowWrong_139 ?_
                refine t_aldB 31 (by decide) (n := 32) (sg.2 44) dX2_isRowWrong_140 rfl (Nat.le_of_ble_eq_true rfl) (oa44 (hT.2 44)) ⟨by omega, by omega⟩ (fun b140 => ?_)
                refine m_aload_n dX2_isRowWrong_141 rfl ?_
                refine t_geta 44 31 (by decide) dX2_isRowWrong_142 q3137 rfl ?_
                refine j_iload dX2_isRowWrong_145 rfl ?_
                refine j_iconst dX2_isRowWrong_147 ?_
                refine j_isub dX2_isRowWrong_148 ?_
                refine t_aldB 31 (by decide) (n := 32) (sg.2 44) dX2_isRowWrong_149 rfl (Nat.le_of_ble_eq_true rfl) (oa44 (hT.2 44)) ⟨by omega, by omega⟩ (fun b149 => ?_)
                refine j_icmp_le 172 dX2_isRowWrong_150 (by decide) ⟨⟨by omega, by omega⟩, ⟨by omega, by omega⟩⟩ (fun c150 => ?_) (fun c150 => ?_)
                · refine j_iconst dX2_isRowWrong_172 ?_
                  refine m_goto 177 dX2_isRowWrong_173 (by decide) ?_
                  refine j_ior1 dX2_isRowWrong_177 (by omega) ?_
                  refine j_istore_n [some (.ref m), some (vi ((sg.1 45 - 1) / 3)), some (vi 1), some (vi k), some (vi (1 + (3 * k)))] dX2_isRowWrong_178 (by decide) rfl rfl ?_
                  refine j_iinc [some (.ref m), some (vi ((sg.1 45 - 1) / 3)), some (vi 1), some (vi (k + 1)), some (vi (1 + (3 * k)))] dX2_isRowWrong_179 rfl (by decide) rfl rfl ?_
                  refine m_goto 36 dX2_isRowWrong_182 (by decide) ?_
                  refine mw_forget 4 ?_
                  exact ih36 _ (by omega) _ _ rfl (by omega) (by omega) (by first | exact rw_y hk.1 (by unfold rwB; omega) | exact rw_n hb (by unfold rwB; omega))
                · refine m_aload_n dX2_isRowWrong_153 rfl ?_
                  refine t_geta 44 31 (by decide) dX2_isRowWrong_154 q3137 rfl ?_
                  refine j_iload dX2_isRowWrong_157 rfl ?_
                  refine t_aldB 31 (by decide) (n := 32) (sg.2 44) dX2_isRowWrong_159 rfl (Nat.le_of_ble_eq_true rfl) (oa44 (hT.2 44)) ⟨by omega, by omega⟩ (fun b159 => ?_)
                  refine m_aload_n dX2_isRowWrong_160 rfl ?_
                  refine t_geta 44 31 (by decide) dX2_isRowWrong_161 q3137 rfl ?_
                  refine j_iload dX2_isRowWrong_164 rfl ?_
                  refine j_iconst dX2_isRowWrong_166 ?_
                  refine j_isub dX2_isRowWrong_167 ?_
                  refine t_aldB 31 (by decide) (n := 32) (sg.2 44) dX2_isRowWrong_168 rfl (Nat.le_of_ble_eq_true rfl) (oa44 (hT.2 44)) ⟨by omega, by omega⟩ (fun b168 => ?_)
                  refine j_icmp_ne 176 dX2_isRowWrong_169 (by decide) ⟨⟨by omega, by omega⟩, ⟨by omega, by omega⟩⟩ (fun c169 => ?_) (fun c169 => ?_)
                  · refine j_iconst dX2_isRowWrong_176 ?_
                    refine j_ior0 dX2_isRowWrong_177 ?_
                    refine j_istore_n [some (.ref m), some (vi ((sg.1 45 - 1) / 3)), some (vi 1), some (vi k), some (vi (1 + (3 * k)))] dX2_isRowWrong_178 (by decide) rfl rfl ?_
                    refine j_iinc [some (.ref m), some (vi ((sg.1 45 - 1) / 3)), some (vi 1), some (vi (k + 1)), some (vi (1 + (3 * k)))] dX2_isRowWrong_179 rfl (by decide) rfl rfl ?_
                    refine m_goto 36 dX2_isRowWrong_182 (by decide) ?_
                    refine mw_forget 4 ?_
                    exact ih36 _ (by omega) _ _ rfl (by omega) (by omega) (by first | exact rw_y hk.1 (by unfold rwB; omega) | exact rw_n hb (by unfold rwB; omega))
                  · refine j_iconst dX2_isRowWrong_172 ?_
                    refine m_goto 177 dX2_isRowWrong_173 (by decide) ?_
                    refine j_ior1 dX2_isRowWrong_177 (by omega) ?_
                    refine j_istore_n [some (.ref m), some (vi ((sg.1 45 - 1) / 3)), some (vi 1), some (vi k), some (vi (1 + (3 * k)))] dX2_isRowWrong_178 (by decide) rfl rfl ?_
                    refine j_iinc [some (.ref m), some (vi ((sg.1 45 - 1) / 3)), some (vi 1), some (vi (k + 1)), some (vi (1 + (3 * k)))] dX2_isRowWrong_179 rfl (by decide) rfl rfl ?_
                    refine m_goto 36 dX2_isRowWrong_182 (by decide) ?_
                    refine mw_forget 4 ?_
                    exact ih36 _ (by omega) _ _ rfl (by omega) (by omega) (by first | exact rw_y hk.1 (by unfold rwB; omega) | exact rw_n hb (by unfold rwB; omega))
            · refine m_aload_n dX2_isRowWrong_69 rfl ?_
              refine t_geta 44 31 (by decide) dX2_isRowWrong_70 q3137 rfl ?_
              refine j_iload dX2_isRowWrong_73 rfl ?_
              refine j_iconst dX2_isRowWrong_75 ?_
              refine j_iadd dX2_isRowWrong_76 ?_
              refine t_aldB 31 (by decide) (n := 32) (sg.2 44) dX2_isRowWrong_77 rfl (Nat.le_of_ble_eq_true rfl) (oa44 (hT.2 44)) ⟨by omega, by omega⟩ (fun b77 => ?_)
              refine j_sipush dX2_isRowWrong_78 (by decide) ?_
              refine j_icmp_gt 120 dX2_isRowWrong_81 (by decide) ⟨⟨by omega, by omega⟩, ⟨by omega, by omega⟩⟩ (fun c81 => ?_) (fun c81 => ?_)
              · refine j_iconst dX2_isRowWrong_120 ?_
                refine m_goto 125 dX2_isRowWrong_121 (by decide) ?_
                refine j_ior1 dX2_isRowWrong_125 (by omega) ?_
                refine j_istore_n [some (.ref m), some (vi ((sg.1 45 - 1) / 3)), some (vi 1), some (vi k), some (vi (1 + (3 * k)))] dX2_isRowWrong_126 (by decide) rfl rfl ?_
                refine j_iload_n dX2_isRowWrong_127 rfl ?_
                refine j_iload_n dX2_isRowWrong_128 rfl ?_
                refine j_if_le 176 dX2_isRowWrong_129 (by decide) ⟨by omega, by omega⟩ (fun c129 => ?_) (fun c129 => ?_)
                · refine j_iconst dX2_isRowWrong_176 ?_
                  refine j_ior0 dX2_isRowWrong_177 ?_
                  refine j_istore_n [some (.ref m), some (vi ((sg.1 45 - 1) / 3)), some (vi 1), some (vi k), some (vi (1 + (3 * k)))] dX2_isRowWrong_178 (by decide) rfl rfl ?_
                  refine j_iinc [some (.ref m), some (vi ((sg.1 45 - 1) / 3)), some (vi 1), some (vi (k + 1)), some (vi (1 + (3 * k)))] dX2_isRowWrong_179 rfl (by decide) rfl rfl ?_
                  refine m_goto 36 dX2_isRowWrong_182 (by decide) ?_
                  refine mw_forget 4 ?_
                  exact ih36 _ (by omega) _ _ rfl (by omega) (by omega) (by first | exact rw_y hk.1 (by unfold rwB; omega) | exact rw_n hb (by unfold rwB; omega))
                · refine m_aload_n dX2_isRowWrong_132 rfl ?_
                  refine t_geta 44 31 (by decide) dX2_isRowWrong_133 q3137 rfl ?_
                  refine j_iload dX2_isRowWrong_136 rfl ?_
                  refine j_iconst dX2_isRowWrong_138 ?_
                  refine j_iadd dX2_isRowWrong_139 ?_
                  refine t_aldB 31 (by decide) (n := 32) (sg.2 44) dX2_isRowWrong_140 rfl (Nat.le_of_ble_eq_true rfl) (oa44 (hT.2 44)) ⟨by omega, by omega⟩ (fun b140 => ?_)
                  refine m_aload_n dX2_isRowWrong_141 rfl ?_
                  refine t_geta 44 31 (by decide) dX2_isRowWrong_142 q3137 rfl ?_
                  refine j_iload dX2_isRowWrong_145 rfl ?_
                  refine j_iconst dX2_isRowWrong_147 ?_
                  refine j_isub dX2_isRowWrong_148 ?_
                  refine t_aldB 31 (by decide) (n := 32) (sg.2 44) dX2_isRowWrong_149 rfl (Nat.le_of_ble_eq_true rfl) (oa44 (hT.2 44)) ⟨by omega, by omega⟩ (fun b149 => ?_)
                  refine j_icmp_le 172 dX2_isRowWrong_150 (by decide) ⟨⟨by omega, by omega⟩, ⟨by omega, by omega⟩⟩ (fun c150 => ?_) (fun c150 => ?_)
                  · refine j_iconst dX2_isRowWrong_172 ?_
                    refine m_goto 177 dX2_isRowWrong_173 (by decide) ?_
                    refine j_ior1 dX2_isRowWrong_177 (by omega) ?_
                    refine j_istore_n [some (.ref m), some (vi ((sg.1 45 - 1) / 3)), some (vi 1), some (vi k), some (vi (1 + (3 * k)))] dX2_isRowWrong_178 (by decide) rfl rfl ?_
                    refine j_iinc [some (.ref m), some (vi ((sg.1 45 - 1) / 3)), some (vi 1), some (vi (k + 1)), some (vi (1 + (3 * k)))] dX2_isRowWrong_179 rfl (by decide) rfl rfl ?_
                    refine m_goto 36 dX2_isRowWrong_182 (by decide) ?_
                    refine mw_forget 4 ?_
                    exact ih36 _ (by omega) _ _ rfl (by omega) (by omega) (by first | exact rw_y hk.1 (by unfold rwB; omega) | exact rw_n hb (by unfold rwB; omega))
                  · refine m_aload_n dX2_isRowWrong_153 rfl ?_
                    refine t_geta 44 31 (by decide) dX2_isRowWrong_154 q3137 rfl ?_
                    refine j_iload dX2_isRowWrong_157 rfl ?_
                    refine t_aldB 31 (by decide) (n := 32) (sg.2 44) dX2_isRowWrong_159 rfl (Nat.le_of_ble_eq_true rfl) (oa44 (hT.2 44)) ⟨by omega, by omega⟩ (fun b159 => ?_)
                    refine m_aload_n dX2_isRowWrong_160 rfl ?_
                    refine t_geta 44 31 (by decide) dX2_isRowWrong_161 q3137 rfl ?_
                    refine j_iload dX2_isRowWrong_164 rfl ?_
                    refine j_iconst dX2_isRowWrong_166 ?_
                    refine j_isub dX2_isRowWrong_167 ?_
                    refine t_aldB 31 (by decide) (n := 32) (sg.2 44) dX2_isRowWrong_168 rfl (Nat.le_of_ble_eq_true rfl) (oa44 (hT.2 44)) ⟨by omega, by omega⟩ (fun b168 => ?_)
                    refine j_icmp_ne 176 dX2_isRowWrong_169 (by decide) ⟨⟨by omega, by omega⟩, ⟨by omega, by omega⟩⟩ (fun c169 => ?_) (fun c169 => ?_)
                    · refine j_iconst dX2_isRowWrong_176 ?_
                      refine j_ior0 dX2_isRowWrong_177 ?_
                      refine j_istore_n [some (.ref m), some (vi ((sg.1 45 - 1) / 3)), some (vi 1), some (vi k), some (vi (1 + (3 * k)))] dX2_isRowWrong_178 (by decide) rfl rfl ?_
                      refine j_iinc [some (.ref m), some (vi ((sg.1 45 - 1) / 3)), some (vi 1), some (vi (k + 1)), some (vi (1 + (3 * k)))] dX2_isRowWrong_179 rfl (by decide) rfl rfl ?_
                      refine m_goto 36 dX2_isRowWrong_182 (by decide) ?_
                      refine mw_forget 4 ?_
                      exact ih36 _ (by omega) _ _ rfl (by omega) (by omega) (by first | exact rw_y hk.1 (by unfold rwB; omega) | exact rw_n hb (by unfold rwB; omega))
                    · refine j_iconst dX2_isRowWrong_172 ?_
                      refine m_goto 177 dX2_isRowWrong_173 (by decide) ?_
                      refine j_ior1 dX2_isRowWrong_177 (by omega) ?_
                      refine j_istore_n [some (.ref m), some (vi ((sg.1 45 - 1) / 3)), some (vi 1), some (vi k), some (vi (1 + (3 * k)))] dX2_isRowWrong_178 (by decide) rfl rfl ?_
                      refine j_iinc [some (.ref m), some (vi ((sg.1 45 - 1) / 3)), some (vi 1), some (vi (k + 1)), some (vi (1 + (3 * k)))] dX2_isRowWrong_179 rfl (by decide) rfl rfl ?_
                      refine m_goto 36 dX2_isRowWrong_182 (by decide) ?_
                      refine mw_forget 4 ?_
                      exact ih36 _ (by omega) _ _ rfl (by omega) (by omega) (by first | exact rw_y hk.1 (by unfold rwB; omega) | exact rw_n hb (by unfold rwB; omega))
              · refine m_aload_n dX2_isRowWrong_84 rfl ?_
                refine t_geta 44 31 (by decide) dX2_isRowWrong_85 q3137 rfl ?_
                refine j_iload dX2_isRowWrong_88 rfl ?_
                refine j_iconst dX2_isRowWrong_90 ?_
                refine j_iadd dX2_isRowWrong_91 ?_
                refine t_aldB 31 (by decide) (n := 32) (sg.2 44) dX2_isRowWrong_92 rfl (Nat.le_of_ble_eq_true rfl) (oa44 (hT.2 44)) ⟨by omega, by omega⟩ (fun b92 => ?_)
                refine j_sipush dX2_isRowWrong_93 (by decide) ?_
                refine j_icmp_gt 120 dX2_isRowWrong_96 (by decide) ⟨⟨by omega, by omega⟩, ⟨by omega, by omega⟩⟩ (fun c96 => ?_) (fun c96 => ?_)
                · refine j_iconst dX2_isRowWrong_120 ?_
                  refine m_goto 125 dX2_isRowWrong_121 (by decide) ?_
                  refine j_ior1 dX2_isRowWrong_125 (by omega) ?_
                  refine j_istore_n [some (.ref m), some (vi ((sg.1 45 - 1) / 3)), some (vi 1), some (vi k), some (vi (1 + (3 * k)))] dX2_isRowWrong_126 (by decide) rfl rfl ?_
                  refine j_iload_n dX2_isRowWrong_127 rfl ?_
                  refine j_iload_n dX2_isRowWrong_128 rfl ?_
                  refine j_if_le 176 dX2_isRowWrong_129 (by decide) ⟨by omega, by omega⟩ (fun c129 => ?_) (fun c129 => ?_)
                  · refine j_iconst dX2_isRowWrong_176 ?_
                    refine j_ior0 dX2_isRowWrong_177 ?_
                    refine j_istore_n [some (.ref m), some (vi ((sg.1 45 - 1) / 3)), some (vi 1), some (vi k), some (vi (1 + (3 * k)))] dX2_isRowWrong_178 (by decide) rfl rfl ?_
                    refine j_iinc [some (.ref m), some (vi ((sg.1 45 - 1) / 3)), some (vi 1), some (vi (k + 1)), some (vi (1 + (3 * k)))] dX2_isRowWrong_179 rfl (by decide) rfl rfl ?_
                    refine m_goto 36 dX2_isRowWrong_182 (by decide) ?_
                    refine mw_forget 4 ?_
                    exact ih36 _ (by omega) _ _ rfl (by omega) (by omega) (by first | exact rw_y hk.1 (by unfold rwB; omega) | exact rw_n hb (by unfold rwB; omega))
                  · refine m_aload_n dX2_isRowWrong_132 rfl ?_
                    refine t_geta 44 31 (by decide) dX2_isRowWrong_133 q3137 rfl ?_
                    refine j_iload dX2_isRowWrong_136 rfl ?_
                    refine j_iconst dX2_isRowWrong_138 ?_
                    refine j_iadd dX2_isRowWrong_139 ?_
                    refine t_aldB 31 (by decide) (n := 32) (sg.2 44) dX2_isRowWrong_140 rfl (Nat.le_of_ble_eq_true rfl) (oa44 (hT.2 44)) ⟨by omega, by omega⟩ (fun b140 => ?_)
                    refine m_aload_n dX2_isRowWrong_141 rfl ?_
                    refine t_geta 44 31 (by decide) dX2_isRowWrong_142 q3137 rfl ?_
                    refine j_iload dX2_isRowWrong_145 rfl ?_
                    refine j_iconst dX2_isRowWrong_147 ?_
                    refine j_isub dX2_isRowWrong_148 ?_
                    refine t_aldB 31 (by decide) (n := 32) (sg.2 44) dX2_isRowWrong_149 rfl (Nat.le_of_ble_eq_true rfl) (oa44 (hT.2 44)) ⟨by omega, by omega⟩ (fun b149 => ?_)
                    refine j_icmp_le 172 dX2_isRowWrong_150 (by decide) ⟨⟨by omega, by omega⟩, ⟨by omega, by omega⟩⟩ (fun c150 => ?_) (fun c150 => ?_)
                    · refine j_iconst dX2_isRowWrong_172 ?_
                      refine m_goto 177 dX2_isRowWrong_173 (by decide) ?_
                      refine j_ior1 dX2_isRowWrong_177 (by omega) ?_
                      refine j_istore_n [some (.ref m), some (vi ((sg.1 45 - 1) / 3)), some (vi 1), some (vi k), some (vi (1 + (3 * k)))] dX2_isRowWrong_178 (by decide) rfl rfl ?_
                      refine j_iinc [some (.ref m), some (vi ((sg.1 45 - 1) / 3)), some (vi 1), some (vi (k + 1)), some (vi (1 + (3 * k)))] dX2_isRowWrong_179 rfl (by decide) rfl rfl ?_
                      refine m_goto 36 dX2_isRowWrong_182 (by decide) ?_
                      refine mw_forget 4 ?_
                      exact ih36 _ (by omega) _ _ rfl (by omega) (by omega) (by first | exact rw_y hk.1 (by unfold rwB; omega) | exact rw_n hb (by unfold rwB; omega))
                    · refine m_aload_n dX2_isRowWrong_153 rfl ?_
                      refine t_geta 44 31 (by decide) dX2_isRowWrong_154 q3137 rfl ?_
                      refine j_iload dX2_isRowWrong_157 rfl ?_
                      refine t_aldB 31 (by decide) (n := 32) (sg.2 44) dX2_isRowWrong_159 rfl (Nat.le_of_ble_eq_true rfl) (oa44 (hT.2 44)) ⟨by omega, by omega⟩ (fun b159 => ?_)
                      refine m_aload_n dX2_isRowWrong_160 rfl ?_
                      refine t_geta 44 31 (by decide) dX2_isRowWrong_161 q3137 rfl ?_
                      refine j_iload dX2_isRowWrong_164 rfl ?_
                      refine j_iconst dX2_isRowWrong_166 ?_
                      refine j_isub dX2_isRowWrong_167 ?_
                      refine t_aldB 31 (by decide) (n := 32) (sg.2 44) dX2_isRowWrong_168 rfl (Nat.le_of_ble_eq_true rfl) (oa44 (hT.2 44)) ⟨by omega, by omega⟩ (fun b168 => ?_)
                      refine j_icmp_ne 176 dX2_isRowWrong_169 (by decide) ⟨⟨by omega, by omega⟩, ⟨by omega, by omega⟩⟩ (fun c169 => ?_) (fun c169 => ?_)
                      · refine j_iconst dX2_isRowWrong_176 ?_
                        refine j_ior0 dX2_isRowWrong_177 ?_
                        refine j_istore_n [some (.ref m), some (vi ((sg.1 45 - 1) / 3)), some (vi 1), some (vi k), some (vi (1 + (3 * k)))] dX2_isRowWrong_178 (by decide) rfl rfl ?_
                        refine j_iinc [some (.ref m), some (vi ((sg.1 45 - 1) / 3)), some (vi 1), some (vi (k + 1)), some (vi (1 + (3 * k)))] dX2_isRowWrong_179 rfl (by decide) rfl rfl ?_
                        refine m_goto 36 dX2_isRowWrong_182 (by decide) ?_
                        refine mw_forget 4 ?_
                        exact ih36 _ (by omega) _ _ rfl (by omega) (by omega) (by first | exact rw_y hk.1 (by unfold rwB; omega) | exact rw_n hb (by unfold rwB; omega))
                      · refine j_iconst dX2_isRowWrong_172 ?_
                        refine m_goto 177 dX2_isRowWrong_173 (by decide) ?_
                        refine j_ior1 dX2_isRowWrong_177 (by omega) ?_
                        refine j_istore_n [some (.ref m), some (vi ((sg.1 45 - 1) / 3)), some (vi 1), some (vi k), some (vi (1 + (3 * k)))] dX2_isRowWrong_178 (by decide) rfl rfl ?_
                        refine j_iinc [some (.ref m), some (vi ((sg.1 45 - 1) / 3)), some (vi 1), some (vi (k + 1)), some (vi (1 + (3 * k)))] dX2_isRowWrong_179 rfl (by decide) rfl rfl ?_
                        refine m_goto 36 dX2_isRowWrong_182 (by decide) ?_
                        refine mw_forget 4 ?_
                        exact ih36 _ (by omega) _ _ rfl (by omega) (by omega) (by first | exact rw_y hk.1 (by unfold rwB; omega) | exact rw_n hb (by unfold rwB; omega))
                · refine m_aload_n dX2_isRowWrong_99 rfl ?_
                  refine t_geta 44 31 (by decide) dX2_isRowWrong_100 q3137 rfl ?_
                  refine j_iload dX2_isRowWrong_103 rfl ?_
                  refine j_iconst dX2_isRowWrong_105 ?_
                  refine j_iadd dX2_isRowWrong_106 ?_
                  refine t_aldB 31 (by decide) (n := 32) (sg.2 44) dX2_isRowWrong_107 rfl (Nat.le_of_ble_eq_true rfl) (oa44 (hT.2 44)) ⟨by omega, by omega⟩ (fun b107 => ?_)
                  refine m_aload_n dX2_isRowWrong_108 rfl ?_
                  refine t_geta 44 31 (by decide) dX2_isRowWrong_109 q3137 rfl ?_
                  refine j_iload dX2_isRowWrong_112 rfl ?_
                  refine j_iconst dX2_isRowWrong_114 ?_
                  refine j_iadd dX2_isRowWrong_115 ?_
                  refine t_aldB 31 (by decide) (n := 32) (sg.2 44) dX2_isRowWrong_116 rfl (Nat.le_of_ble_eq_true rfl) (oa44 (hT.2 44)) ⟨by omega, by omega⟩ (fun b116 => ?_)
                  refine j_icmp_ge 124 dX2_isRowWrong_117 (by decide) ⟨⟨by omega, by omega⟩, ⟨by omega, by omega⟩⟩ (fun c117 => ?_) (fun c117 => ?_)
                  · refine j_iconst dX2_isRowWrong_124 ?_
                    refine j_ior0 dX2_isRowWrong_125 ?_
                    refine j_istore_n [some (.ref m), some (vi ((sg.1 45 - 1) / 3)), some (vi i), some (vi k), some (vi (1 + (3 * k)))] dX2_isRowWrong_126 (by decide) rfl rfl ?_
                    refine j_iload_n dX2_isRowWrong_127 rfl ?_
                    refine j_iload_n dX2_isRowWrong_128 rfl ?_
                    refine j_if_le 176 dX2_isRowWrong_129 (by decide) ⟨by omega, by omega⟩ (fun c129 => ?_) (fun c129 => ?_)
                    · refine j_iconst dX2_isRowWrong_176 ?_
                      refine j_ior0 dX2_isRowWrong_177 ?_
                      refine j_istore_n [some (.ref m), some (vi ((sg.1 45 - 1) / 3)), some (vi i), some (vi k), some (vi (1 + (3 * k)))] dX2_isRowWrong_178 (by decide) rfl rfl ?_
                      refine j_iinc [some (.ref m), some (vi ((sg.1 45 - 1) / 3)), some (vi i), some (vi (k + 1)), some (vi (1 + (3 * k)))] dX2_isRowWrong_179 rfl (by decide) rfl rfl ?_
                      refine m_goto 36 dX2_isRowWrong_182 (by decide) ?_
                      refine mw_forget 4 ?_
                      exact ih36 _ (by omega) _ _ rfl (by omega) (by omega) (by first | exact rw_y hk.1 (by unfold rwB; omega) | exact rw_n hb (by unfold rwB; omega))
                    · refine m_aload_n dX2_isRowWrong_132 rfl ?_
                      refine t_geta 44 31 (by decide) dX2_isRowWrong_133 q3137 rfl ?_
                      refine j_iload dX2_isRowWrong_136 rfl ?_
                      refine j_iconst dX2_isRowWrong_138 ?_
                      refine j_iadd dX2_isRowWrong_139 ?_
                      refine t_aldB 31 (by decide) (n := 32) (sg.2 44) dX2_isRowWrong_140 rfl (Nat.le_of_ble_eq_true rfl) (oa44 (hT.2 44)) ⟨by omega, by omega⟩ (fun b140 => ?_)
                      refine m_aload_n dX2_isRowWrong_141 rfl ?_
                      refine t_geta 44 31 (by decide) dX2_isRowWrong_142 q3137 rfl ?_
                      refine j_iload dX2_isRowWrong_145 rfl ?_
                      refine j_iconst dX2_isRowWrong_147 ?_
                      refine j_isub dX2_isRowWrong_148 ?_
                      refine t_aldB 31 (by decide) (n := 32) (sg.2 44) dX2_isRowWrong_149 rfl (Nat.le_of_ble_eq_true rfl) (oa44 (hT.2 44)) ⟨by omega, by omega⟩ (fun b149 => ?_)
                      refine j_icmp_le 172 dX2_isRowWrong_150 (by decide) ⟨⟨by omega, by omega⟩, ⟨by omega, by omega⟩⟩ (fun c150 => ?_) (fun c150 => ?_)
                      · refine j_iconst dX2_isRowWrong_172 ?_
                        refine m_goto 177 dX2_isRowWrong_173 (by decide) ?_
                        refine j_ior1 dX2_isRowWrong_177 (by omega) ?_
                        refine j_istore_n [some (.ref m), some (vi ((sg.1 45 - 1) / 3)), some (vi 1), some (vi k), some (vi (1 + (3 * k)))] dX2_isRowWrong_178 (by decide) rfl rfl ?_
                        refine j_iinc [some (.ref m), some (vi ((sg.1 45 - 1) / 3)), some (vi 1), some (vi (k + 1)), some (vi (1 + (3 * k)))] dX2_isRowWrong_179 rfl (by decide) rfl rfl ?_
                        refine m_goto 36 dX2_isRowWrong_182 (by decide) ?_
                        refine mw_forget 4 ?_
                        exact ih36 _ (by omega) _ _ rfl (by omega) (by omega) (by first | exact rw_y hk.1 (by unfold rwB; omega) | exact rw_n hb (by unfold rwB; omega))
                      · refine m_aload_n dX2_isRowWrong_153 rfl ?_
                        refine t_geta 44 31 (by decide) dX2_isRowWrong_154 q3137 rfl ?_
                        refine j_iload dX2_isRowWrong_157 rfl ?_
                        refine t_aldB 31 (by decide) (n := 32) (sg.2 44) dX2_isRowWrong_159 rfl (Nat.le_of_ble_eq_true rfl) (oa44 (hT.2 44)) ⟨by omega, by omega⟩ (fun b159 => ?_)
                        refine m_aload_n dX2_isRowWrong_160 rfl ?_
                        refine t_geta 44 31 (by decide) dX2_isRowWrong_161 q3137 rfl ?_
                        refine j_iload dX2_isRowWrong_164 rfl ?_
                        refine j_iconst dX2_isRowWrong_166 ?_
                        refine j_isub dX2_isRowWrong_167 ?_
                        refine t_aldB 31 (by decide) (n := 32) (sg.2 44) dX2_isRowWrong_168 rfl (Nat.le_of_ble_eq_true rfl) (oa44 (hT.2 44)) ⟨by omega, by omega⟩ (fun b168 => ?_)
                        refine j_icmp_ne 176 dX2_isRowWrong_169 (by decide) ⟨⟨by omega, by omega⟩, ⟨by omega, by omega⟩⟩ (fun c169 => ?_) (fun c169 => ?_)
                        · refine j_iconst dX2_isRowWrong_176 ?_
                          refine j_ior0 dX2_isRowWrong_177 ?_
                          refine j_istore_n [some (.ref m), some (vi ((sg.1 45 - 1) / 3)), some (vi i), some (vi k), some (vi (1 + (3 * k)))] dX2_isRowWrong_178 (by decide) rfl rfl ?_
                          refine j_iinc [some (.ref m), some (vi ((sg.1 45 - 1) / 3)), some (vi i), some (vi (k + 1)), some (vi (1 + (3 * k)))] dX2_isRowWrong_179 rfl (by decide) rfl rfl ?_
                          refine m_goto 36 dX2_isRowWrong_182 (by decide) ?_
                          refine mw_forget 4 ?_
                          exact ih36 _ (by omega) _ _ rfl (by omega) (by omega) (by first | exact rw_y hk.1 (by unfold rwB; omega) | exact rw_n hb (by unfold rwB; omega))
                        · refine j_iconst dX2_isRowWrong_172 ?_
                          refine m_goto 177 dX2_isRowWrong_173 (by decide) ?_
                          refine j_ior1 dX2_isRowWrong_177 (by omega) ?_
                          refine j_istore_n [some (.ref m), some (vi ((sg.1 45 - 1) / 3)), some (vi 1), some (vi k), some (vi (1 + (3 * k)))] dX2_isRowWrong_178 (by decide) rfl rfl ?_
                          refine j_iinc [some (.ref m), some (vi ((sg.1 45 - 1) / 3)), some (vi 1), some (vi (k + 1)), some (vi (1 + (3 * k)))] dX2_isRowWrong_179 rfl (by decide) rfl rfl ?_
                          refine m_goto 36 dX2_isRowWrong_182 (by decide) ?_
                          refine mw_forget 4 ?_
                          exact ih36 _ (by omega) _ _ rfl (by omega) (by omega) (by first | exact rw_y hk.1 (by unfold rwB; omega) | exact rw_n hb (by unfold rwB; omega))
                  · refine j_iconst dX2_isRowWrong_120 ?_
                    refine m_goto 125 dX2_isRowWrong_121 (by decide) ?_
                    refine j_ior1 dX2_isRowWrong_125 (by omega) ?_
                    refine j_istore_n [some (.ref m), some (vi ((sg.1 45 - 1) / 3)), some (vi 1), some (vi k), some (vi (1 + (3 * k)))] dX2_isRowWrong_126 (by decide) rfl rfl ?_
                    refine j_iload_n dX2_isRowWrong_127 rfl ?_
                    refine j_iload_n dX2_isRowWrong_128 rfl ?_
                    refine j_if_le 176 dX2_isRowWrong_129 (by decide) ⟨by omega, by omega⟩ (fun c129 => ?_) (fun c129 => ?_)
                    · refine j_iconst dX2_isRowWrong_176 ?_
                      refine j_ior0 dX2_isRowWrong_177 ?_
                      refine j_istore_n [some (.ref m), some (vi ((sg.1 45 - 1) / 3)), some (vi 1), some (vi k), some (vi (1 + (3 * k)))] dX2_isRowWrong_178 (by decide) rfl rfl ?_
                      refine j_iinc [some (.ref m), some (vi ((sg.1 45 - 1) / 3)), some (vi 1), some (vi (k + 1)), some (vi (1 + (3 * k)))] dX2_isRowWrong_179 rfl (by decide) rfl rfl ?_
                      refine m_goto 36 dX2_isRowWrong_182 (by decide) ?_
                      refine mw_forget 4 ?_
                      exact ih36 _ (by omega) _ _ rfl (by omega) (by omega) (by first | exact rw_y hk.1 (by unfold rwB; omega) | exact rw_n hb (by unfold rwB; omega))
                    · refine m_aload_n dX2_isRowWrong_132 rfl ?_
                      refine t_geta 44 31 (by decide) dX2_isRowWrong_133 q3137 rfl ?_
                      refine j_iload dX2_isRowWrong_136 rfl ?_
                      refine j_iconst dX2_isRowWrong_138 ?_
                      refine j_iadd dX2_isRowWrong_139 ?_
                      refine t_aldB 31 (by decide) (n := 32) (sg.2 44) dX2_isRowWrong_140 rfl (Nat.le_of_ble_eq_true rfl) (oa44 (hT.2 44)) ⟨by omega, by omega⟩ (fun b140 => ?_)
                      refine m_aload_n dX2_isRowWrong_141 rfl ?_
                      refine t_geta 44 31 (by decide) dX2_isRowWrong_142 q3137 rfl ?_
                      refine j_iload dX2_isRowWrong_145 rfl ?_
                      refine j_iconst dX2_isRowWrong_147 ?_
                      refine j_isub dX2_isRowWrong_148 ?_
                      refine t_aldB 31 (by decide) (n := 32) (sg.2 44) dX2_isRowWrong_149 rfl (Nat.le_of_ble_eq_true rfl) (oa44 (hT.2 44)) ⟨by omega, by omega⟩ (fun b149 => ?_)
                      refine j_icmp_le 172 dX2_isRowWrong_150 (by decide) ⟨⟨by omega, by omega⟩, ⟨by omega, by omega⟩⟩ (fun c150 => ?_) (fun c150 => ?_)
                      · refine j_iconst dX2_isRowWrong_172 ?_
                        refine m_goto 177 dX2_isRowWrong_173 (by decide) ?_
                        refine j_ior1 dX2_isRowWrong_177 (by omega) ?_
                        refine j_istore_n [some (.ref m), some (vi ((sg.1 45 - 1) / 3)), some (vi 1), some (vi k), some (vi (1 + (3 * k)))] dX2_isRowWrong_178 (by decide) rfl rfl ?_
                        refine j_iinc [some (.ref m), some (vi ((sg.1 45 - 1) / 3)), some (vi 1), some (vi (k + 1)), some (vi (1 + (3 * k)))] dX2_isRowWrong_179 rfl (by decide) rfl rfl ?_
                        refine m_goto 36 dX2_isRowWrong_182 (by decide) ?_
                        refine mw_forget 4 ?_
                        exact ih36 _ (by omega) _ _ rfl (by omega) (by omega) (by first | exact rw_y hk.1 (by unfold rwB; omega) | exact rw_n hb (by unfold rwB; omega))
                      · refine m_aload_n dX2_isRowWrong_153 rfl ?_
                        refine t_geta 44 31 (by decide) dX2_isRowWrong_154 q3137 rfl ?_
                        refine j_iload dX2_isRowWrong_157 rfl ?_
                        refine t_aldB 31 (by decide) (n := 32) (sg.2 44) dX2_isRowWrong_159 rfl (Nat.le_of_ble_eq_true rfl) (oa44 (hT.2 44)) ⟨by omega, by omega⟩ (fun b159 => ?_)
                        refine m_aload_n dX2_isRowWrong_160 rfl ?_
                        refine t_geta 44 31 (by decide) dX2_isRowWrong_161 q3137 rfl ?_
                        refine j_iload dX2_isRowWrong_164 rfl ?_
                        refine j_iconst dX2_isRowWrong_166 ?_
                        refine j_isub dX2_isRowWrong_167 ?_
                        refine t_aldB 31 (by decide) (n := 32) (sg.2 44) dX2_isRowWrong_168 rfl (Nat.le_of_ble_eq_true rfl) (oa44 (hT.2 44)) ⟨by omega, by omega⟩ (fun b168 => ?_)
                        refine j_icmp_ne 176 dX2_isRowWrong_169 (by decide) ⟨⟨by omega, by omega⟩, ⟨by omega, by omega⟩⟩ (fun c169 => ?_) (fun c169 => ?_)
                        · refine j_iconst dX2_isRowWrong_176 ?_
                          refine j_ior0 dX2_isRowWrong_177 ?_
                          refine j_istore_n [some (.ref m), some (vi ((sg.1 45 - 1) / 3)), some (vi 1), some (vi k), some (vi (1 + (3 * k)))] dX2_isRowWrong_178 (by decide) rfl rfl ?_
                          refine j_iinc [some (.ref m), some (vi ((sg.1 45 - 1) / 3)), some (vi 1), some (vi (k + 1)), some (vi (1 + (3 * k)))] dX2_isRowWrong_179 rfl (by decide) rfl rfl ?_
                          refine m_goto 36 dX2_isRowWrong_182 (by decide) ?_
                          refine mw_forget 4 ?_
                          exact ih36 _ (by omega) _ _ rfl (by omega) (by omega) (by first | exact rw_y hk.1 (by unfold rwB; omega) | exact rw_n hb (by unfold rwB; omega))
                        · refine j_iconst dX2_isRowWrong_172 ?_
                          refine m_goto 177 dX2_isRowWrong_173 (by decide) ?_
                          refine j_ior1 dX2_isRowWrong_177 (by omega) ?_
                          refine j_istore_n [some (.ref m), some (vi ((sg.1 45 - 1) / 3)), some (vi 1), some (vi k), some (vi (1 + (3 * k)))] dX2_isRowWrong_178 (by decide) rfl rfl ?_
                          refine j_iinc [some (.ref m), some (vi ((sg.1 45 - 1) / 3)), some (vi 1), some (vi (k + 1)), some (vi (1 + (3 * k)))] dX2_isRowWrong_179 rfl (by decide) rfl rfl ?_
                          refine m_goto 36 dX2_isRowWrong_182 (by decide) ?_
                          refine mw_forget 4 ?_
                          exact ih36 _ (by omega) _ _ rfl (by omega) (by omega) (by first | exact rw_y hk.1 (by unfold rwB; omega) | exact rw_n hb (by unfold rwB; omega))
      exact L36 _ _ _ rfl (by omega) (by omega) (by first | exact rw_1 (by omega) | exact rw_0 (by omega))
    · refine j_iconst dX2_isRowWrong_28 ?_
      refine m_goto 33 dX2_isRowWrong_29 (by decide) ?_
      refine j_istore_n [some (.ref m), some (vi (((sg.1 45) - 1) / 3)), some (vi 1), none, none] dX2_isRowWrong_33 (by decide) rfl rfl ?_
      refine j_iconst dX2_isRowWrong_34 ?_
      refine j_istore_n [some (.ref m), some (vi (((sg.1 45) - 1) / 3)), some (vi 1), some (vi 0), none] dX2_isRowWrong_35 (by decide) rfl rfl ?_
      have L36 : ∀ (N : Nat) (i k : Int), (8 - k).toNat = N → (0 ≤ k ∧ k ≤ 8 ∧ (k ≤ (sg.1 45 - 1) / 3)) → (i = 0 ∨ i = 1) → (i = 1 ↔ rwE sg k) → MW K yiX2_isRowWrong d (tov K h m (ovr sg [] [])) 36 [some (.ref m), some (vi ((sg.1 45 - 1) / 3)), some (vi i), some (vi k), none] [] Q := by
        intro N
        induction N using Nat.strongRecOn with
        | _ N ih36 =>
        intro i k hN36 hk hi hb
        refine j_iload_n dX2_isRowWrong_36 rfl ?_
        refine j_iload_n dX2_isRowWrong_37 rfl ?_
        refine j_icmp_ge 185 dX2_isRowWrong_38 (by decide) ⟨⟨by omega, by omega⟩, ⟨by omega, by omega⟩⟩ (fun c38 => ?_) (fun c38 => ?_)
        · refine j_iload_n dX2_isRowWrong_185 rfl ?_
          subst hQ; exact j_zret dX2_isRowWrong_186 rfl (by omega) (⟨rfl, hi, hb.trans (rw_f (by omega) (by omega))⟩)
        · refine j_iload_n dX2_isRowWrong_41 rfl ?_
          refine j_bipush dX2_isRowWrong_42 (by decide) ?_
          refine j_icmp_ge 185 dX2_isRowWrong_44 (by decide) ⟨⟨by omega, by omega⟩, ⟨by omega, by omega⟩⟩ (fun c44 => ?_) (fun c44 => ?_)
          · refine j_iload_n dX2_isRowWrong_185 rfl ?_
            subst hQ; exact j_zret dX2_isRowWrong_186 rfl (by omega) (⟨rfl, hi, hb.trans (rw_f (by omega) (by omega))⟩)
          · refine j_iconst dX2_isRowWrong_47 ?_
            refine j_iconst dX2_isRowWrong_48 ?_
            refine j_iload_n dX2_isRowWrong_49 rfl ?_
            refine j_imul dX2_isRowWrong_50 ?_
            refine j_iadd dX2_isRowWrong_51 ?_
            refine j_istore [some (.ref m), some (vi ((sg.1 45 - 1) / 3)), some (vi i), some (vi k), some (vi (1 + (3 * k)))] dX2_isRowWrong_52 (by decide) rfl rfl ?_
            refine j_iload_n dX2_isRowWrong_54 rfl ?_
            refine m_aload_n dX2_isRowWrong_55 rfl ?_
            refine t_geta 44 31 (by decide) dX2_isRowWrong_56 q3137 rfl ?_
            refine j_iload dX2_isRowWrong_59 rfl ?_
            refine t_aldB 31 (by decide) (n := 32) (sg.2 44) dX2_isRowWrong_61 rfl (Nat.le_of_ble_eq_true rfl) (oa44 (hT.2 44)) ⟨by omega, by omega⟩ (fun b61 => ?_)
            refine m_aload_n dX2_isRowWrong_62 rfl ?_
            refine t_geti 1 (by decide) (sg.1 1) dX2_isRowWrong_63 q3094 rfl ?_
            refine j_icmp_ge 120 dX2_isRowWrong_66 (by decide) ⟨⟨by omega, by omega⟩, ⟨by omega, by omega⟩⟩ (fun c66 => ?_) (fun c66 => ?_)
            · refine j_iconst dX2_isRowWrong_120 ?_
              refine m_goto 125 dX2_isRowWrong_121 (by decide) ?_
              refine j_ior1 dX2_isRowWrong_125 (by omega) ?_
              refine j_istore_n [some (.ref m), some (vi ((sg.1 45 - 1) / 3)), some (vi 1), some (vi k), some (vi (1 + (3 * k)))] dX2_isRowWrong_126 (by decide) rfl rfl ?_
              refine j_iload_n dX2_isRowWrong_127 rfl ?_
              refine j_iload_n dX2_isRowWrong_128 rfl ?_
              refine j_if_le 176 dX2_isRowWrong_129 (by decide) ⟨by omega, by omega⟩ (fun c129 => ?_) (fun c129 => ?_)
              · refine j_iconst dX2_isRowWrong_176 ?_
                refine j_ior0 dX2_isRowWrong_177 ?_
                refine j_istore_n [some (.ref m), some (vi ((sg.1 45 - 1) / 3)), some (vi 1), some (vi k), some (vi (1 + (3 * k)))] dX2_isRowWrong_178 (by decide) rfl rfl ?_
                refine j_iinc [some (.ref m), some (vi ((sg.1 45 - 1) / 3)), some (vi 1), some (vi (k + 1)), some (vi (1 + (3 * k)))] dX2_isRowWrong_179 rfl (by decide) rfl rfl ?_
                refine m_goto 36 dX2_isRowWrong_182 (by decide) ?_
                refine mw_forget 4 ?_
                exact ih36 _ (by omega) _ _ rfl (by omega) (by omega) (by first | exact rw_y hk.1 (by unfold rwB; omega) | exact rw_n hb (by unfold rwB; omega))
              · refine m_aload_n dX2_isRowWrong_132 rfl ?_
                refine t_geta 44 31 (by decide) dX2_isRowWrong_133 q3137 rfl ?_
                refine j_iload dX2_isRowWrong_136 rfl ?_
                refine j_iconst dX2_isRowWrong_138 ?_
                refine j_iadd dX2_isRowWrong_139 ?_
                refine t_aldB 31 (by decide) (n := 32) (sg.2 44) dX2_isRowWrong_140 rfl (Nat.le_of_ble_eq_true rfl) (oa44 (hT.2 44)) ⟨by omega, by omega⟩ (fun b140 => ?_)
                refine m_aload_n dX2_isRowWrong_141 rfl ?_
                refine t_geta 44 31 (by decide) dX2_isRowWrong_142 q3137 rfl ?_
                refine j_iload dX2_isRowWrong_145 rfl ?_
                refine j_iconst dX2_isRowWrong_147 ?_
                refine j_isub dX2_isRowWrong_148 ?_
                refine t_aldB 31 (by decide) (n := 32) (sg.2 44) dX2_isRowWrong_149 rfl (Nat.le_of_ble_eq_true rfl) (oa44 (hT.2 44)) ⟨by omega, by omega⟩ (fun b149 => ?_)
                refine j_icmp_le 172 dX2_isRowWrong_150 (by decide) ⟨⟨by omega, by omega⟩, ⟨by omega, by omega⟩⟩ (fun c150 => ?_) (fun c150 => ?_)
                · refine j_iconst dX2_isRowWrong_172 ?_
                  refine m_goto 177 dX2_isRowWrong_173 (by decide) ?_
                  refine j_ior1 dX2_isRowWrong_177 (by omega) ?_
                  refine j_istore_n [some (.ref m), some (vi ((sg.1 45 - 1) / 3)), some (vi 1), some (vi k), some (vi (1 + (3 * k)))] dX2_isRowWrong_178 (by decide) rfl rfl ?_
                  refine j_iinc [some (.ref m), some (vi ((sg.1 45 - 1) / 3)), some (vi 1), some (vi (k + 1)), some (vi (1 + (3 * k)))] dX2_isRowWrong_179 rfl (by decide) rfl rfl ?_
                  refine m_goto 36 dX2_isRowWrong_182 (by decide) ?_
                  refine mw_forget 4 ?_
                  exact ih36 _ (by omega) _ _ rfl (by omega) (by omega) (by first | exact rw_y hk.1 (by unfold rwB; omega) | exact rw_n hb (by unfold rwB; omega))
                · refine m_aload_n dX2_isRowWrong_153 rfl ?_
                  refine t_geta 44 31 (by decide) dX2_isRowWrong_154 q3137 rfl ?_
                  refine j_iload dX2_isRowWrong_157 rfl ?_
                  refine t_aldB 31 (by decide) (n := 32) (sg.2 44) dX2_isRowWrong_159 rfl (Nat.le_of_ble_eq_true rfl) (oa44 (hT.2 44)) ⟨by omega, by omega⟩ (fun b159 => ?_)
                  refine m_aload_n dX2_isRowWrong_160 rfl ?_
                  refine t_geta 44 31 (by decide) dX2_isRowWrong_161 q3137 rfl ?_
                  refine j_iload dX2_isRowWrong_164 rfl ?_
                  refine j_iconst dX2_isRowWrong_166 ?_
                  refine j_isub dX2_isRowWrong_167 ?_
                  refine t_aldB 31 (by decide) (n := 32) (sg.2 44) dX2_isRowWrong_168 rfl (Nat.le_of_ble_eq_true rfl) (oa44 (hT.2 44)) ⟨by omega, by omega⟩ (fun b168 => ?_)
                  refine j_icmp_ne 176 dX2_isRowWrong_169 (by decide) ⟨⟨by omega, by omega⟩, ⟨by omega, by omega⟩⟩ (fun c169 => ?_) (fun c169 => ?_)
                  · refine j_iconst dX2_isRowWrong_176 ?_
                    refine j_ior0 dX2_isRowWrong_177 ?_
                    refine j_istore_n [some (.ref m), some (vi ((sg.1 45 - 1) / 3)), some (vi 1), some (vi k), some (vi (1 + (3 * k)))] dX2_isRowWrong_178 (by decide) rfl rfl ?_
                    refine j_iinc [some (.ref m), some (vi ((sg.1 45 - 1) / 3)), some (vi 1), some (vi (k + 1)), some (vi (1 + (3 * k)))] dX2_isRowWrong_179 rfl (by decide) rfl rfl ?_
                    refine m_goto 36 dX2_isRowWrong_182 (by decide) ?_
                    refine mw_forget 4 ?_
                    exact ih36 _ (by omega) _ _ rfl (by omega) (by omega) (by first | exact rw_y hk.1 (by unfold rwB; omega) | exact rw_n hb (by unfold rwB; omega))
                  · refine j_iconst dX2_isRowWrong_172 ?_
                    refine m_goto 177 dX2_isRowWrong_173 (by decide) ?_
                    refine j_ior1 dX2_isRowWrong_177 (by omega) ?_
                    refine j_istore_n [some (.ref m), some (vi ((sg.1 45 - 1) / 3)), some (vi 1), some (vi k), some (vi (1 + (3 * k)))] dX2_isRowWrong_178 (by decide) rfl rfl ?_
                    refine j_iinc [some (.ref m), some (vi ((sg.1 45 - 1) / 3)), some (vi 1), some (vi (k + 1)), some (vi (1 + (3 * k)))] dX2_isRowWrong_179 rfl (by decide) rfl rfl ?_
                    refine m_goto 36 dX2_isRowWrong_182 (by decide) ?_
                    refine mw_forget 4 ?_
                    exact ih36 _ (by omega) _ _ rfl (by omega) (by omega) (by first | exact rw_y hk.1 (by unfold rwB; omega) | exact rw_n hb (by unfold rwB; omega))
            · refine m_aload_n dX2_isRowWrong_69 rfl ?_
              refine t_geta 44 31 (by decide) dX2_isRowWrong_70 q3137 rfl ?_
              refine j_iload dX2_isRowWrong_73 rfl ?_
              refine j_iconst dX2_isRowWrong_75 ?_
              refine j_iadd dX2_isRowWrong_76 ?_
              refine t_aldB 31 (by decide) (n := 32) (sg.2 44) dX2_isRowWrong_77 rfl (Nat.le_of_ble_eq_true rfl) (oa44 (hT.2 44)) ⟨by omega, by omega⟩ (fun b77 => ?_)
              refine j_sipush dX2_isRowWrong_78 (by decide) ?_
              refine j_icmp_gt 120 dX2_isRowWrong_81 (by decide) ⟨⟨by omega, by omega⟩, ⟨by omega, by omega⟩⟩ (fun c81 => ?_) (fun c81 => ?_)
              · refine j_iconst dX2_isRowWrong_120 ?_
                refine m_goto 125 dX2_isRowWrong_121 (by decide) ?_
                refine j_ior1 dX2_isRowWrong_125 (by omega) ?_
                refine j_istore_n [some (.ref m), some (vi ((sg.1 45 - 1) / 3)), some (vi 1), some (vi k), some (vi (1 + (3 * k)))] dX2_isRowWrong_126 (by decide) rfl rfl ?_
                refine j_iload_n dX2_isRowWrong_127 rfl ?_
                refine j_iload_n dX2_isRowWrong_128 rfl ?_
                refine j_if_le 176 dX2_isRowWrong_129 (by decide) ⟨by omega, by omega⟩ (fun c129 => ?_) (fun c129 => ?_)
                · refine j_iconst dX2_isRowWrong_176 ?_
                  refine j_ior0 dX2_isRowWrong_177 ?_
                  refine j_istore_n [some (.ref m), some (vi ((sg.1 45 - 1) / 3)), some (vi 1), some (vi k), some (vi (1 + (3 * k)))] dX2_isRowWrong_178 (by decide) rfl rfl ?_
                  refine j_iinc [some (.ref m), some (vi ((sg.1 45 - 1) / 3)), some (vi 1), some (vi (k + 1)), some (vi (1 + (3 * k)))] dX2_isRowWrong_179 rfl (by decide) rfl rfl ?_
                  refine m_goto 36 dX2_isRowWrong_182 (by decide) ?_
                  refine mw_forget 4 ?_
                  exact ih36 _ (by omega) _ _ rfl (by omega) (by omega) (by first | exact rw_y hk.1 (by unfold rwB; omega) | exact rw_n hb (by unfold rwB; omega))
                · refine m_aload_n dX2_isRowWrong_132 rfl ?_
                  refine t_geta 44 31 (by decide) dX2_isRowWrong_133 q3137 rfl ?_
                  refine j_iload dX2_isRowWrong_136 rfl ?_
                  refine j_iconst dX2_isRowWrong_138 ?_
                  refine j_iadd dX2_isRowWrong_139 ?_
                  refine t_aldB 31 (by decide) (n := 32) (sg.2 44) dX2_isRowWrong_140 rfl (Nat.le_of_ble_eq_true rfl) (oa44 (hT.2 44)) ⟨by omega, by omega⟩ (fun b140 => ?_)
                  refine m_aload_n dX2_isRowWrong_141 rfl ?_
                  refine t_geta 44 31 (by decide) dX2_isRowWrong_142 q3137 rfl ?_
                  refine j_iload dX2_isRowWrong_145 rfl ?_
                  refine j_iconst dX2_isRowWrong_147 ?_
                  refine j_isub dX2_isRowWrong_148 ?_
                  refine t_aldB 31 (by decide) (n := 32) (sg.2 44) dX2_isRowWrong_149 rfl (Nat.le_of_ble_eq_true rfl) (oa44 (hT.2 44)) ⟨by omega, by omega⟩ (fun b149 => ?_)
                  refine j_icmp_le 172 dX2_isRowWrong_150 (by decide) ⟨⟨by omega, by omega⟩, ⟨by omega, by omega⟩⟩ (fun c150 => ?_) (fun c150 => ?_)
                  · refine j_iconst dX2_isRowWrong_172 ?_
                    refine m_goto 177 dX2_isRowWrong_173 (by decide) ?_
                    refine j_ior1 dX2_isRowWrong_177 (by omega) ?_
                    refine j_istore_n [some (.ref m), some (vi ((sg.1 45 - 1) / 3)), some (vi 1), some (vi k), some (vi (1 + (3 * k)))] dX2_isRowWrong_178 (by decide) rfl rfl ?_
                    refine j_iinc [some (.ref m), some (vi ((sg.1 45 - 1) / 3)), some (vi 1), some (vi (k + 1)), some (vi (1 + (3 * k)))] dX2_isRowWrong_179 rfl (by decide) rfl rfl ?_
                    refine m_goto 36 dX2_isRowWrong_182 (by decide) ?_
                    refine mw_forget 4 ?_
                    exact ih36 _ (by omega) _ _ rfl (by omega) (by omega) (by first | exact rw_y hk.1 (by unfold rwB; omega) | exact rw_n hb (by unfold rwB; omega))
                  · refine m_aload_n dX2_isRowWrong_153 rfl ?_
                    refine t_geta 44 31 (by decide) dX2_isRowWrong_154 q3137 rfl ?_
                    refine j_iload dX2_isRowWrong_157 rfl ?_
                    refine t_aldB 31 (by decide) (n := 32) (sg.2 44) dX2_isRowWrong_159 rfl (Nat.le_of_ble_eq_true rfl) (oa44 (hT.2 44)) ⟨by omega, by omega⟩ (fun b159 => ?_)
                    refine m_aload_n dX2_isRowWrong_160 rfl ?_
                    refine t_geta 44 31 (by decide) dX2_isRowWrong_161 q3137 rfl ?_
                    refine j_iload dX2_isRowWrong_164 rfl ?_
                    refine j_iconst dX2_isRowWrong_166 ?_
                    refine j_isub dX2_isRowWrong_167 ?_
                    refine t_aldB 31 (by decide) (n := 32) (sg.2 44) dX2_isRowWrong_168 rfl (Nat.le_of_ble_eq_true rfl) (oa44 (hT.2 44)) ⟨by omega, by omega⟩ (fun b168 => ?_)
                    refine j_icmp_ne 176 dX2_isRowWrong_169 (by decide) ⟨⟨by omega, by omega⟩, ⟨by omega, by omega⟩⟩ (fun c169 => ?_) (fun c169 => ?_)
                    · refine j_iconst dX2_isRowWrong_176 ?_
                      refine j_ior0 dX2_isRowWrong_177 ?_
                      refine j_istore_n [some (.ref m), some (vi ((sg.1 45 - 1) / 3)), some (vi 1), some (vi k), some (vi (1 + (3 * k)))] dX2_isRowWrong_178 (by decide) rfl rfl ?_
                      refine j_iinc [some (.ref m), some (vi ((sg.1 45 - 1) / 3)), some (vi 1), some (vi (k + 1)), some (vi (1 + (3 * k)))] dX2_isRowWrong_179 rfl (by decide) rfl rfl ?_
                      refine m_goto 36 dX2_isRowWrong_182 (by decide) ?_
                      refine mw_forget 4 ?_
                      exact ih36 _ (by omega) _ _ rfl (by omega) (by omega) (by first | exact rw_y hk.1 (by unfold rwB; omega) | exact rw_n hb (by unfold rwB; omega))
                    · refine j_iconst dX2_isRowWrong_172 ?_
                      refine m_goto 177 dX2_isRowWrong_173 (by decide) ?_
                      refine j_ior1 dX2_isRowWrong_177 (by omega) ?_
                      refine j_istore_n [some (.ref m), some (vi ((sg.1 45 - 1) / 3)), some (vi 1), some (vi k), some (vi (1 + (3 * k)))] dX2_isRowWrong_178 (by decide) rfl rfl ?_
                      refine j_iinc [some (.ref m), some (vi ((sg.1 45 - 1) / 3)), some (vi 1), some (vi (k + 1)), some (vi (1 + (3 * k)))] dX2_isRowWrong_179 rfl (by decide) rfl rfl ?_
                      refine m_goto 36 dX2_isRowWrong_182 (by decide) ?_
                      refine mw_forget 4 ?_
                      exact ih36 _ (by omega) _ _ rfl (by omega) (by omega) (by first | exact rw_y hk.1 (by unfold rwB; omega) | exact rw_n hb (by unfold rwB; omega))
              · refine m_aload_n dX2_isRowWrong_84 rfl ?_
                refine t_geta 44 31 (by decide) dX2_isRowWrong_85 q3137 rfl ?_
                refine j_iload dX2_isRowWrong_88 rfl ?_
                refine j_iconst dX2_isRowWrong_90 ?_
                refine j_iadd dX2_isRowWrong_91 ?_
                refine t_aldB 31 (by decide) (n := 32) (sg.2 44) dX2_isRowWrong_92 rfl (Nat.le_of_ble_eq_true rfl) (oa44 (hT.2 44)) ⟨by omega, by omega⟩ (fun b92 => ?_)
                refine j_sipush dX2_isRowWrong_93 (by decide) ?_
                refine j_icmp_gt 120 dX2_isRowWrong_96 (by decide) ⟨⟨by omega, by omega⟩, ⟨by omega, by omega⟩⟩ (fun c96 => ?_) (fun c96 => ?_)
                · refine j_iconst dX2_isRowWrong_120 ?_
                  refine m_goto 125 dX2_isRowWrong_121 (by decide) ?_
                  refine j_ior1 dX2_isRowWrong_125 (by omega) ?_
                  refine j_istore_n [some (.ref m), some (vi ((sg.1 45 - 1) / 3)), some (vi 1), some (vi k), some (vi (1 + (3 * k)))] dX2_isRowWrong_126 (by decide) rfl rfl ?_
                  refine j_iload_n dX2_isRowWrong_127 rfl ?_
                  refine j_iload_n dX2_isRowWrong_128 rfl ?_
                  refine j_if_le 176 dX2_isRowWrong_129 (by decide) ⟨by omega, by omega⟩ (fun c129 => ?_) (fun c129 => ?_)
                  · refine j_iconst dX2_isRowWrong_176 ?_
                    refine j_ior0 dX2_isRowWrong_177 ?_
                    refine j_istore_n [some (.ref m), some (vi ((sg.1 45 - 1) / 3)), some (vi 1), some (vi k), some (vi (1 + (3 * k)))] dX2_isRowWrong_178 (by decide) rfl rfl ?_
                    refine j_iinc [some (.ref m), some (vi ((sg.1 45 - 1) / 3)), some (vi 1), some (vi (k + 1)), some (vi (1 + (3 * k)))] dX2_isRowWrong_179 rfl (by decide) rfl rfl ?_
                    refine m_goto 36 dX2_isRowWrong_182 (by decide) ?_
                    refine mw_forget 4 ?_
                    exact ih36 _ (by omega) _ _ rfl (by omega) (by omega) (by first | exact rw_y hk.1 (by unfold rwB; omega) | exact rw_n hb (by unfold rwB; omega))
                  · refine m_aload_n dX2_isRowWrong_132 rfl ?_
                    refine t_geta 44 31 (by decide) dX2_isRowWrong_133 q3137 rfl ?_
                    refine j_iload dX2_isRowWrong_136 rfl ?_
                    refine j_iconst dX2_isRowWrong_138 ?_
                    refine j_iadd dX2_isRowWrong_139 ?_
                    refine t_aldB 31 (by decide) (n := 32) (sg.2 44) dX2_isRowWrong_140 rfl (Nat.le_of_ble_eq_true rfl) (oa44 (hT.2 44)) ⟨by omega, by omega⟩ (fun b140 => ?_)
                    refine m_aload_n dX2_isRowWrong_141 rfl ?_
                    refine t_geta 44 31 (by decide) dX2_isRowWrong_142 q3137 rfl ?_
                    refine j_iload dX2_isRowWrong_145 rfl ?_
                    refine j_iconst dX2_isRowWrong_147 ?_
                    refine j_isub dX2_isRowWrong_148 ?_
                    refine t_aldB 31 (by decide) (n := 32) (sg.2 44) dX2_isRowWrong_149 rfl (Nat.le_of_ble_eq_true rfl) (oa44 (hT.2 44)) ⟨by omega, by omega⟩ (fun b149 => ?_)
                    refine j_icmp_le 172 dX2_isRowWrong_150 (by decide) ⟨⟨by omega, by omega⟩, ⟨by omega, by omega⟩⟩ (fun c150 => ?_) (fun c150 => ?_)
                    · refine j_iconst dX2_isRowWrong_172 ?_
                      refine m_goto 177 dX2_isRowWrong_173 (by decide) ?_
                      refine j_ior1 dX2_isRowWrong_177 (by omega) ?_
                      refine j_istore_n [some (.ref m), some (vi ((sg.1 45 - 1) / 3)), some (vi 1), some (vi k), some (vi (1 + (3 * k)))] dX2_isRowWrong_178 (by decide) rfl rfl ?_
                      refine j_iinc [some (.ref m), some (vi ((sg.1 45 - 1) / 3)), some (vi 1), some (vi (k + 1)), some (vi (1 + (3 * k)))] dX2_isRowWrong_179 rfl (by decide) rfl rfl ?_
                      refine m_goto 36 dX2_isRowWrong_182 (by decide) ?_
                      refine mw_forget 4 ?_
                      exact ih36 _ (by omega) _ _ rfl (by omega) (by omega) (by first | exact rw_y hk.1 (by unfold rwB; omega) | exact rw_n hb (by unfold rwB; omega))
                    · refine m_aload_n dX2_isRowWrong_153 rfl ?_
                      refine t_geta 44 31 (by decide) dX2_isRowWrong_154 q3137 rfl ?_
                      refine j_iload dX2_isRowWrong_157 rfl ?_
                      refine t_aldB 31 (by decide) (n := 32) (sg.2 44) dX2_isRowWrong_159 rfl (Nat.le_of_ble_eq_true rfl) (oa44 (hT.2 44)) ⟨by omega, by omega⟩ (fun b159 => ?_)
                      refine m_aload_n dX2_isRowWrong_160 rfl ?_
                      refine t_geta 44 31 (by decide) dX2_isRowWrong_161 q3137 rfl ?_
                      refine j_iload dX2_isRowWrong_164 rfl ?_
                      refine j_iconst dX2_isRowWrong_166 ?_
                      refine j_isub dX2_isRowWrong_167 ?_
                      refine t_aldB 31 (by decide) (n := 32) (sg.2 44) dX2_isRowWrong_168 rfl (Nat.le_of_ble_eq_true rfl) (oa44 (hT.2 44)) ⟨by omega, by omega⟩ (fun b168 => ?_)
                      refine j_icmp_ne 176 dX2_isRowWrong_169 (by decide) ⟨⟨by omega, by omega⟩, ⟨by omega, by omega⟩⟩ (fun c169 => ?_) (fun c169 => ?_)
                      · refine j_iconst dX2_isRowWrong_176 ?_
                        refine j_ior0 dX2_isRowWrong_177 ?_
                        refine j_istore_n [some (.ref m), some (vi ((sg.1 45 - 1) / 3)), some (vi 1), some (vi k), some (vi (1 + (3 * k)))] dX2_isRowWrong_178 (by decide) rfl rfl ?_
                        refine j_iinc [some (.ref m), some (vi ((sg.1 45 - 1) / 3)), some (vi 1), some (vi (k + 1)), some (vi (1 + (3 * k)))] dX2_isRowWrong_179 rfl (by decide) rfl rfl ?_
                        refine m_goto 36 dX2_isRowWrong_182 (by decide) ?_
                        refine mw_forget 4 ?_
                        exact ih36 _ (by omega) _ _ rfl (by omega) (by omega) (by first | exact rw_y hk.1 (by unfold rwB; omega) | exact rw_n hb (by unfold rwB; omega))
                      · refine j_iconst dX2_isRowWrong_172 ?_
                        refine m_goto 177 dX2_isRowWrong_173 (by decide) ?_
                        refine j_ior1 dX2_isRowWrong_177 (by omega) ?_
                        refine j_istore_n [some (.ref m), some (vi ((sg.1 45 - 1) / 3)), some (vi 1), some (vi k), some (vi (1 + (3 * k)))] dX2_isRowWrong_178 (by decide) rfl rfl ?_
                        refine j_iinc [some (.ref m), some (vi ((sg.1 45 - 1) / 3)), some (vi 1), some (vi (k + 1)), some (vi (1 + (3 * k)))] dX2_isRowWrong_179 rfl (by decide) rfl rfl ?_
                        refine m_goto 36 dX2_isRowWrong_182 (by decide) ?_
                        refine mw_forget 4 ?_
                        exact ih36 _ (by omega) _ _ rfl (by omega) (by omega) (by first | exact rw_y hk.1 (by unfold rwB; omega) | exact rw_n hb (by unfold rwB; omega))
                · refine m_aload_n dX2_isRowWrong_99 rfl ?_
                  refine t_geta 44 31 (by decide) dX2_isRowWrong_100 q3137 rfl ?_
                  refine j_iload dX2_isRowWrong_103 rfl ?_
                  refine j_iconst dX2_isRowWrong_105 ?_
                  refine j_iadd dX2_isRowWrong_106 ?_
                  refine t_aldB 31 (by decide) (n := 32) (sg.2 44) dX2_isRowWrong_107 rfl (Nat.le_of_ble_eq_true rfl) (oa44 (hT.2 44)) ⟨by omega, by omega⟩ (fun b107 => ?_)
                  refine m_aload_n dX2_isRowWrong_108 rfl ?_
                  refine t_geta 44 31 (by decide) dX2_isRowWrong_109 q3137 rfl ?_
                  refine j_iload dX2_isRowWrong_112 rfl ?_
                  refine j_iconst dX2_isRowWrong_114 ?_
                  refine j_iadd dX2_isRowWrong_115 ?_
                  refine t_aldB 31 (by decide) (n := 32) (sg.2 44) dX2_isRowWrong_116 rfl (Nat.le_of_ble_eq_true rfl) (oa44 (hT.2 44)) ⟨by omega, by omega⟩ (fun b116 => ?_)
                  refine j_icmp_ge 124 dX2_isRowWrong_117 (by decide) ⟨⟨by omega, by omega⟩, ⟨by omega, by omega⟩⟩ (fun c117 => ?_) (fun c117 => ?_)
                  · refine j_iconst dX2_isRowWrong_124 ?_
                    refine j_ior0 dX2_isRowWrong_125 ?_
                    refine j_istore_n [some (.ref m), some (vi ((sg.1 45 - 1) / 3)), some (vi i), some (vi k), some (vi (1 + (3 * k)))] dX2_isRowWrong_126 (by decide) rfl rfl ?_
                    refine j_iload_n dX2_isRowWrong_127 rfl ?_
                    refine j_iload_n dX2_isRowWrong_128 rfl ?_
                    refine j_if_le 176 dX2_isRowWrong_129 (by decide) ⟨by omega, by omega⟩ (fun c129 => ?_) (fun c129 => ?_)
                    · refine j_iconst dX2_isRowWrong_176 ?_
                      refine j_ior0 dX2_isRowWrong_177 ?_
                      refine j_istore_n [some (.ref m), some (vi ((sg.1 45 - 1) / 3)), some (vi i), some (vi k), some (vi (1 + (3 * k)))] dX2_isRowWrong_178 (by decide) rfl rfl ?_
                      refine j_iinc [some (.ref m), some (vi ((sg.1 45 - 1) / 3)), some (vi i), some (vi (k + 1)), some (vi (1 + (3 * k)))] dX2_isRowWrong_179 rfl (by decide) rfl rfl ?_
                      refine m_goto 36 dX2_isRowWrong_182 (by decide) ?_
                      refine mw_forget 4 ?_
                      exact ih36 _ (by omega) _ _ rfl (by omega) (by omega) (by first | exact rw_y hk.1 (by unfold rwB; omega) | exact rw_n hb (by unfold rwB; omega))
                    · refine m_aload_n dX2_isRowWrong_132 rfl ?_
                      refine t_geta 44 31 (by decide) dX2_isRowWrong_133 q3137 rfl ?_
                      refine j_iload dX2_isRowWrong_136 rfl ?_
                      refine j_iconst dX2_isRowWrong_138 ?_
                      refine j_iadd dX2_isRowWrong_139 ?_
                      refine t_aldB 31 (by decide) (n := 32) (sg.2 44) dX2_isRowWrong_140 rfl (Nat.le_of_ble_eq_true rfl) (oa44 (hT.2 44)) ⟨by omega, by omega⟩ (fun b140 => ?_)
                      refine m_aload_n dX2_isRowWrong_141 rfl ?_
                      refine t_geta 44 31 (by decide) dX2_isRowWrong_142 q3137 rfl ?_
                      refine j_iload dX2_isRowWrong_145 rfl ?_
                      refine j_iconst dX2_isRowWrong_147 ?_
                      refine j_isub dX2_isRowWrong_148 ?_
                      refine t_aldB 31 (by decide) (n := 32) (sg.2 44) dX2_isRowWrong_149 rfl (Nat.le_of_ble_eq_true rfl) (oa44 (hT.2 44)) ⟨by omega, by omega⟩ (fun b149 => ?_)
                      refine j_icmp_le 172 dX2_isRowWrong_150 (by decide) ⟨⟨by omega, by omega⟩, ⟨by omega, by omega⟩⟩ (fun c150 => ?_) (fun c150 => ?_)
                      · refine j_iconst dX2_isRowWrong_172 ?_
                        refine m_goto 177 dX2_isRowWrong_173 (by decide) ?_
                        refine j_ior1 dX2_isRowWrong_177 (by omega) ?_
                        refine j_istore_n [some (.ref m), some (vi ((sg.1 45 - 1) / 3)), some (vi 1), some (vi k), some (vi (1 + (3 * k)))] dX2_isRowWrong_178 (by decide) rfl rfl ?_
                        refine j_iinc [some (.ref m), some (vi ((sg.1 45 - 1) / 3)), some (vi 1), some (vi (k + 1)), some (vi (1 + (3 * k)))] dX2_isRowWrong_179 rfl (by decide) rfl rfl ?_
                        refine m_goto 36 dX2_isRowWrong_182 (by decide) ?_
                        refine mw_forget 4 ?_
                        exact ih36 _ (by omega) _ _ rfl (by omega) (by omega) (by first | exact rw_y hk.1 (by unfold rwB; omega) | exact rw_n hb (by unfold rwB; omega))
                      · refine m_aload_n dX2_isRowWrong_153 rfl ?_
                        refine t_geta 44 31 (by decide) dX2_isRowWrong_154 q3137 rfl ?_
                        refine j_iload dX2_isRowWrong_157 rfl ?_
                        refine t_aldB 31 (by decide) (n := 32) (sg.2 44) dX2_isRowWrong_159 rfl (Nat.le_of_ble_eq_true rfl) (oa44 (hT.2 44)) ⟨by omega, by omega⟩ (fun b159 => ?_)
                        refine m_aload_n dX2_isRowWrong_160 rfl ?_
                        refine t_geta 44 31 (by decide) dX2_isRowWrong_161 q3137 rfl ?_
                        refine j_iload dX2_isRowWrong_164 rfl ?_
                        refine j_iconst dX2_isRowWrong_166 ?_
                        refine j_isub dX2_isRowWrong_167 ?_
                        refine t_aldB 31 (by decide) (n := 32) (sg.2 44) dX2_isRowWrong_168 rfl (Nat.le_of_ble_eq_true rfl) (oa44 (hT.2 44)) ⟨by omega, by omega⟩ (fun b168 => ?_)
                        refine j_icmp_ne 176 dX2_isRowWrong_169 (by decide) ⟨⟨by omega, by omega⟩, ⟨by omega, by omega⟩⟩ (fun c169 => ?_) (fun c169 => ?_)
                        · refine j_iconst dX2_isRowWrong_176 ?_
                          refine j_ior0 dX2_isRowWrong_177 ?_
                          refine j_istore_n [some (.ref m), some (vi ((sg.1 45 - 1) / 3)), some (vi i), some (vi k), some (vi (1 + (3 * k)))] dX2_isRowWrong_178 (by decide) rfl rfl ?_
                          refine j_iinc [some (.ref m), some (vi ((sg.1 45 - 1) / 3)), some (vi i), some (vi (k + 1)), some (vi (1 + (3 * k)))] dX2_isRowWrong_179 rfl (by decide) rfl rfl ?_
                          refine m_goto 36 dX2_isRowWrong_182 (by decide) ?_
                          refine mw_forget 4 ?_
                          exact ih36 _ (by omega) _ _ rfl (by omega) (by omega) (by first | exact rw_y hk.1 (by unfold rwB; omega) | exact rw_n hb (by unfold rwB; omega))
                        · refine j_iconst dX2_isRowWrong_172 ?_
                          refine m_goto 177 dX2_isRowWrong_173 (by decide) ?_
                          refine j_ior1 dX2_isRowWrong_177 (by omega) ?_
                          refine j_istore_n [some (.ref m), some (vi ((sg.1 45 - 1) / 3)), some (vi 1), some (vi k), some (vi (1 + (3 * k)))] dX2_isRowWrong_178 (by decide) rfl rfl ?_
                          refine j_iinc [some (.ref m), some (vi ((sg.1 45 - 1) / 3)), some (vi 1), some (vi (k + 1)), some (vi (1 + (3 * k)))] dX2_isRowWrong_179 rfl (by decide) rfl rfl ?_
                          refine m_goto 36 dX2_isRowWrong_182 (by decide) ?_
                          refine mw_forget 4 ?_
                          exact ih36 _ (by omega) _ _ rfl (by omega) (by omega) (by first | exact rw_y hk.1 (by unfold rwB; omega) | exact rw_n hb (by unfold rwB; omega))
                  · refine j_iconst dX2_isRowWrong_120 ?_
                    refine m_goto 125 dX2_isRowWrong_121 (by decide) ?_
                    refine j_ior1 dX2_isRowWrong_125 (by omega) ?_
                    refine j_istore_n [some (.ref m), some (vi ((sg.1 45 - 1) / 3)), some (vi 1), some (vi k), some (vi (1 + (3 * k)))] dX2_isRowWrong_126 (by decide) rfl rfl ?_
                    refine j_iload_n dX2_isRowWrong_127 rfl ?_
                    refine j_iload_n dX2_isRowWrong_128 rfl ?_
                    refine j_if_le 176 dX2_isRowWrong_129 (by decide) ⟨by omega, by omega⟩ (fun c129 => ?_) (fun c129 => ?_)
                    · refine j_iconst dX2_isRowWrong_176 ?_
                      refine j_ior0 dX2_isRowWrong_177 ?_
                      refine j_istore_n [some (.ref m), some (vi ((sg.1 45 - 1) / 3)), some (vi 1), some (vi k), some (vi (1 + (3 * k)))] dX2_isRowWrong_178 (by decide) rfl rfl ?_
                      refine j_iinc [some (.ref m), some (vi ((sg.1 45 - 1) / 3)), some (vi 1), some (vi (k + 1)), some (vi (1 + (3 * k)))] dX2_isRowWrong_179 rfl (by decide) rfl rfl ?_
                      refine m_goto 36 dX2_isRowWrong_182 (by decide) ?_
                      refine mw_forget 4 ?_
                      exact ih36 _ (by omega) _ _ rfl (by omega) (by omega) (by first | exact rw_y hk.1 (by unfold rwB; omega) | exact rw_n hb (by unfold rwB; omega))
                    · refine m_aload_n dX2_isRowWrong_132 rfl ?_
                      refine t_geta 44 31 (by decide) dX2_isRowWrong_133 q3137 rfl ?_
                      refine j_iload dX2_isRowWrong_136 rfl ?_
                      refine j_iconst dX2_isRowWrong_138 ?_
                      refine j_iadd dX2_isRowWrong_139 ?_
                      refine t_aldB 31 (by decide) (n := 32) (sg.2 44) dX2_isRowWrong_140 rfl (Nat.le_of_ble_eq_true rfl) (oa44 (hT.2 44)) ⟨by omega, by omega⟩ (fun b140 => ?_)
                      refine m_aload_n dX2_isRowWrong_141 rfl ?_
                      refine t_geta 44 31 (by decide) dX2_isRowWrong_142 q3137 rfl ?_
                      refine j_iload dX2_isRowWrong_145 rfl ?_
                      refine j_iconst dX2_isRowWrong_147 ?_
                      refine j_isub dX2_isRowWrong_148 ?_
                      refine t_aldB 31 (by decide) (n := 32) (sg.2 44) dX2_isRowWrong_149 rfl (Nat.le_of_ble_eq_true rfl) (oa44 (hT.2 44)) ⟨by omega, by omega⟩ (fun b149 => ?_)
                      refine j_icmp_le 172 dX2_isRowWrong_150 (by decide) ⟨⟨by omega, by omega⟩, ⟨by omega, by omega⟩⟩ (fun c150 => ?_) (fun c150 => ?_)
                      · refine j_iconst dX2_isRowWrong_172 ?_
                        refine m_goto 177 dX2_isRowWrong_173 (by decide) ?_
                        refine j_ior1 dX2_isRowWrong_177 (by omega) ?_
                        refine j_istore_n [some (.ref m), some (vi ((sg.1 45 - 1) / 3)), some (vi 1), some (vi k), some (vi (1 + (3 * k)))] dX2_isRowWrong_178 (by decide) rfl rfl ?_
                        refine j_iinc [some (.ref m), some (vi ((sg.1 45 - 1) / 3)), some (vi 1), some (vi (k + 1)), some (vi (1 + (3 * k)))] dX2_isRowWrong_179 rfl (by decide) rfl rfl ?_
                        refine m_goto 36 dX2_isRowWrong_182 (by decide) ?_
                        refine mw_forget 4 ?_
                        exact ih36 _ (by omega) _ _ rfl (by omega) (by omega) (by first | exact rw_y hk.1 (by unfold rwB; omega) | exact rw_n hb (by unfold rwB; omega))
                      · refine m_aload_n dX2_isRowWrong_153 rfl ?_
                        refine t_geta 44 31 (by decide) dX2_isRowWrong_154 q3137 rfl ?_
                        refine j_iload dX2_isRowWrong_157 rfl ?_
                        refine t_aldB 31 (by decide) (n := 32) (sg.2 44) dX2_isRowWrong_159 rfl (Nat.le_of_ble_eq_true rfl) (oa44 (hT.2 44)) ⟨by omega, by omega⟩ (fun b159 => ?_)
                        refine m_aload_n dX2_isRowWrong_160 rfl ?_
                        refine t_geta 44 31 (by decide) dX2_isRowWrong_161 q3137 rfl ?_
                        refine j_iload dX2_isRowWrong_164 rfl ?_
                        refine j_iconst dX2_isRowWrong_166 ?_
                        refine j_isub dX2_isRowWrong_167 ?_
                        refine t_aldB 31 (by decide) (n := 32) (sg.2 44) dX2_isRowWrong_168 rfl (Nat.le_of_ble_eq_true rfl) (oa44 (hT.2 44)) ⟨by omega, by omega⟩ (fun b168 => ?_)
                        refine j_icmp_ne 176 dX2_isRowWrong_169 (by decide) ⟨⟨by omega, by omega⟩, ⟨by omega, by omega⟩⟩ (fun c169 => ?_) (fun c169 => ?_)
                        · refine j_iconst dX2_isRowWrong_176 ?_
                          refine j_ior0 dX2_isRowWrong_177 ?_
                          refine j_istore_n [some (.ref m), some (vi ((sg.1 45 - 1) / 3)), some (vi 1), some (vi k), some (vi (1 + (3 * k)))] dX2_isRowWrong_178 (by decide) rfl rfl ?_
                          refine j_iinc [some (.ref m), some (vi ((sg.1 45 - 1) / 3)), some (vi 1), some (vi (k + 1)), some (vi (1 + (3 * k)))] dX2_isRowWrong_179 rfl (by decide) rfl rfl ?_
                          refine m_goto 36 dX2_isRowWrong_182 (by decide) ?_
                          refine mw_forget 4 ?_
                          exact ih36 _ (by omega) _ _ rfl (by omega) (by omega) (by first | exact rw_y hk.1 (by unfold rwB; omega) | exact rw_n hb (by unfold rwB; omega))
                        · refine j_iconst dX2_isRowWrong_172 ?_
                          refine m_goto 177 dX2_isRowWrong_173 (by decide) ?_
                          refine j_ior1 dX2_isRowWrong_177 (by omega) ?_
                          refine j_istore_n [some (.ref m), some (vi ((sg.1 45 - 1) / 3)), some (vi 1), some (vi k), some (vi (1 + (3 * k)))] dX2_isRowWrong_178 (by decide) rfl rfl ?_
                          refine j_iinc [some (.ref m), some (vi ((sg.1 45 - 1) / 3)), some (vi 1), some (vi (k + 1)), some (vi (1 + (3 * k)))] dX2_isRowWrong_179 rfl (by decide) rfl rfl ?_
                          refine m_goto 36 dX2_isRowWrong_182 (by decide) ?_
                          refine mw_forget 4 ?_
                          exact ih36 _ (by omega) _ _ rfl (by omega) (by omega) (by first | exact rw_y hk.1 (by unfold rwB; omega) | exact rw_n hb (by unfold rwB; omega))
      exact L36 _ _ _ rfl (by omega) (by omega) (by first | exact rw_1 (by omega) | exact rw_0 (by omega))
def rrA (f : Int → Int) (o n : Int) (row : Int → Int) (j : Int) : Int → Int := fun q => if o ≤ q ∧ q < o + n then row (3 * (q - o) + j) else f q
theorem rrA_1 {f : Int → Int} {o : Int} {row : Int → Int} {j : Int} : upz f o (row j) = rrA f o (1 + 0) row j := by
  funext q; unfold upz rrA
  by_cases e : q = o
  · rw [if_pos e, if_pos (by omega), show 3 * (q - o) + j = j by omega]
  · rw [if_neg e, if_neg (by omega)]
theorem rrA_s {f : Int → Int} {o i a : Int} {row : Int → Int} {j : Int} (hi : 0 ≤ i) (ha : a = 3 * (1 + i) + j) : upz (rrA f o (1 + i) row j) (o + (1 + i)) (row a) = rrA f o (1 + (i + 1)) row j := by
  funext q; unfold upz rrA
  by_cases e : q = o + (1 + i)
  · rw [if_pos e, if_pos (by omega), show 3 * (q - o) + j = a by omega]
  · rw [if_neg e]
    by_cases h2 : o ≤ q ∧ q < o + (1 + i)
    · rw [if_pos h2, if_pos (by omega)]
    · rw [if_neg h2, if_neg (by omega)]
theorem rrA_3 {f : Int → Int} {o : Int} {row : Int → Int} : upz f o (row 2) = rrA f o (1 + 0) (upz row 3 (row 2)) 3 := by
  have := rrA_1 (f := f) (o := o) (row := upz row 3 (row 2)) (j := 3)
  rw [← this]; unfold upz; rw [if_pos rfl]
theorem rrA_t {f : Int → Int} {o i a : Int} {row : Int → Int} (hi : 0 ≤ i) (ha : a = 3 * (1 + i) + 3) : upz (rrA f o (1 + i) (upz row 3 (row 2)) 3) (o + (1 + i)) (row a) = rrA f o (1 + (i + 1)) (upz row 3 (row 2)) 3 := by
  have e : row a = upz row 3 (row 2) a := by unfold upz; rw [if_neg (by omega)]
  rw [e]; exact rrA_s hi ha
theorem upz2 {f : Int → Int} {i a b : Int} : upz (upz f i a) i b = upz f i b := by
  funext q; unfold upz; split <;> rfl
theorem upz_at {f : Int → Int} {i a : Int} : upz f i a i = a := by unfold upz; rw [if_pos rfl]
theorem bz01e {v : Int} (h : v = 0 ∨ v = 1) : v = bz (v = 1) := by rcases h with rfl | rfl <;> rfl
/-- the state behind a row read -/
def rrO (sg : TS) (rm : Int) (row : Int → Int) : TS := ovr sg [(45, rm)] [(44, row)]
theorem c_readRow (K : KT) (d : Nat) (h : MH) (m : Nat) (sg : TS) (hd : 2 ≤ d) (hT : TB sg) : Mt K yiX2_readRow d [.ref m] (tov K h m sg) (Rz fun v h' => ∃ p rm' row', (0 ≤ rm' ∧ rm' ≤ 28) ∧ okA 44 row' ∧ (-1 ≤ p ∧ p ≤ 80) ∧ rdOut sg p rm' row' ∧ ((p ≠ -1 ∧ h' = tov K h m (ovr sg [(0, 1), (21, p), (45, rm')] [(44, row')])) ∨ (p = -1 ∧ rwW (rrO sg rm' row') ∧ h' = tov K h m (ovr sg [(0, 2), (45, rm')] [(44, row')])) ∨ (p = -1 ∧ ¬ rwW (rrO sg rm' row') ∧ sg.1 8 = 24 ∧ h' = tov K h m (ovr sg [(0, 3), (45, rm')] [(44, row')])) ∨ (p = -1 ∧ ¬ rwW (rrO sg rm' row') ∧ sg.1 8 < 24 ∧ (4 ≤ rm' ∧ rm' ≤ 25 ∧ rm' % 3 = 1) ∧ h' = tov K h m (ovr sg [(0, 0), (8, sg.1 8 + 1), (19, 0), (45, rm')] [(9, upz (sg.2 9) (sg.1 8) (row' 0)), (10, upz (sg.2 10) (sg.1 8) ((rm' - 1) / 3)), (11, rrA (sg.2 11) (8 * sg.1 8) ((rm' - 1) / 3) row' 1), (12, rrA (sg.2 12) (8 * sg.1 8) ((rm' - 1) / 3) row' 2), (13, rrA (sg.2 13) (8 * sg.1 8) ((rm' - 1) / 3) (upz row' 3 (row' 2)) 3), (44, row')]) ∧ v = sg.1 8))) := by
  refine mt_ofQ (by decide) (Nat.le_of_ble_eq_true rfl) (fun Q hQ => ?_)
  show MW K yiX2_readRow d (tov K h m (ovr sg [] [])) 0 [some (.ref m), none, none, none, none] [] Q
  have f8 := of8 (hT.1 8)
  have f45 := of45 (hT.1 45)
  refine m_aload_n dX2_readRow_0 rfl ?_
  refine t_inv [] dX2_readRow_1 q3373 q3375 qs86 q3376 rfl (c_read K 1 h m sg (by omega) hT) pdX2_read ⟨Nat.le_of_ble_eq_true rfl, by decide, by omega⟩ (kk_z fun r1 h1 q1 => ?_) kx_z
  obtain ⟨rm, row, rfl, g1, g2, g3, g4⟩ := q1
  refine j_istore_n [some (.ref m), some (vi r1), none, none, none] dX2_readRow_4 (by decide) rfl rfl ?_
  have g5 : r1 = -1 → rm = 28 ∨ (rm % 3 = 1 ∧ 4 ≤ rm ∧ rm ≤ 28) := fun e => by { rcases g4 with g | g | ⟨_, st, dg, nb, rm0, row0, q1, q2, q3, q4, q5, _⟩; { omega }; { have := of19 (hT.1 19); omega }; { rw [q5]; exact rdB_t q2 q4 } }
  refine j_iload_n dX2_readRow_5 rfl ?_
  refine j_iconst dX2_readRow_6 ?_
  refine j_icmp_eq 15 dX2_readRow_7 (by decide) ⟨⟨by omega, by omega⟩, ⟨by omega, by omega⟩⟩ (fun c7 => ?_) (fun c7 => ?_)
  · refine m_aload_n dX2_readRow_15 rfl ?_
    refine j_iload_n dX2_readRow_16 rfl ?_
    refine j_iconst dX2_readRow_17 ?_
    refine j_icmp_eq 25 dX2_readRow_18 (by decide) ⟨⟨by omega, by omega⟩, ⟨by omega, by omega⟩⟩ (fun c18 => ?_) (fun c18 => False.elim (by omega))
    refine j_iconst dX2_readRow_25 ?_
    refine j_iconst dX2_readRow_26 ?_
    refine t_inv [(vi 0), (vi 1)] dX2_readRow_27 q3256 q3258 qs76 q3259 rfl (c_isThrown0 K 0 h m _ _) pdX2_isThrown ⟨Nat.le_of_ble_eq_true rfl, by decide, by omega⟩ (kk_z fun r27 h27 q27 => ?_) kx_z
    obtain ⟨rfl, rfl⟩ := q27
    refine mw_tov (b := ovr sg [(0, 0), (45, rm)] [(44, row)]) (ovr_ovr _ _ _ _ _) ?_
    refine j_if_ne 67 dX2_readRow_30 (by decide) ⟨by decide, by decide⟩ (fun c => absurd c (by decide)) (fun _ => ?_)
    refine m_aload_n dX2_readRow_33 rfl ?_
    refine m_aload_n dX2_readRow_34 rfl ?_
    refine t_inv [] dX2_readRow_35 q3381 q3383 qs88 q3384 rfl (c_isRowWrong K 0 h m _ (by omega) (hT.ovr (fa1 (mf0 (v := 0) ⟨by first | decide | omega | (split <;> omega) | assumption, by first | decide | omega | (split <;> omega) | assumption⟩) (fa1 (mf45 (v := rm) ⟨by first | decide | omega | (split <;> omega) | assumption, by first | decide | omega | (split <;> omega) | assumption⟩) fa0)) (fa1 g2 fa0)) ⟨show (1 : Int) ≤ rm by omega, show rm ≤ (28 : Int) by omega⟩) pdX2_isRowWrong ⟨Nat.le_of_ble_eq_true rfl, by decide, by omega⟩ (kk_z fun r35 h35 q35 => ?_) kx_z
    obtain ⟨rfl, x35, y35⟩ := q35
    refine mw_top (x' := bz (r35 = 1)) (bz01e x35) ?_
    refine j_iconst dX2_readRow_38 ?_
    refine t_inv [(vi (bz (r35 = 1))), (vi 2)] dX2_readRow_39 q3256 q3258 qs76 q3259 rfl (c_isThrown K 0 h m _ _ _) pdX2_isThrown ⟨Nat.le_of_ble_eq_true rfl, by decide, by omega⟩ (kk_z fun r39 h39 q39 => ?_) kx_z
    obtain ⟨rfl, rfl⟩ := q39
    refine mw_tov (b := ovr sg [(0, (if r35 = 1 then 2 else 0)), (45, rm)] [(44, row)]) (ovr_ovr _ _ _ _ _) ?_
    refine mw_top (x' := bz (r35 = 1)) rfl ?_
    refine j_bz_ne 67 dX2_readRow_42 (by decide) (fun c42 => ?_) (fun c42 => ?_)
    · refine mw_tov (b := ovr sg [(0, 2), (45, rm)] [(44, row)]) (by rw [if_pos c42]) ?_
      refine j_iconst dX2_readRow_67 ?_
      subst hQ; exact j_iret dX2_readRow_68 rfl (⟨r1, rm, row, g1, g2, g3, g4, by first | exact Or.inl ⟨by omega, rfl⟩ | exact Or.inr (Or.inl ⟨by omega, y35.mp (by omega), rfl⟩) | exact Or.inr (Or.inr (Or.inl ⟨by omega, fun h9 => by { have := y35.mpr h9; omega }, by omega, rfl⟩))⟩)
    · refine mw_tov (b := ovr sg [(0, 0), (45, rm)] [(44, row)]) (by rw [if_neg c42]) ?_
      refine m_aload_n dX2_readRow_45 rfl ?_
      refine m_aload_n dX2_readRow_46 rfl ?_
      refine t_geti 8 (by decide) (sg.1 8) dX2_readRow_47 q3101 rfl ?_
      refine j_bipush dX2_readRow_50 (by decide) ?_
      refine j_icmp_ne 59 dX2_readRow_52 (by decide) ⟨⟨by omega, by omega⟩, ⟨by omega, by omega⟩⟩ (fun c52 => ?_) (fun c52 => ?_)
      · refine j_iconst dX2_readRow_59 ?_
        refine j_iconst dX2_readRow_60 ?_
        refine t_inv [(vi 0), (vi 3)] dX2_readRow_61 q3256 q3258 qs76 q3259 rfl (c_isThrown0 K 0 h m _ _) pdX2_isThrown ⟨Nat.le_of_ble_eq_true rfl, by decide, by omega⟩ (kk_z fun r61 h61 q61 => ?_) kx_z
        obtain ⟨rfl, rfl⟩ := q61
        refine mw_tov (b := ovr sg [(0, 0), (45, rm)] [(44, row)]) (ovr_ovr _ _ _ _ _) ?_
        refine j_if_eq 69 dX2_readRow_64 (by decide) ⟨by decide, by decide⟩ (fun _ => ?_) (fun c => absurd c (by decide))
        have hnw : ¬ rwW (rrO sg rm row) := fun h9 => by { have := y35.mpr h9; omega }
        have hr25 : rm ≤ 25 := by { by_cases e : rm ≤ 25; { exact e }; { exact absurd (Or.inl (Or.inr (by show 8 < (rm - 1) / 3; omega))) hnw } }
        refine m_aload_n dX2_readRow_69 rfl ?_
        refine m_aload_n dX2_readRow_70 rfl ?_
        refine t_geta 44 31 (by decide) dX2_readRow_71 q3137 rfl ?_
        refine j_iconst dX2_readRow_74 ?_
        refine t_aldB 31 (by decide) (n := 32) row dX2_readRow_75 rfl (Nat.le_of_ble_eq_true rfl) (oa44 g2) ⟨by omega, by omega⟩ (fun b75 => ?_)
        refine m_aload_n dX2_readRow_76 rfl ?_
        refine t_geta 44 31 (by decide) dX2_readRow_77 q3137 rfl ?_
        refine j_iconst dX2_readRow_80 ?_
        refine t_aldB 31 (by decide) (n := 32) row dX2_readRow_81 rfl (Nat.le_of_ble_eq_true rfl) (oa44 g2) ⟨by omega, by omega⟩ (fun b81 => ?_)
        refine m_aload_n dX2_readRow_82 rfl ?_
        refine t_geta 44 31 (by decide) dX2_readRow_83 q3137 rfl ?_
        refine j_iconst dX2_readRow_86 ?_
        refine t_aldB 31 (by decide) (n := 32) row dX2_readRow_87 rfl (Nat.le_of_ble_eq_true rfl) (oa44 g2) ⟨by omega, by omega⟩ (fun b87 => ?_)
        refine t_inv [(vi (row 0)), (vi (row 1)), (vi (row 2))] dX2_readRow_88 q3313 q3315 qs81 q3316 rfl (c_added K 0 h m _ _ _ _ (hT.ovr (fa1 (mf0 (v := 0) ⟨by first | decide | omega | (split <;> omega) | assumption, by first | decide | omega | (split <;> omega) | assumption⟩) (fa1 (mf45 (v := rm) ⟨by first | decide | omega | (split <;> omega) | assumption, by first | decide | omega | (split <;> omega) | assumption⟩) fa0)) (fa1 g2 fa0)) (show (sg.1 8) < 24 from by omega)) pdX2_added ⟨Nat.le_of_ble_eq_true rfl, by decide, by omega⟩ (kk_z fun r88 h88 q88 => ?_) kx_z
        obtain ⟨rfl, rfl⟩ := q88
        refine mw_tov (b := ovr sg [(0, 0), (8, ((sg.1 8) + 1)), (45, rm)] [(9, (upz (sg.2 9) (sg.1 8) (row 0))), (10, (upz (sg.2 10) (sg.1 8) 1)), (11, (upz (sg.2 11) (8 * (sg.1 8)) (row 1))), (12, (upz (sg.2 12) (8 * (sg.1 8)) (row 2))), (13, (upz (sg.2 13) (8 * (sg.1 8)) (row 2))), (44, row)]) (ovr_ovr _ _ _ _ _) ?_
        refine mw_top (x' := (sg.1 8)) rfl ?_
        refine j_istore_n [some (.ref m), some (vi r1), some (vi (sg.1 8)), none, none] dX2_readRow_91 (by decide) rfl rfl ?_
        refine j_iconst dX2_readRow_92 ?_
        refine j_istore_n [some (.ref m), some (vi r1), some (vi (sg.1 8)), some (vi 4), none] dX2_readRow_93 (by decide) rfl rfl ?_
        have L94 : ∀ (N : Nat) (a i : Int) (g10 g11 g12 g13 : Int → Int), (28 - a).toNat = N → (0 ≤ i ∧ a = 4 + 3 * i ∧ 4 + 3 * i ≤ rm ∧ rm ≤ 25 ∧ rm % 3 = 1) → (g10 = upz (sg.2 10) (sg.1 8) (1 + i)) → (g11 = rrA (sg.2 11) (8 * sg.1 8) (1 + i) row 1) → (g12 = rrA (sg.2 12) (8 * sg.1 8) (1 + i) row 2) → (g13 = rrA (sg.2 13) (8 * sg.1 8) (1 + i) (upz row 3 (row 2)) 3) → MW K yiX2_readRow d (tov K h m (ovr sg [(0, 0), (8, (sg.1 8 + 1)), (45, rm)] [(9, (upz (sg.2 9) (sg.1 8) (row 0))), (10, g10), (11, g11), (12, g12), (13, g13), (44, row)])) 94 [some (.ref m), none, some (vi (sg.1 8)), some (vi a), none] [] Q := by
          intro N
          induction N using Nat.strongRecOn with
          | _ N ih94 =>
          intro a i g10 g11 g12 g13 hN94 hi h10 h11 h12 h13
          have e10 : g10 (sg.1 8) = 1 + i := by rw [h10]; exact upz_at
          refine j_iload_n dX2_readRow_94 rfl ?_
          refine m_aload_n dX2_readRow_95 rfl ?_
          refine t_geti 45 (by decide) rm dX2_readRow_96 q3138 rfl ?_
          refine j_icmp_ge 174 dX2_readRow_99 (by decide) ⟨⟨by omega, by omega⟩, ⟨by omega, by omega⟩⟩ (fun c99 => ?_) (fun c99 => ?_)
          · refine m_aload_n dX2_readRow_174 rfl ?_
            refine j_iconst dX2_readRow_175 ?_
            refine t_puti 19 (by decide) [(0, 0), (8, (sg.1 8 + 1)), (19, 0), (45, rm)] dX2_readRow_176 q3112 rfl rfl rfl rfl ?_
            refine j_iload_n dX2_readRow_179 rfl ?_
            subst hQ; exact j_iret dX2_readRow_180 rfl (⟨r1, rm, row, g1, g2, g3, g4, Or.inr (Or.inr (Or.inr ⟨by omega, hnw, by omega, by omega, by rw [h10, h11, h12, h13, show 1 + i = (rm - 1) / 3 by omega], rfl⟩))⟩)
          · refine j_bipush dX2_readRow_102 (by decide) ?_
            refine j_iload_n dX2_readRow_104 rfl ?_
            refine j_imul dX2_readRow_105 ?_
            refine m_aload_n dX2_readRow_106 rfl ?_
            refine t_geta 10 6 (by decide) dX2_readRow_107 q3103 rfl ?_
            refine j_iload_n dX2_readRow_110 rfl ?_
            refine t_ald 6 (by decide) (n := 24) g10 dX2_readRow_111 rfl (Nat.le_of_ble_eq_true rfl) ⟨by omega, by omega⟩ ?_
            refine j_iadd dX2_readRow_112 ?_
            refine j_istore [some (.ref m), none, some (vi (sg.1 8)), some (vi a), some (vi ((8 * (sg.1 8)) + (g10 (sg.1 8))))] dX2_readRow_113 (by decide) rfl rfl ?_
            refine m_aload_n dX2_readRow_115 rfl ?_
            refine t_geta 11 7 (by decide) dX2_readRow_116 q3104 rfl ?_
            refine j_iload dX2_readRow_119 rfl ?_
            refine m_aload_n dX2_readRow_121 rfl ?_
            refine t_geta 44 31 (by decide) dX2_readRow_122 q3137 rfl ?_
            refine j_iload_n dX2_readRow_125 rfl ?_
            refine t_aldB 31 (by decide) (n := 32) row dX2_readRow_126 rfl (Nat.le_of_ble_eq_true rfl) (oa44 g2) ⟨by omega, by omega⟩ (fun b126 => ?_)
            refine t_ast 7 (by decide) (n := 192) g11 [(9, (upz (sg.2 9) (sg.1 8) (row 0))), (10, g10), (11, (upz g11 ((8 * (sg.1 8)) + (g10 (sg.1 8))) (row a))), (12, g12), (13, g13), (44, row)] dX2_readRow_127 rfl (Nat.le_of_ble_eq_true rfl) ⟨by omega, by omega⟩ rfl rfl ?_
            refine m_aload_n dX2_readRow_128 rfl ?_
            refine t_geta 12 8 (by decide) dX2_readRow_129 q3105 rfl ?_
            refine j_iload dX2_readRow_132 rfl ?_
            refine m_aload_n dX2_readRow_134 rfl ?_
            refine t_geta 44 31 (by decide) dX2_readRow_135 q3137 rfl ?_
            refine j_iload_n dX2_readRow_138 rfl ?_
            refine j_iconst dX2_readRow_139 ?_
            refine j_iadd dX2_readRow_140 ?_
            refine t_aldB 31 (by decide) (n := 32) row dX2_readRow_141 rfl (Nat.le_of_ble_eq_true rfl) (oa44 g2) ⟨by omega, by omega⟩ (fun b141 => ?_)
            refine t_ast 8 (by decide) (n := 192) g12 [(9, (upz (sg.2 9) (sg.1 8) (row 0))), (10, g10), (11, (upz g11 ((8 * (sg.1 8)) + (g10 (sg.1 8))) (row a))), (12, (upz g12 ((8 * (sg.1 8)) + (g10 (sg.1 8))) (row (a + 1)))), (13, g13), (44, row)] dX2_readRow_142 rfl (Nat.le_of_ble_eq_true rfl) ⟨by omega, by omega⟩ rfl rfl ?_
            refine m_aload_n dX2_readRow_143 rfl ?_
            refine t_geta 13 9 (by decide) dX2_readRow_144 q3106 rfl ?_
            refine j_iload dX2_readRow_147 rfl ?_
            refine m_aload_n dX2_readRow_149 rfl ?_
            refine t_geta 44 31 (by decide) dX2_readRow_150 q3137 rfl ?_
            refine j_iload_n dX2_readRow_153 rfl ?_
            refine j_iconst dX2_readRow_154 ?_
            refine j_iadd dX2_readRow_155 ?_
            refine t_aldB 31 (by decide) (n := 32) row dX2_readRow_156 rfl (Nat.le_of_ble_eq_true rfl) (oa44 g2) ⟨by omega, by omega⟩ (fun b156 => ?_)
            refine t_ast 9 (by decide) (n := 192) g13 [(9, (upz (sg.2 9) (sg.1 8) (row 0))), (10, g10), (11, (upz g11 ((8 * (sg.1 8)) + (g10 (sg.1 8))) (row a))), (12, (upz g12 ((8 * (sg.1 8)) + (g10 (sg.1 8))) (row (a + 1)))), (13, (upz g13 ((8 * (sg.1 8)) + (g10 (sg.1 8))) (row (a + 2)))), (44, row)] dX2_readRow_157 rfl (Nat.le_of_ble_eq_true rfl) ⟨by omega, by omega⟩ rfl rfl ?_
            refine m_aload_n dX2_readRow_158 rfl ?_
            refine t_geta 10 6 (by decide) dX2_readRow_159 q3103 rfl ?_
            refine j_iload_n dX2_readRow_162 rfl ?_
            refine m_dup2 dX2_readRow_163 rfl rfl ?_
            refine t_ald 6 (by decide) (n := 24) g10 dX2_readRow_164 rfl (Nat.le_of_ble_eq_true rfl) ⟨by omega, by omega⟩ ?_
            refine j_iconst dX2_readRow_165 ?_
            refine j_iadd dX2_readRow_166 ?_
            refine t_ast 6 (by decide) (n := 24) g10 [(9, (upz (sg.2 9) (sg.1 8) (row 0))), (10, (upz g10 (sg.1 8) ((g10 (sg.1 8)) + 1))), (11, (upz g11 ((8 * (sg.1 8)) + (g10 (sg.1 8))) (row a))), (12, (upz g12 ((8 * (sg.1 8)) + (g10 (sg.1 8))) (row (a + 1)))), (13, (upz g13 ((8 * (sg.1 8)) + (g10 (sg.1 8))) (row (a + 2)))), (44, row)] dX2_readRow_167 rfl (Nat.le_of_ble_eq_true rfl) ⟨by omega, by omega⟩ rfl rfl ?_
            refine j_iinc [some (.ref m), none, some (vi (sg.1 8)), some (vi (a + 3)), some (vi ((8 * (sg.1 8)) + (g10 (sg.1 8))))] dX2_readRow_168 rfl (by decide) rfl rfl ?_
            refine m_goto 94 dX2_readRow_171 (by decide) ?_
            refine mw_forget 4 ?_
            exact ih94 _ (by omega) _ (i + 1) _ _ _ _ rfl (by omega) (by rw [e10, h10, upz2]; congr 1; omega) (by rw [e10, h11]; exact rrA_s (by omega) (by omega)) (by rw [e10, h12]; exact rrA_s (by omega) (by omega)) (by rw [e10, h13]; exact rrA_t (by omega) (by omega))
        refine mw_forget 1 ?_
        exact L94 _ _ 0 _ _ _ _ rfl (by omega) (by rfl) rrA_1 rrA_1 rrA_3
      · refine j_iconst dX2_readRow_55 ?_
        refine m_goto 60 dX2_readRow_56 (by decide) ?_
        refine j_iconst dX2_readRow_60 ?_
        refine t_inv [(vi 1), (vi 3)] dX2_readRow_61 q3256 q3258 qs76 q3259 rfl (c_isThrown1 K 0 h m _ _) pdX2_isThrown ⟨Nat.le_of_ble_eq_true rfl, by decide, by omega⟩ (kk_z fun r61 h61 q61 => ?_) kx_z
        obtain ⟨rfl, rfl⟩ := q61
        refine mw_tov (b := ovr sg [(0, 3), (45, rm)] [(44, row)]) (ovr_ovr _ _ _ _ _) ?_
        refine j_if_eq 69 dX2_readRow_64 (by decide) ⟨by decide, by decide⟩ (fun c => absurd c (by decide)) (fun _ => ?_)
        refine j_iconst dX2_readRow_67 ?_
        subst hQ; exact j_iret dX2_readRow_68 rfl (⟨r1, rm, row, g1, g2, g3, g4, by first | exact Or.inl ⟨by omega, rfl⟩ | exact Or.inr (Or.inl ⟨by omega, y35.mp (by omega), rfl⟩) | exact Or.inr (Or.inr (Or.inl ⟨by omega, fun h9 => by { have := y35.mpr h9; omega }, by omega, rfl⟩))⟩)
  · refine m_aload_n dX2_readRow_10 rfl ?_
    refine j_iload_n dX2_readRow_11 rfl ?_
    refine t_puti 21 (by decide) [(21, r1), (45, rm)] dX2_readRow_12 q3114 rfl rfl rfl rfl ?_
    refine m_aload_n dX2_readRow_15 rfl ?_
    refine j_iload_n dX2_readRow_16 rfl ?_
    refine j_iconst dX2_readRow_17 ?_
    refine j_icmp_eq 25 dX2_readRow_18 (by decide) ⟨⟨by omega, by omega⟩, ⟨by omega, by omega⟩⟩ (fun c18 => False.elim (by omega)) (fun c18 => ?_)
    refine j_iconst dX2_readRow_21 ?_
    refine m_goto 26 dX2_readRow_22 (by decide) ?_
    refine j_iconst dX2_readRow_26 ?_
    refine t_inv [(vi 1), (vi 1)] dX2_readRow_27 q3256 q3258 qs76 q3259 rfl (c_isThrown1 K 0 h m _ _) pdX2_isThrown ⟨Nat.le_of_ble_eq_true rfl, by decide, by omega⟩ (kk_z fun r27 h27 q27 => ?_) kx_z
    obtain ⟨rfl, rfl⟩ := q27
    refine mw_tov (b := ovr sg [(0, 1), (21, r1), (45, rm)] [(44, row)]) (ovr_ovr _ _ _ _ _) ?_
    refine j_if_ne 67 dX2_readRow_30 (by decide) ⟨by decide, by decide⟩ (fun _ => ?_) (fun c => absurd c (by decide))
    refine j_iconst dX2_readRow_67 ?_
    subst hQ; exact j_iret dX2_readRow_68 rfl (⟨r1, rm, row, g1, g2, g3, g4, by first | exact Or.inl ⟨by omega, rfl⟩ | exact Or.inr (Or.inl ⟨by omega, y35.mp (by omega), rfl⟩) | exact Or.inr (Or.inr (Or.inl ⟨by omega, fun h9 => by { have := y35.mpr h9; omega }, by omega, rfl⟩))⟩)
