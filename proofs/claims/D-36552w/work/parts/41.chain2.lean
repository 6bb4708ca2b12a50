/-! the twin: findRide, chain -/
/-- what one needs behind getting off, to be in time at a stop -/
abbrev moreT (sg : TS) (s e by' : Int) : Int := if by' = s then (if e = 0 then sg.2 2 s else 0) else sg.2 4 (12 * by' + s)
/-- getting off at a call is in time -/
def inT (sg : TS) (s t e j off : Int) : Prop := cmI sg j off + moreT sg s e (stI sg j off) ≤ t
def noOff (sg : TS) (bd : Int → Int → Prop) (s t e j off : Int) : Prop := inT sg s t e j off → ∀ c, 0 ≤ c → c < off → ¬ bd j c
/-- the first run, its first call in time, the last boardable call ahead of it -/
def FRs (sg : TS) (bd : Int → Int → Prop) (s t e j off c : Int) : Prop := okR sg j ∧ (1 ≤ off ∧ off < sg.2 10 (j % 24)) ∧ inT sg s t e j off ∧ (0 ≤ c ∧ c < off) ∧ bd j c ∧ (∀ c', c < c' → c' < off → ¬ bd j c') ∧ (∀ off', 1 ≤ off' → off' < off → noOff sg bd s t e j off') ∧ ∀ j', 0 ≤ j' → j' < j → okR sg j' → ∀ off', 1 ≤ off' → off' < sg.2 10 (j' % 24) → noOff sg bd s t e j' off'
theorem FRs.uniq {sg : TS} {bd : Int → Int → Prop} {s t e j off c j2 off2 c2 : Int} (h : FRs sg bd s t e j off c) (h2 : FRs sg bd s t e j2 off2 c2) : j = j2 ∧ off = off2 ∧ c = c2 := by
  obtain ⟨a1, a2, a3, a4, a5, a6, a7, a8⟩ := h
  obtain ⟨b1, b2, b3, b4, b5, b6, b7, b8⟩ := h2
  have e1 : j = j2 := by
    by_cases l : j < j2
    · exact absurd a5 (b8 j a1.1 l a1 off a2.1 a2.2 a3 c a4.1 a4.2)
    · by_cases l2 : j2 < j
      · exact absurd b5 (a8 j2 b1.1 l2 b1 off2 b2.1 b2.2 b3 c2 b4.1 b4.2)
      · omega
  subst e1
  have e2 : off = off2 := by
    by_cases l : off < off2
    · exact absurd a5 (b7 off a2.1 l a3 c a4.1 a4.2)
    · by_cases l2 : off2 < off
      · exact absurd b5 (a7 off2 b2.1 l2 b3 c2 b4.1 b4.2)
      · omega
  subst e2
  refine ⟨rfl, rfl, ?_⟩
  by_cases l : c < c2
  · exact absurd b5 (a6 c2 l b4.2)
  · by_cases l2 : c2 < c
    · exact absurd a5 (b6 c l2 a4.2)
    · omega
def FdN (sg : TS) (bd : Int → Int → Prop) (s t e k : Int) : Prop := ∀ j, 0 ≤ j → j < k → okR sg j → ∀ off, 1 ≤ off → off < sg.2 10 (j % 24) → noOff sg bd s t e j off
def FdF (sg : TS) (bd : Int → Int → Prop) (s t e n : Int) (R On Of R1 On1 Of1 : Int → Int) : Prop := ∃ j off c, R1 = upz R n j ∧ On1 = upz On n c ∧ Of1 = upz Of n off ∧ FRs sg bd s t e j off c
/-- the search under way: nothing found and Z, or found -/
def FdS (sg : TS) (bd : Int → Int → Prop) (s t e n : Int) (R On Of R1 On1 Of1 : Int → Int) (Z : Prop) : Prop := (R1 = upz R n (-1) ∧ On1 = On ∧ Of1 = Of ∧ Z) ∨ FdF sg bd s t e n R On Of R1 On1 Of1
theorem FdS.neg {sg : TS} {bd : Int → Int → Prop} {s t e n : Int} {R On Of R1 On1 Of1 : Int → Int} {Z : Prop} (h : FdS sg bd s t e n R On Of R1 On1 Of1 Z) : (R1 n = -1 → R1 = upz R n (-1) ∧ On1 = On ∧ Of1 = Of ∧ Z) ∧ (R1 n ≠ -1 → FdF sg bd s t e n R On Of R1 On1 Of1) ∧ (-1 ≤ R1 n ∧ R1 n ≤ 71) := by
  rcases h with h | h
  · refine ⟨fun _ => h, fun h9 => absurd (by rw [h.1]; exact upz_at) h9, ?_⟩
    rw [h.1, upz_at]; omega
  · have h2 := h
    obtain ⟨j, off, c, h3, -, -, h4⟩ := h2
    have e : R1 n = j := by rw [h3]; exact upz_at
    have := h4.1.1; have := h4.1.2.1
    exact ⟨fun h9 => by omega, fun _ => h, by omega⟩
theorem FdS.ok {sg : TS} {bd : Int → Int → Prop} {s t e n : Int} {R On Of R1 On1 Of1 : Int → Int} {Z : Prop} (hT : TB sg) (h : FdS sg bd s t e n R On Of R1 On1 Of1 Z) (o1 : okA 30 R) (o2 : okA 31 On) (o3 : okA 32 Of) : okA 30 R1 ∧ okA 31 On1 ∧ okA 32 Of1 := by
  rcases h with ⟨h1, h2, h3, -⟩ | ⟨j, off, c, h1, h2, h3, h4⟩
  · rw [h1, h2, h3]; exact ⟨mu30 o1 ⟨by decide, by decide⟩, o2, o3⟩
  · have a := h4.1.1; have b := h4.1.2.1
    have n1 := oa10 (hT.2 10) (j % 24) (by omega) (by omega)
    have c1 := h4.2.1; have c2 := h4.2.2.2.1
    rw [h1, h2, h3]; exact ⟨mu30 o1 ⟨by omega, by omega⟩, mu31 o2 ⟨by omega, by omega⟩, mu32 o3 ⟨by omega, by omega⟩⟩
theorem moreT_b {sg : TS} {s e b : Int} (hT : TB sg) (hs : 0 ≤ s ∧ s < 12) (hb : 0 ≤ b ∧ b < 12) : 0 ≤ moreT sg s e b ∧ moreT sg s e b ≤ 1000000 := by
  have h1 := oa2 (hT.2 2) s hs.1 (by omega)
  have h2 := oa4 (hT.2 4) (12 * b + s) (by omega) (by omega)
  unfold moreT; (repeat' split) <;> omega
theorem stp_n {sg : TS} {bd : Int → Int → Prop} {s t e n k off : Int} {R On Of R2 On2 Of2 : Int → Int} (e9 : R2 n = -1) (hS2 : FdS sg bd s t e n R On Of R2 On2 Of2 (FdN sg bd s t e k ∧ ∀ o, 1 ≤ o → o < off → noOff sg bd s t e k o)) (hn : ¬ cmI sg k off + moreT sg s e (stI sg k off) ≤ t) : FdS sg bd s t e n R On Of R2 On2 Of2 (FdN sg bd s t e k ∧ ∀ o, 1 ≤ o → o < off + 1 → noOff sg bd s t e k o) := by
  obtain ⟨u1, u2, u3, u4, u5⟩ := hS2.neg.1 e9
  refine Or.inl ⟨u1, u2, u3, u4, fun o a b => ?_⟩
  by_cases eo : o = off
  · subst eo; exact fun h9 => absurd h9 hn
  · exact u5 o a (by omega)
theorem stp_y {sg : TS} {bd : Int → Int → Prop} {s t e n k off c : Int} {R On Of R3 On3 Of3 : Int → Int} (hS3 : FdS sg bd s t e n R On Of R3 On3 Of3 (FdN sg bd s t e k ∧ (∀ o, 1 ≤ o → o < off → noOff sg bd s t e k o) ∧ inT sg s t e k off ∧ ∀ c', c < c' → c' < off → ¬ bd k c')) (hc : R3 n = -1 → c < 0) : FdS sg bd s t e n R On Of R3 On3 Of3 (FdN sg bd s t e k ∧ ∀ o, 1 ≤ o → o < off + 1 → noOff sg bd s t e k o) := by
  by_cases e9 : R3 n = -1
  · obtain ⟨u1, u2, u3, u4, u5, u6, u7⟩ := hS3.neg.1 e9
    have := hc e9
    refine Or.inl ⟨u1, u2, u3, u4, fun o a b => ?_⟩
    by_cases eo : o = off
    · subst eo; exact fun _ c' a1 a2 => u7 c' (by omega) a2
    · exact u5 o a (by omega)
  · exact Or.inr (hS3.neg.2.1 e9)
theorem c_findRide (K : KT) (d : Nat) (h : MH) (m : Nat) (sg : TS) (n s t e : Int) (R On Of : Int → Int) (hd : 3 ≤ d) (hF : WF sg) (hn : 0 ≤ n ∧ n < 74) (hs : 0 ≤ s ∧ s < 12) (ht : -2000 ≤ t ∧ t ≤ 300000) (he : e = 0 ∨ e = 1) (o1 : okA 30 R) (o2 : okA 31 On) (o3 : okA 32 Of) (hex : ∃ j off c, okR sg j ∧ (1 ≤ off ∧ off < sg.2 10 (j % 24)) ∧ inT sg s t e j off ∧ (0 ≤ c ∧ c < off) ∧ bdB sg (rwF (sg.2 26) n) (rwF (sg.2 27) n) j c) : Mt K yiX2_findRide d [.ref m, vi n, vi s, vi t, vi e] (tov K h m (ovr sg [] [(30, R), (31, On), (32, Of)])) (Rv fun h' => ∃ R1 On1 Of1, h' = tov K h m (ovr sg [] [(30, R1), (31, On1), (32, Of1)]) ∧ FdF sg (bdB sg (rwF (sg.2 26) n) (rwF (sg.2 27) n)) s t e n R On Of R1 On1 Of1) := by
  have hT := hF.1
  have hS := hF.2.1
  have f1n := of1 (hT.1 1)
  refine mt_ofQ (by decide) (Nat.le_of_ble_eq_true rfl) (fun Q hQ => ?_)
  show MW K yiX2_findRide d (tov K h m (ovr sg [] [(30, R), (31, On), (32, Of)])) 0 [some (.ref m), some (vi n), some (vi s), some (vi t), some (vi e), none, none, none, none, none] [] Q
  refine m_aload_n dX2_findRide_0 rfl ?_
  refine t_geta 30 19 (by decide) dX2_findRide_1 q3123 rfl ?_
  refine j_iload_n dX2_findRide_4 rfl ?_
  refine j_iconst dX2_findRide_5 ?_
  refine t_ast 19 (by decide) (n := 74) R [(30, (upz R n (-1))), (31, On), (32, Of)] dX2_findRide_6 rfl (Nat.le_of_ble_eq_true rfl) ⟨by omega, by omega⟩ rfl rfl ?_
  refine j_iconst dX2_findRide_7 ?_
  refine j_istore [some (.ref m), some (vi n), some (vi s), some (vi t), some (vi e), some (vi 0), none, none, none, none] dX2_findRide_8 (by decide) rfl rfl ?_
  have L10 : ∀ (N : Nat) (k : Int) (R1 On1 Of1 : Int → Int), (72 - k).toNat = N → (0 ≤ k ∧ k ≤ 72) → (FdS sg (bdB sg (rwF (sg.2 26) n) (rwF (sg.2 27) n)) s t e n R On Of R1 On1 Of1 (FdN sg (bdB sg (rwF (sg.2 26) n) (rwF (sg.2 27) n)) s t e k)) → MW K yiX2_findRide d (tov K h m (ovr sg [] [(30, R1), (31, On1), (32, Of1)])) 10 [some (.ref m), some (vi n), some (vi s), some (vi t), some (vi e), some (vi k), none, none, none, none] [] Q := by
    intro N
    induction N using Nat.strongRecOn with
    | _ N ih10 =>
    intro k R1 On1 Of1 hN10 hk hS1
    have hb1 := hS1.neg.2.2
    refine j_iload dX2_findRide_10 rfl ?_
    refine j_bipush dX2_findRide_12 (by decide) ?_
    refine j_icmp_ge 217 dX2_findRide_14 (by decide) ⟨⟨by omega, by omega⟩, ⟨by omega, by omega⟩⟩ (fun c14 => ?_) (fun c14 => ?_)
    · subst hQ; exact j_vret dX2_findRide_217 rfl (⟨R1, On1, Of1, rfl, by { by_cases e9 : R1 n = -1; { exfalso; obtain ⟨u1, u2, u3, u4⟩ := hS1.neg.1 e9; obtain ⟨j, of9, c9, g1, g2, g3, g4, g5⟩ := hex; exact u4 j g1.1 (by have := g1.2.1; omega) g1 of9 g2.1 g2.2 g3 c9 g4.1 g4.2 g5 }; { exact hS1.neg.2.1 e9 } }⟩)
    · refine m_aload_n dX2_findRide_17 rfl ?_
      refine t_geta 30 19 (by decide) dX2_findRide_18 q3123 rfl ?_
      refine j_iload_n dX2_findRide_21 rfl ?_
      refine t_aldB 19 (by decide) (n := 74) R1 dX2_findRide_22 rfl (Nat.le_of_ble_eq_true rfl) (oa30 (hS1.ok hT o1 o2 o3).1) ⟨by omega, by omega⟩ (fun b22 => ?_)
      refine j_iconst dX2_findRide_23 ?_
      refine j_icmp_ne 217 dX2_findRide_24 (by decide) ⟨⟨by omega, by omega⟩, ⟨by omega, by omega⟩⟩ (fun c24 => ?_) (fun c24 => ?_)
      · subst hQ; exact j_vret dX2_findRide_217 rfl (⟨R1, On1, Of1, rfl, by { by_cases e9 : R1 n = -1; { exfalso; obtain ⟨u1, u2, u3, u4⟩ := hS1.neg.1 e9; obtain ⟨j, of9, c9, g1, g2, g3, g4, g5⟩ := hex; exact u4 j g1.1 (by have := g1.2.1; omega) g1 of9 g2.1 g2.2 g3 c9 g4.1 g4.2 g5 }; { exact hS1.neg.2.1 e9 } }⟩)
      · refine j_iconst dX2_findRide_27 ?_
        refine j_istore [some (.ref m), some (vi n), some (vi s), some (vi t), some (vi e), some (vi k), some (vi 1), none, none, none] dX2_findRide_28 (by decide) rfl rfl ?_
        have L30 : ∀ (N : Nat) (off : Int) (R2 On2 Of2 : Int → Int), (8 - off).toNat = N → (1 ≤ off ∧ off ≤ 8) → (FdS sg (bdB sg (rwF (sg.2 26) n) (rwF (sg.2 27) n)) s t e n R On Of R2 On2 Of2 (FdN sg (bdB sg (rwF (sg.2 26) n) (rwF (sg.2 27) n)) s t e k ∧ ∀ o, 1 ≤ o → o < off → noOff sg (bdB sg (rwF (sg.2 26) n) (rwF (sg.2 27) n)) s t e k o)) → MW K yiX2_findRide d (tov K h m (ovr sg [] [(30, R2), (31, On2), (32, Of2)])) 30 [some (.ref m), some (vi n), some (vi s), some (vi t), some (vi e), some (vi k), some (vi off), none, none, none] [] Q := by
          intro N
          induction N using Nat.strongRecOn with
          | _ N ih30 =>
          intro off R2 On2 Of2 hN30 ho hS2
          have hb2 := hS2.neg.2.2
          refine m_aload_n dX2_findRide_30 rfl ?_
          refine j_iload dX2_findRide_31 rfl ?_
          refine t_inv [(vi k)] dX2_findRide_33 q3433 q3435 qs96 q3436 rfl (c_isRun K 1 h m _ _ (by omega) (hT.ovr fa0 (fa1 (hS2.ok hT o1 o2 o3).1 (fa1 (hS2.ok hT o1 o2 o3).2.1 (fa1 (hS2.ok hT o1 o2 o3).2.2 fa0)))) ⟨by omega, by omega⟩) pdX2_isRun ⟨Nat.le_of_ble_eq_true rfl, by decide, by omega⟩ (kk_z fun r33 h33 q33 => ?_) kx_z
          obtain ⟨rfl, rfl⟩ := q33
          refine mw_top (x' := bz (isRunP sg k)) rfl ?_
          refine j_bz_eq 211 dX2_findRide_36 (by decide) (fun c36 => ?_) (fun c36 => ?_)
          · refine j_iinc [some (.ref m), some (vi n), some (vi s), some (vi t), some (vi e), some (vi (k + 1)), some (vi off), none, none, none] dX2_findRide_211 rfl (by decide) rfl rfl ?_
            refine m_goto 10 dX2_findRide_214 (by decide) ?_
            refine mw_forget 6 ?_
            exact ih10 _ (by omega) _ _ _ _ rfl (by omega) (by { by_cases e9 : R2 n = -1; { obtain ⟨u1, u2, u3, u4, u5⟩ := hS2.neg.1 e9; refine Or.inl ⟨u1, u2, u3, fun j a b c o p q => ?_⟩; by_cases ej : j = k; { subst ej; first | exact absurd c.2.2 (by assumption) | exact u5 o p (by omega) }; { exact u4 j a (by omega) c o p q } }; { exact Or.inr (hS2.neg.2.1 e9) } })
          · refine j_iload dX2_findRide_39 rfl ?_
            refine m_aload_n dX2_findRide_41 rfl ?_
            refine t_geta 10 6 (by decide) dX2_findRide_42 q3103 rfl ?_
            refine j_iload dX2_findRide_45 rfl ?_
            refine j_bipush dX2_findRide_47 (by decide) ?_
            refine j_irem dX2_findRide_49 ⟨⟨by omega, by omega⟩, ⟨by omega, by omega⟩⟩ ⟨by omega, by omega⟩ ?_
            refine t_aldB 6 (by decide) (n := 24) (sg.2 10) dX2_findRide_50 rfl (Nat.le_of_ble_eq_true rfl) (oa10 (hT.2 10)) ⟨by omega, by omega⟩ (fun b50 => ?_)
            refine j_icmp_ge 211 dX2_findRide_51 (by decide) ⟨⟨by omega, by omega⟩, ⟨by omega, by omega⟩⟩ (fun c51 => ?_) (fun c51 => ?_)
            · refine j_iinc [some (.ref m), some (vi n), some (vi s), some (vi t), some (vi e), some (vi (k + 1)), some (vi off), none, none, none] dX2_findRide_211 rfl (by decide) rfl rfl ?_
              refine m_goto 10 dX2_findRide_214 (by decide) ?_
              refine mw_forget 6 ?_
              exact ih10 _ (by omega) _ _ _ _ rfl (by omega) (by { by_cases e9 : R2 n = -1; { obtain ⟨u1, u2, u3, u4, u5⟩ := hS2.neg.1 e9; refine Or.inl ⟨u1, u2, u3, fun j a b c o p q => ?_⟩; by_cases ej : j = k; { subst ej; first | exact absurd c.2.2 (by assumption) | exact u5 o p (by omega) }; { exact u4 j a (by omega) c o p q } }; { exact Or.inr (hS2.neg.2.1 e9) } })
            · refine m_aload_n dX2_findRide_54 rfl ?_
              refine t_geta 30 19 (by decide) dX2_findRide_55 q3123 rfl ?_
              refine j_iload_n dX2_findRide_58 rfl ?_
              refine t_aldB 19 (by decide) (n := 74) R2 dX2_findRide_59 rfl (Nat.le_of_ble_eq_true rfl) (oa30 (hS2.ok hT o1 o2 o3).1) ⟨by omega, by omega⟩ (fun b59 => ?_)
              refine j_iconst dX2_findRide_60 ?_
              refine j_icmp_ne 211 dX2_findRide_61 (by decide) ⟨⟨by omega, by omega⟩, ⟨by omega, by omega⟩⟩ (fun c61 => ?_) (fun c61 => ?_)
              · refine j_iinc [some (.ref m), some (vi n), some (vi s), some (vi t), some (vi e), some (vi (k + 1)), some (vi off), none, none, none] dX2_findRide_211 rfl (by decide) rfl rfl ?_
                refine m_goto 10 dX2_findRide_214 (by decide) ?_
                refine mw_forget 6 ?_
                exact ih10 _ (by omega) _ _ _ _ rfl (by omega) (by { by_cases e9 : R2 n = -1; { obtain ⟨u1, u2, u3, u4, u5⟩ := hS2.neg.1 e9; refine Or.inl ⟨u1, u2, u3, fun j a b c o p q => ?_⟩; by_cases ej : j = k; { subst ej; first | exact absurd c.2.2 (by assumption) | exact u5 o p (by omega) }; { exact u4 j a (by omega) c o p q } }; { exact Or.inr (hS2.neg.2.1 e9) } })
              · have hj : okR sg k := ⟨by omega, by omega, by assumption⟩
                have s45 := hS.run hj (c := off) ⟨by omega, by omega⟩
                have bcm := cmI_b hT (r := k) (c := off) ⟨by omega, by omega⟩ ⟨by omega, by omega⟩
                refine m_aload_n dX2_findRide_64 rfl ?_
                refine j_iload dX2_findRide_65 rfl ?_
                refine j_iload dX2_findRide_67 rfl ?_
                refine t_inv [(vi k), (vi off)] dX2_findRide_69 q3441 q3443 qs98 q3444 rfl (c_stopIn K 0 h m _ _ _ (hT.ovr fa0 (fa1 (hS2.ok hT o1 o2 o3).1 (fa1 (hS2.ok hT o1 o2 o3).2.1 (fa1 (hS2.ok hT o1 o2 o3).2.2 fa0)))) ⟨by omega, by omega⟩ ⟨by omega, by omega⟩) pdX2_stopIn ⟨Nat.le_of_ble_eq_true rfl, by decide, by omega⟩ (kk_z fun r69 h69 q69 => ?_) kx_z
                obtain ⟨rfl, rfl⟩ := q69
                refine mw_top (x' := stI sg k off) rfl ?_
                refine j_istore [some (.ref m), some (vi n), some (vi s), some (vi t), some (vi e), some (vi k), some (vi off), some (vi (stI sg k off)), none, none] dX2_findRide_72 (by decide) rfl rfl ?_
                have J110 : True → MW K yiX2_findRide d (tov K h m (ovr sg [] [(30, R2), (31, On2), (32, Of2)])) 110 [some (.ref m), some (vi n), some (vi s), some (vi t), some (vi e), some (vi k), some (vi off), some (vi (stI sg k off)), none, none] [(vi (moreT sg s e (stI sg k off)))] Q := by
                  intro hj0
                  have bmo : 0 ≤ moreT sg s e (stI sg k off) ∧ moreT sg s e (stI sg k off) ≤ 1000000 := moreT_b hT hs (by omega)
                  refine j_istore [some (.ref m), some (vi n), some (vi s), some (vi t), some (vi e), some (vi k), some (vi off), some (vi (stI sg k off)), some (vi (moreT sg s e (stI sg k off))), none] dX2_findRide_110 (by decide) rfl rfl ?_
                  refine m_aload_n dX2_findRide_112 rfl ?_
                  refine j_iload dX2_findRide_113 rfl ?_
                  refine j_iload dX2_findRide_115 rfl ?_
                  refine t_inv [(vi k), (vi off)] dX2_findRide_117 q3445 q3447 qs99 q3448 rfl (c_comesAt K 2 h m _ _ _ (by omega) (hT.ovr fa0 (fa1 (hS2.ok hT o1 o2 o3).1 (fa1 (hS2.ok hT o1 o2 o3).2.1 (fa1 (hS2.ok hT o1 o2 o3).2.2 fa0)))) ⟨by omega, by omega⟩ ⟨by omega, by omega⟩) pdX2_comesAt ⟨Nat.le_of_ble_eq_true rfl, by decide, by omega⟩ (kk_z fun r117 h117 q117 => ?_) kx_z
                  obtain ⟨rfl, rfl⟩ := q117
                  refine mw_top (x' := cmI sg k off) rfl ?_
                  refine j_iload dX2_findRide_120 rfl ?_
                  refine j_iadd dX2_findRide_122 ?_
                  refine j_iload_n dX2_findRide_123 rfl ?_
                  refine j_icmp_le 130 dX2_findRide_124 (by decide) ⟨⟨by omega, by omega⟩, ⟨by omega, by omega⟩⟩ (fun c124 => ?_) (fun c124 => ?_)
                  · refine j_iload dX2_findRide_130 rfl ?_
                    refine j_iconst dX2_findRide_132 ?_
                    refine j_isub dX2_findRide_133 ?_
                    refine j_istore [some (.ref m), some (vi n), some (vi s), some (vi t), some (vi e), some (vi k), some (vi off), some (vi (stI sg k off)), some (vi (moreT sg s e (stI sg k off))), some (vi (off - 1))] dX2_findRide_134 (by decide) rfl rfl ?_
                    have L136 : ∀ (N : Nat) (c : Int) (R3 On3 Of3 : Int → Int), (c + 1).toNat = N → (-1 ≤ c ∧ c < off) → (FdS sg (bdB sg (rwF (sg.2 26) n) (rwF (sg.2 27) n)) s t e n R On Of R3 On3 Of3 (FdN sg (bdB sg (rwF (sg.2 26) n) (rwF (sg.2 27) n)) s t e k ∧ (∀ o, 1 ≤ o → o < off → noOff sg (bdB sg (rwF (sg.2 26) n) (rwF (sg.2 27) n)) s t e k o) ∧ inT sg s t e k off ∧ ∀ c', c < c' → c' < off → ¬ bdB sg (rwF (sg.2 26) n) (rwF (sg.2 27) n) k c')) → MW K yiX2_findRide d (tov K h m (ovr sg [] [(30, R3), (31, On3), (32, Of3)])) 136 [some (.ref m), some (vi n), some (vi s), some (vi t), some (vi e), some (vi k), some (vi off), none, none, some (vi c)] [] Q := by
                      intro N
                      induction N using Nat.strongRecOn with
                      | _ N ih136 =>
                      intro c R3 On3 Of3 hN136 hc hS3
                      have hb3 := hS3.neg.2.2
                      refine j_iload dX2_findRide_136 rfl ?_
                      refine j_if_lt 205 dX2_findRide_138 (by decide) ⟨by omega, by omega⟩ (fun c138 => ?_) (fun c138 => ?_)
                      · refine j_iinc [some (.ref m), some (vi n), some (vi s), some (vi t), some (vi e), some (vi k), some (vi (off + 1)), none, none, some (vi c)] dX2_findRide_205 rfl (by decide) rfl rfl ?_
                        refine m_goto 30 dX2_findRide_208 (by decide) ?_
                        refine mw_forget 9 ?_
                        exact ih30 _ (by omega) _ _ _ _ rfl (by omega) (by first | exact stp_n (by omega) hS2 (by omega) | exact stp_y hS3 (fun e9 => by omega))
                      · refine m_aload_n dX2_findRide_141 rfl ?_
                        refine t_geta 30 19 (by decide) dX2_findRide_142 q3123 rfl ?_
                        refine j_iload_n dX2_findRide_145 rfl ?_
                        refine t_aldB 19 (by decide) (n := 74) R3 dX2_findRide_146 rfl (Nat.le_of_ble_eq_true rfl) (oa30 (hS3.ok hT o1 o2 o3).1) ⟨by omega, by omega⟩ (fun b146 => ?_)
                        refine j_iconst dX2_findRide_147 ?_
                        refine j_icmp_ne 205 dX2_findRide_148 (by decide) ⟨⟨by omega, by omega⟩, ⟨by omega, by omega⟩⟩ (fun c148 => ?_) (fun c148 => ?_)
                        · refine j_iinc [some (.ref m), some (vi n), some (vi s), some (vi t), some (vi e), some (vi k), some (vi (off + 1)), none, none, some (vi c)] dX2_findRide_205 rfl (by decide) rfl rfl ?_
                          refine m_goto 30 dX2_findRide_208 (by decide) ?_
                          refine mw_forget 9 ?_
                          exact ih30 _ (by omega) _ _ _ _ rfl (by omega) (by first | exact stp_n (by omega) hS2 (by omega) | exact stp_y hS3 (fun e9 => by omega))
                        · have s46 := hS.run hj (c := c) ⟨by omega, by omega⟩
                          have blv := lvI_b hT (r := k) (c := c) ⟨by omega, by omega⟩ ⟨by omega, by omega⟩
                          refine m_aload_n dX2_findRide_151 rfl ?_
                          refine j_iload_n dX2_findRide_152 rfl ?_
                          refine m_aload_n dX2_findRide_153 rfl ?_
                          refine j_iload dX2_findRide_154 rfl ?_
                          refine j_iload dX2_findRide_156 rfl ?_
                          refine t_inv [(vi k), (vi c)] dX2_findRide_158 q3441 q3443 qs98 q3444 rfl (c_stopIn K 0 h m _ _ _ (hT.ovr fa0 (fa1 (hS3.ok hT o1 o2 o3).1 (fa1 (hS3.ok hT o1 o2 o3).2.1 (fa1 (hS3.ok hT o1 o2 o3).2.2 fa0)))) ⟨by omega, by omega⟩ ⟨by omega, by omega⟩) pdX2_stopIn ⟨Nat.le_of_ble_eq_true rfl, by decide, by omega⟩ (kk_z fun r158 h158 q158 => ?_) kx_z
                          obtain ⟨rfl, rfl⟩ := q158
                          refine mw_top (x' := stI sg k c) rfl ?_
                          refine m_aload_n dX2_findRide_161 rfl ?_
                          refine j_iload dX2_findRide_162 rfl ?_
                          refine j_iload dX2_findRide_164 rfl ?_
                          refine t_inv [(vi k), (vi c)] dX2_findRide_166 q3453 q3455 qs101 q3456 rfl (c_leavesAt K 2 h m _ _ _ (by omega) (hT.ovr fa0 (fa1 (hS3.ok hT o1 o2 o3).1 (fa1 (hS3.ok hT o1 o2 o3).2.1 (fa1 (hS3.ok hT o1 o2 o3).2.2 fa0)))) ⟨by omega, by omega⟩ ⟨by omega, by omega⟩) pdX2_leavesAt ⟨Nat.le_of_ble_eq_true rfl, by decide, by omega⟩ (kk_z fun r166 h166 q166 => ?_) kx_z
                          obtain ⟨rfl, rfl⟩ := q166
                          refine mw_top (x' := lvI sg k c) rfl ?_
                          refine t_inv [(vi n), (vi (stI sg k c)), (vi (lvI sg k c))] dX2_findRide_169 q3502 q3504 qs106 q3505 rfl (c_getsOnBy K 0 h m _ _ _ _ (by omega) (hT.ovr fa0 (fa1 (hS3.ok hT o1 o2 o3).1 (fa1 (hS3.ok hT o1 o2 o3).2.1 (fa1 (hS3.ok hT o1 o2 o3).2.2 fa0)))) ⟨by omega, by omega⟩ ⟨by omega, by omega⟩ ⟨by omega, by omega⟩ ⟨by omega, by omega⟩ ⟨by omega, by omega⟩ ⟨by omega, by omega⟩) pdX2_getsOnBy ⟨Nat.le_of_ble_eq_true rfl, by decide, by omega⟩ (kk_z fun r169 h169 q169 => ?_) kx_z
                          obtain ⟨rfl, rfl⟩ := q169
                          refine mw_top (x' := bz (0 ≤ (lvI sg k c) ∧ ((sg.2 26) (12 * n + (stI sg k c)) ≤ (lvI sg k c) ∨ (sg.2 27) (12 * n + (stI sg k c)) + (sg.2 2) (stI sg k c) ≤ (lvI sg k c)))) rfl ?_
                          refine j_bz_eq 199 dX2_findRide_172 (by decide) (fun c172 => ?_) (fun c172 => ?_)
                          · refine j_iinc [some (.ref m), some (vi n), some (vi s), some (vi t), some (vi e), some (vi k), some (vi off), none, none, some (vi (c + (-1)))] dX2_findRide_199 rfl (by decide) rfl rfl ?_
                            refine m_goto 136 dX2_findRide_202 (by decide) ?_
                            exact ih136 _ (by omega) _ _ _ _ rfl (by omega) (by { obtain ⟨u1, u2, u3, u4, u5, u6, u7⟩ := hS3.neg.1 (by omega); first | (exact Or.inr ⟨k, off, c, by rw [u1, upz2], by rw [u2], by rw [u3], hj, ⟨by omega, by omega⟩, u6, ⟨by omega, by omega⟩, by assumption, u7, u5, u4⟩) | (exact Or.inl ⟨u1, u2, u3, u4, u5, u6, fun c' a b => by { by_cases ec : c' = c; { subst ec; assumption }; { exact u7 c' (by omega) b } }⟩) })
                          · refine m_aload_n dX2_findRide_175 rfl ?_
                            refine t_geta 30 19 (by decide) dX2_findRide_176 q3123 rfl ?_
                            refine j_iload_n dX2_findRide_179 rfl ?_
                            refine j_iload dX2_findRide_180 rfl ?_
                            refine t_ast 19 (by decide) (n := 74) R3 [(30, (upz R3 n k)), (31, On3), (32, Of3)] dX2_findRide_182 rfl (Nat.le_of_ble_eq_true rfl) ⟨by omega, by omega⟩ rfl rfl ?_
                            refine m_aload_n dX2_findRide_183 rfl ?_
                            refine t_geta 31 20 (by decide) dX2_findRide_184 q3124 rfl ?_
                            refine j_iload_n dX2_findRide_187 rfl ?_
                            refine j_iload dX2_findRide_188 rfl ?_
                            refine t_ast 20 (by decide) (n := 74) On3 [(30, (upz R3 n k)), (31, (upz On3 n c)), (32, Of3)] dX2_findRide_190 rfl (Nat.le_of_ble_eq_true rfl) ⟨by omega, by omega⟩ rfl rfl ?_
                            refine m_aload_n dX2_findRide_191 rfl ?_
                            refine t_geta 32 21 (by decide) dX2_findRide_192 q3125 rfl ?_
                            refine j_iload_n dX2_findRide_195 rfl ?_
                            refine j_iload dX2_findRide_196 rfl ?_
                            refine t_ast 21 (by decide) (n := 74) Of3 [(30, (upz R3 n k)), (31, (upz On3 n c)), (32, (upz Of3 n off))] dX2_findRide_198 rfl (Nat.le_of_ble_eq_true rfl) ⟨by omega, by omega⟩ rfl rfl ?_
                            refine j_iinc [some (.ref m), some (vi n), some (vi s), some (vi t), some (vi e), some (vi k), some (vi off), none, none, some (vi (c + (-1)))] dX2_findRide_199 rfl (by decide) rfl rfl ?_
                            refine m_goto 136 dX2_findRide_202 (by decide) ?_
                            exact ih136 _ (by omega) _ _ _ _ rfl (by omega) (by { obtain ⟨u1, u2, u3, u4, u5, u6, u7⟩ := hS3.neg.1 (by omega); first | (exact Or.inr ⟨k, off, c, by rw [u1, upz2], by rw [u2], by rw [u3], hj, ⟨by omega, by omega⟩, u6, ⟨by omega, by omega⟩, by assumption, u7, u5, u4⟩) | (exact Or.inl ⟨u1, u2, u3, u4, u5, u6, fun c' a b => by { by_cases ec : c' = c; { subst ec; assumption }; { exact u7 c' (by omega) b } }⟩) })
                    refine mw_forget 7 ?_
                    refine mw_forget 8 ?_
                    exact L136 _ _ _ _ _ rfl (by omega) (by { obtain ⟨u1, u2, u3, u4, u5⟩ := hS2.neg.1 (by omega); exact Or.inl ⟨u1, u2, u3, u4, u5, by assumption, fun c' a b => by omega⟩ })
                  · refine m_goto 205 dX2_findRide_127 (by decide) ?_
                    refine j_iinc [some (.ref m), some (vi n), some (vi s), some (vi t), some (vi e), some (vi k), some (vi (off + 1)), some (vi (stI sg k off)), some (vi (moreT sg s e (stI sg k off))), none] dX2_findRide_205 rfl (by decide) rfl rfl ?_
                    refine m_goto 30 dX2_findRide_208 (by decide) ?_
                    refine mw_forget 7 ?_
                    refine mw_forget 8 ?_
                    exact ih30 _ (by omega) _ _ _ _ rfl (by omega) (by first | exact stp_n (by omega) hS2 (by omega) | exact stp_y hS3 (fun e9 => by omega))
                refine j_iload dX2_findRide_74 rfl ?_
                refine j_iload_n dX2_findRide_76 rfl ?_
                refine j_icmp_eq 95 dX2_findRide_77 (by decide) ⟨⟨by omega, by omega⟩, ⟨by omega, by omega⟩⟩ (fun c77 => ?_) (fun c77 => ?_)
                · refine j_iload dX2_findRide_95 rfl ?_
                  refine j_if_eq 104 dX2_findRide_97 (by decide) ⟨by omega, by omega⟩ (fun c97 => ?_) (fun c97 => ?_)
                  · refine m_aload_n dX2_findRide_104 rfl ?_
                    refine t_geta 2 1 (by decide) dX2_findRide_105 q3095 rfl ?_
                    refine j_iload_n dX2_findRide_108 rfl ?_
                    refine t_aldB 1 (by decide) (n := 12) (sg.2 2) dX2_findRide_109 rfl (Nat.le_of_ble_eq_true rfl) (oa2 (hT.2 2)) ⟨by omega, by omega⟩ (fun b109 => ?_)
                    refine mw_top (x' := moreT sg s e (stI sg k off)) (by unfold moreT; (repeat' split) <;> omega) ?_
                    exact J110  trivial
                  · refine j_iconst dX2_findRide_100 ?_
                    refine m_goto 110 dX2_findRide_101 (by decide) ?_
                    refine mw_top (x' := moreT sg s e (stI sg k off)) (by unfold moreT; (repeat' split) <;> omega) ?_
                    exact J110  trivial
                · refine m_aload_n dX2_findRide_80 rfl ?_
                  refine t_geta 4 3 (by decide) dX2_findRide_81 q3097 rfl ?_
                  refine j_bipush dX2_findRide_84 (by decide) ?_
                  refine j_iload dX2_findRide_86 rfl ?_
                  refine j_imul dX2_findRide_88 ?_
                  refine j_iload_n dX2_findRide_89 rfl ?_
                  refine j_iadd dX2_findRide_90 ?_
                  refine t_aldB 3 (by decide) (n := 144) (sg.2 4) dX2_findRide_91 rfl (Nat.le_of_ble_eq_true rfl) (oa4 (hT.2 4)) ⟨by omega, by omega⟩ (fun b91 => ?_)
                  refine m_goto 110 dX2_findRide_92 (by decide) ?_
                  refine mw_top (x' := moreT sg s e (stI sg k off)) (by unfold moreT; (repeat' split) <;> omega) ?_
                  exact J110  trivial
        exact L30 _ _ _ _ _ rfl (by omega) (by { obtain ⟨u1, u2, u3, u4⟩ := hS1.neg.1 (by omega); exact Or.inl ⟨u1, u2, u3, u4, fun o a b => by omega⟩ })
  exact L10 _ _ _ _ _ rfl (by omega) (Or.inl ⟨rfl, rfl, rfl, fun j a b => by omega⟩)
/-- boardable with n rides at most -/
def bdN (sg : TS) (fr mi : Int) (n : Nat) (j c : Int) : Prop := 0 ≤ lvI sg j c ∧ RdE sg (b0 (sg.2 4) fr mi) BG (EvN sg (b0 (sg.2 4) fr mi) BG n) (stI sg j c) (lvI sg j c)
theorem bdN_iff {sg : TS} {fr mi : Int} {n : Nat} {f r : Int → Int} (hF : WF sg) (h : Lab sg (b0 (sg.2 4) fr mi) BG (EvN sg (b0 (sg.2 4) fr mi) BG n) f r) {j c : Int} (hj : okR sg j) (hc : 0 ≤ c ∧ c < sg.2 10 (j % 24)) : bdB sg f r j c ↔ bdN sg fr mi n j c := by
  obtain ⟨hT, hS, hM, hW⟩ := hF
  have hn := oa10 (hT.2 10) (j % 24) (by have := hj.1; omega) (by have := hj.2.1; omega)
  have s2 := hS.run hj hc
  have b2 := lvI_b hT (r := j) (c := c) ⟨hj.1, hj.2.1⟩ ⟨by omega, by omega⟩
  have hch := oa2 (hT.2 2) (stI sg j c) (by omega) (by have := of1 (hT.1 1); omega)
  exact and_congr Iff.rfl (h.gon s2 (by omega) hch)
theorem noOff_cg {sg : TS} {bd bd' : Int → Int → Prop} {s t e j off : Int} (h : ∀ c, 0 ≤ c → c < off → (bd j c ↔ bd' j c)) (hn : noOff sg bd s t e j off) : noOff sg bd' s t e j off := fun h1 c a b h2 => hn h1 c a b ((h c a b).mpr h2)
theorem FRs.cg {sg : TS} {bd bd' : Int → Int → Prop} {s t e j off c : Int} (h : FRs sg bd s t e j off c) (hb : ∀ j c, okR sg j → 0 ≤ c → c < sg.2 10 (j % 24) → (bd j c ↔ bd' j c)) : FRs sg bd' s t e j off c := by
  obtain ⟨a1, a2, a3, a4, a5, a6, a7, a8⟩ := h
  exact ⟨a1, a2, a3, a4, (hb j c a1 a4.1 (by omega)).mp a5, fun c' g1 g2 g3 => a6 c' g1 g2 ((hb j c' a1 (by omega) (by omega)).mpr g3), fun o g1 g2 => noOff_cg (fun c g3 g4 => hb j c a1 g3 (by omega)) (a7 o g1 g2), fun j' g0 g1 g2 o g3 g4 => noOff_cg (fun c g5 g6 => hb j' c g2 g5 (by omega)) (a8 j' g0 g1 g2 o g3 g4)⟩
/-- the rides of a chain: many of them, to a stop by a minute -/
def ChP (sg : TS) (fr mi to by' : Int) (mn : Int) (R On Of : Int → Int) (lo : Int) : Prop := ∀ k : Nat, lo ≤ (k : Int) → (k : Int) < mn → FRs sg (bdN sg fr mi k) (if (k : Int) = mn - 1 then to else stI sg (R ((k : Int) + 1)) (On ((k : Int) + 1))) (if (k : Int) = mn - 1 then by' else lvI sg (R ((k : Int) + 1)) (On ((k : Int) + 1))) (if (k : Int) = mn - 1 then 1 else 0) (R k) (Of k) (On k)
/-- in time at a stop with n rides at most: at the end, or to get on -/
def TgN (sg : TS) (fr mi : Int) (n : Nat) (s t e : Int) : Prop := if e = 0 then RdE sg (b0 (sg.2 4) fr mi) BG (EvN sg (b0 (sg.2 4) fr mi) BG n) s t else ArN sg fr mi n s t
/-- an event in time is a target met -/
theorem TgN.ev {sg : TS} {fr mi s t e : Int} {n : Nat} (hF : WF sg) (hs : 0 ≤ s ∧ s < sg.1 1) (he : e = 0 ∨ e = 1) {s' t' : Int} (h : EvN sg (b0 (sg.2 4) fr mi) BG n s' t') (hs' : 0 ≤ s' ∧ s' < sg.1 1) (ht : t' + moreT sg s e s' ≤ t) : TgN sg fr mi n s t e := by
  have hW := hF.2.2.2
  unfold TgN moreT at *
  rcases he with rfl | rfl
  · rw [if_pos rfl]
    by_cases es : s' = s
    · rw [if_pos es, if_pos rfl] at ht
      subst es
      exact Or.inr (Or.inr (Or.inl ⟨t', h, ht⟩))
    · rw [if_neg es] at ht
      exact Or.inr (Or.inr (Or.inr ⟨s', t', hs', h, es, ht⟩))
  · rw [if_neg (by decide)]
    by_cases es : s' = s
    · rw [if_pos es, if_neg (by decide)] at ht
      subst es
      exact Or.inr (Or.inl ⟨t', h, by omega⟩)
    · rw [if_neg es] at ht
      exact Or.inr (Or.inr ⟨s', t', hs', h, es, ht⟩)
/-- a target met with one ride more, not with fewer, is met by a ride -/
theorem TgN.ex {sg : TS} {fr mi s t e : Int} {n : Nat} (hF : WF sg) (ht : t < 900000) (he : e = 0 ∨ e = 1) (h1 : TgN sg fr mi (n + 1) s t e) (h2 : ¬ TgN sg fr mi n s t e) : ∃ j off c, okR sg j ∧ (1 ≤ off ∧ off < sg.2 10 (j % 24)) ∧ inT sg s t e j off ∧ (0 ≤ c ∧ c < off) ∧ bdN sg fr mi n j c := by
  have key : ∃ s' t', EvN sg (b0 (sg.2 4) fr mi) BG (n + 1) s' t' ∧ t' + moreT sg s e s' ≤ t := by
    unfold TgN at h1 h2
    unfold moreT
    have hB : ¬ BG s ≤ t := by show ¬ (1000000 : Int) ≤ t; omega
    rcases he with rfl | rfl
    · rw [if_pos rfl] at h1 h2
      rcases h1 with g | g | ⟨t', g, g2⟩ | ⟨s', t', g0, g, g2, g3⟩
      · exact absurd (Or.inl g) h2
      · exact absurd (Or.inr (Or.inl g)) h2
      · exact ⟨s, t', g, by rw [if_pos rfl, if_pos rfl]; exact g2⟩
      · exact ⟨s', t', g, by rw [if_neg g2]; exact g3⟩
    · rw [if_neg (by decide)] at h1 h2
      rcases h1 with g | ⟨t', g, g2⟩ | ⟨s', t', g0, g, g2, g3⟩
      · exact absurd (Or.inl g) h2
      · exact ⟨s, t', g, by rw [if_pos rfl, if_neg (by decide)]; omega⟩
      · exact ⟨s', t', g, by rw [if_neg g2]; exact g3⟩
  obtain ⟨s', t', ⟨k, c, c', a1, a2, a3, a4, a5, a6, a7, a8, a9, a10⟩, g2⟩ := key
  exact ⟨k, c, c', a1, ⟨by omega, a4⟩, by unfold inT; rw [a5, a6]; exact g2, ⟨a2, a3⟩, a9, a10⟩
/-- the place of boarding is a target met with as many rides, not with fewer -/
theorem TgN.on {sg : TS} {fr mi s t e : Int} {n : Nat} (hF : WF sg) (hcut : sg.1 5 = -1) (hs : 0 ≤ s ∧ s < sg.1 1) (he : e = 0 ∨ e = 1) {j off c : Int} (h : FRs sg (bdN sg fr mi n) s t e j off c) (h2 : ¬ TgN sg fr mi n s t e) : TgN sg fr mi n (stI sg j c) (lvI sg j c) 0 ∧ ∀ n', n = n' + 1 → ¬ TgN sg fr mi n' (stI sg j c) (lvI sg j c) 0 := by
  obtain ⟨a1, a2, a3, a4, a5, -⟩ := h
  have s1 := hF.2.1.run a1 (c := off) ⟨by omega, a2.2⟩
  have s2 := hF.2.1.run a1 (c := c) ⟨a4.1, by omega⟩
  refine ⟨by unfold TgN; rw [if_pos rfl]; exact a5.2, fun n' e1 h9 => h2 ?_⟩
  unfold TgN at h9
  rw [if_pos rfl] at h9
  subst e1
  exact TgN.ev hF hs he (s' := stI sg j off) (t' := cmI sg j off) ⟨j, off, c, a1, a4.1, a4.2, a2.2, rfl, rfl, by omega, by omega, a5.1, h9⟩ s1 a3
