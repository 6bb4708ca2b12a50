/-! the twin: cuts and shifts -/
def cutW (sg : TS) (s : Int) : Int → Int := fun q => if 0 ≤ q ∧ q / 12 < sg.1 1 ∧ q % 12 < sg.1 1 then flQ (sg.1 1) (sg.2 3) s q else sg.2 4 q
/-- the table without a stop -/
def cutS (sg : TS) (s : Int) : TS := ovr sg [(5, s)] [(4, cutW sg s)]
theorem cutW_of {sg sg' : TS} (hT : TB sg') {s : Int} (e1 : sg'.1 1 = sg.1 1) (e3 : sg'.2 3 = sg.2 3) (e4 : sg'.2 4 = sg.2 4) : wfull sg' s = cutW sg s := by
  funext q
  have h := wfull_at hT s q
  rw [e1, e3, e4] at h
  unfold cutW
  by_cases hq : insQ (sg.1 1) q
  · have hq2 : 0 ≤ q ∧ q / 12 < sg.1 1 ∧ q % 12 < sg.1 1 := hq
    rw [if_pos hq2, h.1 hq]
  · have hq2 : ¬ (0 ≤ q ∧ q / 12 < sg.1 1 ∧ q % 12 < sg.1 1) := hq
    rw [if_neg hq2, h.2 hq]
theorem wyD_cut {sg : TS} (hF : WF sg) (s : Int) : wyD (ovr sg [(5, s)] [(4, cutW sg s)]) := wyD_full hF.1 hF.2.2.2 s rfl (cutW_of hF.1 rfl rfl rfl).symm
def lostP (sg : TS) (day s a b : Int) : Prop := a ≠ b ∧ a ≠ s ∧ b ≠ s ∧ RcB (sd sg day) a b ∧ ¬ RcB (sd (cutS sg s) day) a b
theorem sq_n {n : Int} (h : 0 ≤ n ∧ n ≤ 12) : ((n.toNat : Nat) : Int) * ((n.toNat : Nat) : Int) ≤ 144 := by
  have h1 : ((n.toNat : Nat) : Int) = n := by omega
  rw [h1]
  have := Int.mul_le_mul h.2 h.2 h.1 (by omega : (0 : Int) ≤ 12)
  omega
theorem c_lostBy (K : KT) (d : Nat) (h : MH) (m : Nat) (sg : TS) (s day : Int) (hd : 7 ≤ d) (hF : WF sg) (hW : WayOk sg) (hcut : sg.1 5 = -1) (hs : 0 ≤ s ∧ s < sg.1 1) (hy : 0 ≤ day ∧ day ≤ 27) : Mt K yiX2_lostBy d [.ref m, vi s, vi day] (tov K h m sg) (Rz fun v h' => ∃ x y f r B, h' = tov K h m (ovr sg [(22, x), (25, y)] [(23, f), (24, r), (43, B)]) ∧ (0 ≤ x ∧ x ≤ 27) ∧ (y = 0 ∨ y = 1) ∧ okA 23 f ∧ okA 24 r ∧ okA 43 B ∧ (0 ≤ v ∧ v ≤ 144) ∧ v = cA (lostP sg day s) (sg.1 1).toNat (sg.1 1).toNat) := by
  have hT := hF.1
  have f1' := of1 (hT.1 1)
  have hwy := wyD_cut hF s
  refine mt_ofQ (by decide) (Nat.le_of_ble_eq_true rfl) (fun Q hQ => ?_)
  show MW K yiX2_lostBy d (tov K h m (ovr sg [] [])) 0 [some (.ref m), some (vi s), some (vi day), none, none, none] [] Q
  have f1 := of1 (hT.1 1)
  refine m_aload_n dX2_lostBy_0 rfl ?_
  refine j_iload_n dX2_lostBy_1 rfl ?_
  refine j_iconst dX2_lostBy_2 ?_
  refine t_inv [(vi day), (vi 0)] dX2_lostBy_3 q3598 q3600 qs119 q3601 rfl (c_tellAll K 6 h m _ _ _ (by omega) ⟨hT, hF.2.1, hF.2.2.1, hF.2.2.2⟩ ⟨by omega, by omega⟩ ⟨by omega, by omega⟩) pdX2_tellAll ⟨Nat.le_of_ble_eq_true rfl, by decide, by omega⟩ (kk_v fun h3 q3 => ?_) kx_v
  obtain ⟨x3, y3, f3, r3, B3, rfl, g3, i3, o3, p3, u3, z3⟩ := q3
  refine mw_tov (b := ovr sg [(22, x3), (25, y3)] [(23, f3), (24, r3), (43, B3)]) (ovr_ovr _ _ _ _ _) ?_
  have hE : ∀ a b, 0 ≤ a → a < sg.1 1 → 0 ≤ b → b < sg.1 1 → EA (sd sg day) a 0 b (B3 (12 * a + b)) := fun a b q1 q2 q3 q4 => z3 a b q1 q3 q4 (Or.inl q2)
  refine m_aload_n dX2_lostBy_6 rfl ?_
  refine j_iload_n dX2_lostBy_7 rfl ?_
  refine t_puti 5 (by decide) [(5, s), (22, x3), (25, y3)] dX2_lostBy_8 q3098 rfl rfl rfl rfl ?_
  refine m_aload_n dX2_lostBy_11 rfl ?_
  refine t_inv [] dX2_lostBy_12 q3260 q3262 qs77 q3263 rfl (c_walks K 0 h m _ (hT.ovr (fa1 (mf5 (v := s) ⟨by first | decide | omega | (split <;> omega) | assumption, by first | decide | omega | (split <;> omega) | assumption⟩) (fa1 (mf22 (v := x3) ⟨by first | decide | omega | (split <;> omega) | assumption, by first | decide | omega | (split <;> omega) | assumption⟩) (fa1 (mf25 (v := y3) ⟨by first | decide | omega | (split <;> omega) | assumption, by first | decide | omega | (split <;> omega) | assumption⟩) fa0))) (fa1 o3 (fa1 p3 (fa1 u3 fa0))))) pdX2_walks ⟨Nat.le_of_ble_eq_true rfl, by decide, by omega⟩ (kk_v fun h12 q12 => ?_) kx_v
  obtain ⟨rfl, y12⟩ := q12
  refine mw_tov (b := ovr sg [(5, s), (22, x3), (25, y3)] [(4, (wfull (ovr sg [(5, s), (22, x3), (25, y3)] [(23, f3), (24, r3), (43, B3)]) s)), (23, f3), (24, r3), (43, B3)]) (ovr_ovr _ _ _ _ _) ?_
  refine j_iconst dX2_lostBy_15 ?_
  refine j_istore_n [some (.ref m), some (vi s), some (vi day), some (vi 0), none, none] dX2_lostBy_16 (by decide) rfl rfl ?_
  refine j_iconst dX2_lostBy_17 ?_
  refine j_istore [some (.ref m), some (vi s), some (vi day), some (vi 0), some (vi 0), none] dX2_lostBy_18 (by decide) rfl rfl ?_
  have L20 : ∀ (N : Nat) (mn a x y : Int) (g4 f r : Int → Int), (12 - a).toNat = N → (0 ≤ a ∧ a ≤ sg.1 1) → (g4 = cutW sg s ∧ okA 4 g4) → ((0 ≤ x ∧ x ≤ 27) ∧ (y = 0 ∨ y = 1)) → (okA 23 f ∧ okA 24 r) → (mn = cA (lostP sg day s) (sg.1 1).toNat a.toNat) → MW K yiX2_lostBy d (tov K h m (ovr sg [(5, s), (22, x), (25, y)] [(4, g4), (23, f), (24, r), (43, B3)])) 20 [some (.ref m), some (vi s), some (vi day), some (vi mn), some (vi a), none] [] Q := by
    intro N
    induction N using Nat.strongRecOn with
    | _ N ih20 =>
    intro mn a x y g4 f r hN20 ha hg4 hx ho hm
    refine j_iload dX2_lostBy_20 rfl ?_
    refine m_aload_n dX2_lostBy_22 rfl ?_
    refine t_geti 1 (by decide) (sg.1 1) dX2_lostBy_23 q3094 rfl ?_
    refine j_icmp_ge 108 dX2_lostBy_26 (by decide) ⟨⟨by omega, by omega⟩, ⟨by omega, by omega⟩⟩ (fun c26 => ?_) (fun c26 => ?_)
    · refine m_aload_n dX2_lostBy_108 rfl ?_
      refine j_iconst dX2_lostBy_109 ?_
      refine t_puti 5 (by decide) [(5, (-1)), (22, x), (25, y)] dX2_lostBy_110 q3098 rfl rfl rfl rfl ?_
      have hT9 : TB (ovr sg [(5, -1), (22, x), (25, y)] [(4, g4), (23, f), (24, r), (43, B3)]) := hT.ovr (fa1 (mf5 (v := -1) ⟨by decide, by decide⟩) (fa1 (mf22 (v := x) hx.1) (fa1 (mf25 (v := y) (by omega)) fa0))) (fa1 hg4.2 (fa1 ho.1 (fa1 ho.2 (fa1 u3 fa0))))
      have hw9 : wfull (ovr sg [(5, -1), (22, x), (25, y)] [(4, g4), (23, f), (24, r), (43, B3)]) (-1) = sg.2 4 := wfull_same hT hT9 hW rfl rfl (fun q hq => by { show g4 q = sg.2 4 q; rw [hg4.1]; unfold cutW; exact if_neg hq })
      have hcb := cA_b (lostP sg day s) (sg.1 1).toNat (sg.1 1).toNat
      refine m_aload_n dX2_lostBy_113 rfl ?_
      refine t_inv [] dX2_lostBy_114 q3260 q3262 qs77 q3263 rfl (c_walks K 0 h m _ (hT.ovr (fa1 (mf5 (v := (-1)) ⟨by first | decide | omega | (split <;> omega) | assumption, by first | decide | omega | (split <;> omega) | assumption⟩) (fa1 (mf22 (v := x) ⟨by first | decide | omega | (split <;> omega) | assumption, by first | decide | omega | (split <;> omega) | assumption⟩) (fa1 (mf25 (v := y) ⟨by first | decide | omega | (split <;> omega) | assumption, by first | decide | omega | (split <;> omega) | assumption⟩) fa0))) (fa1 hg4.2 (fa1 ho.1 (fa1 ho.2 (fa1 u3 fa0)))))) pdX2_walks ⟨Nat.le_of_ble_eq_true rfl, by decide, by omega⟩ (kk_v fun h114 q114 => ?_) kx_v
      obtain ⟨rfl, y114⟩ := q114
      refine mw_tov (b := ovr sg [(5, (-1)), (22, x), (25, y)] [(4, (wfull (ovr sg [(5, (-1)), (22, x), (25, y)] [(4, g4), (23, f), (24, r), (43, B3)]) (-1))), (23, f), (24, r), (43, B3)]) (ovr_ovr _ _ _ _ _) ?_
      refine j_iload_n dX2_lostBy_117 rfl ?_
      subst hQ; exact j_iret dX2_lostBy_118 rfl (⟨x, y, f, r, B3, by { rw [hw9, ← hcut]; exact congrArg (tov K h m) ((ovr_addA sg [(22, x), (25, y)] [(23, f), (24, r), (43, B3)] 4).trans (ovr_addF sg [(22, x), (25, y)] [(4, sg.2 4), (23, f), (24, r), (43, B3)] 5)).symm }, hx.1, hx.2, ho.1, ho.2, u3, by { rw [hm, show a = sg.1 1 by omega]; have := sq_n (n := sg.1 1) (by omega); exact ⟨hcb.1, by omega⟩ }, by rw [hm, show a = sg.1 1 by omega]⟩)
    · refine j_iconst dX2_lostBy_29 ?_
      refine j_istore [some (.ref m), some (vi s), some (vi day), some (vi mn), some (vi a), some (vi 0)] dX2_lostBy_30 (by decide) rfl rfl ?_
      have L32 : ∀ (N : Nat) (mn2 b x2 y2 : Int) (f2 r2 : Int → Int), (12 - b).toNat = N → (0 ≤ b ∧ b ≤ sg.1 1) → ((0 ≤ x2 ∧ x2 ≤ 27) ∧ (y2 = 0 ∨ y2 = 1)) → (okA 23 f2 ∧ okA 24 r2) → (mn2 = mn + cB (lostP sg day s a) b.toNat) → MW K yiX2_lostBy d (tov K h m (ovr sg [(5, s), (22, x2), (25, y2)] [(4, g4), (23, f2), (24, r2), (43, B3)])) 32 [some (.ref m), some (vi s), some (vi day), some (vi mn2), some (vi a), some (vi b)] [] Q := by
        intro N
        induction N using Nat.strongRecOn with
        | _ N ih32 =>
        intro mn2 b x2 y2 f2 r2 hN32 hb hx2 ho2 hm2
        refine j_iload dX2_lostBy_32 rfl ?_
        refine m_aload_n dX2_lostBy_34 rfl ?_
        refine t_geti 1 (by decide) (sg.1 1) dX2_lostBy_35 q3094 rfl ?_
        refine j_icmp_ge 102 dX2_lostBy_38 (by decide) ⟨⟨by omega, by omega⟩, ⟨by omega, by omega⟩⟩ (fun c38 => ?_) (fun c38 => ?_)
        · refine j_iinc [some (.ref m), some (vi s), some (vi day), some (vi mn2), some (vi (a + 1)), some (vi b)] dX2_lostBy_102 rfl (by decide) rfl rfl ?_
          refine m_goto 20 dX2_lostBy_105 (by decide) ?_
          refine mw_forget 5 ?_
          exact ih20 _ (by omega) _ _ _ _ _ _ _ rfl (by omega) hg4 hx2 ho2 (by rw [cA_s ha.1, ← hm, hm2, show b = sg.1 1 by omega])
        · refine j_iload dX2_lostBy_41 rfl ?_
          refine j_iload dX2_lostBy_43 rfl ?_
          refine j_icmp_eq 96 dX2_lostBy_45 (by decide) ⟨⟨by omega, by omega⟩, ⟨by omega, by omega⟩⟩ (fun c45 => ?_) (fun c45 => ?_)
          · refine j_iinc [some (.ref m), some (vi s), some (vi day), some (vi mn2), some (vi a), some (vi (b + 1))] dX2_lostBy_96 rfl (by decide) rfl rfl ?_
            refine m_goto 32 dX2_lostBy_99 (by decide) ?_
            exact ih32 _ (by omega) _ _ _ _ _ _ rfl (by omega) (by first | exact ⟨⟨by omega, by omega⟩, Or.inl rfl⟩ | exact hx2) (by first | exact ⟨x85, y85⟩ | exact ho2) (by first | (rw [cB_n hb.1 (fun q => by first | exact absurd q.1 (by omega) | exact absurd q.2.1 (by omega) | exact absurd q.2.2.1 (by omega) | exact absurd (hEb.mpr q.2.2.2.1) (by omega) | exact absurd (hEc.mp (by omega)) q.2.2.2.2), hm2]; done) | (rw [cB_y hb.1 ⟨by omega, by omega, by omega, hEb.mp (by omega), fun q => absurd (hEc.mpr q) (by omega)⟩, hm2]; omega))
          · refine j_iload dX2_lostBy_48 rfl ?_
            refine j_iload_n dX2_lostBy_50 rfl ?_
            refine j_icmp_eq 96 dX2_lostBy_51 (by decide) ⟨⟨by omega, by omega⟩, ⟨by omega, by omega⟩⟩ (fun c51 => ?_) (fun c51 => ?_)
            · refine j_iinc [some (.ref m), some (vi s), some (vi day), some (vi mn2), some (vi a), some (vi (b + 1))] dX2_lostBy_96 rfl (by decide) rfl rfl ?_
              refine m_goto 32 dX2_lostBy_99 (by decide) ?_
              exact ih32 _ (by omega) _ _ _ _ _ _ rfl (by omega) (by first | exact ⟨⟨by omega, by omega⟩, Or.inl rfl⟩ | exact hx2) (by first | exact ⟨x85, y85⟩ | exact ho2) (by first | (rw [cB_n hb.1 (fun q => by first | exact absurd q.1 (by omega) | exact absurd q.2.1 (by omega) | exact absurd q.2.2.1 (by omega) | exact absurd (hEb.mpr q.2.2.2.1) (by omega) | exact absurd (hEc.mp (by omega)) q.2.2.2.2), hm2]; done) | (rw [cB_y hb.1 ⟨by omega, by omega, by omega, hEb.mp (by omega), fun q => absurd (hEc.mpr q) (by omega)⟩, hm2]; omega))
            · refine j_iload dX2_lostBy_54 rfl ?_
              refine j_iload_n dX2_lostBy_56 rfl ?_
              refine j_icmp_eq 96 dX2_lostBy_57 (by decide) ⟨⟨by omega, by omega⟩, ⟨by omega, by omega⟩⟩ (fun c57 => ?_) (fun c57 => ?_)
              · refine j_iinc [some (.ref m), some (vi s), some (vi day), some (vi mn2), some (vi a), some (vi (b + 1))] dX2_lostBy_96 rfl (by decide) rfl rfl ?_
                refine m_goto 32 dX2_lostBy_99 (by decide) ?_
                exact ih32 _ (by omega) _ _ _ _ _ _ rfl (by omega) (by first | exact ⟨⟨by omega, by omega⟩, Or.inl rfl⟩ | exact hx2) (by first | exact ⟨x85, y85⟩ | exact ho2) (by first | (rw [cB_n hb.1 (fun q => by first | exact absurd q.1 (by omega) | exact absurd q.2.1 (by omega) | exact absurd q.2.2.1 (by omega) | exact absurd (hEb.mpr q.2.2.2.1) (by omega) | exact absurd (hEc.mp (by omega)) q.2.2.2.2), hm2]; done) | (rw [cB_y hb.1 ⟨by omega, by omega, by omega, hEb.mp (by omega), fun q => absurd (hEc.mpr q) (by omega)⟩, hm2]; omega))
              · have hEb := (hE a b (by omega) (by omega) (by omega) (by omega)).rc
                refine m_aload_n dX2_lostBy_60 rfl ?_
                refine t_geta 43 30 (by decide) dX2_lostBy_61 q3136 rfl ?_
                refine j_bipush dX2_lostBy_64 (by decide) ?_
                refine j_iload dX2_lostBy_66 rfl ?_
                refine j_imul dX2_lostBy_68 ?_
                refine j_iload dX2_lostBy_69 rfl ?_
                refine j_iadd dX2_lostBy_71 ?_
                refine t_aldB 30 (by decide) (n := 144) B3 dX2_lostBy_72 rfl (Nat.le_of_ble_eq_true rfl) (oa43 u3) ⟨by omega, by omega⟩ (fun b72 => ?_)
                refine j_ldc (1000000) dX2_lostBy_73 q3264 (by decide) ?_
                refine j_icmp_ge 96 dX2_lostBy_75 (by decide) ⟨⟨by omega, by omega⟩, ⟨by omega, by omega⟩⟩ (fun c75 => ?_) (fun c75 => ?_)
                · refine j_iinc [some (.ref m), some (vi s), some (vi day), some (vi mn2), some (vi a), some (vi (b + 1))] dX2_lostBy_96 rfl (by decide) rfl rfl ?_
                  refine m_goto 32 dX2_lostBy_99 (by decide) ?_
                  exact ih32 _ (by omega) _ _ _ _ _ _ rfl (by omega) (by first | exact ⟨⟨by omega, by omega⟩, Or.inl rfl⟩ | exact hx2) (by first | exact ⟨x85, y85⟩ | exact ho2) (by first | (rw [cB_n hb.1 (fun q => by first | exact absurd q.1 (by omega) | exact absurd q.2.1 (by omega) | exact absurd q.2.2.1 (by omega) | exact absurd (hEb.mpr q.2.2.2.1) (by omega) | exact absurd (hEc.mp (by omega)) q.2.2.2.2), hm2]; done) | (rw [cB_y hb.1 ⟨by omega, by omega, by omega, hEb.mp (by omega), fun q => absurd (hEc.mpr q) (by omega)⟩, hm2]; omega))
                · have hwc : wyD (ovr sg [(5, s)] [(4, g4)]) := by { rw [hg4.1]; exact hwy }
                  have hcs : cutS sg s = ovr sg [(5, s)] [(4, g4)] := by { rw [hg4.1]; rfl }
                  refine m_aload_n dX2_lostBy_78 rfl ?_
                  refine j_iload dX2_lostBy_79 rfl ?_
                  refine j_iload dX2_lostBy_81 rfl ?_
                  refine j_iload_n dX2_lostBy_83 rfl ?_
                  refine j_iconst dX2_lostBy_84 ?_
                  refine t_inv [(vi a), (vi b), (vi day), (vi 0)] dX2_lostBy_85 q3417 q3419 qs92 q3420 rfl (c_earliestOf K 5 h m _ _ _ _ _ (by omega) ⟨(hT.ovr (fa1 (mf5 (v := s) ⟨by first | decide | omega | (split <;> omega) | assumption, by first | decide | omega | (split <;> omega) | assumption⟩) (fa1 (mf22 (v := x2) ⟨by first | decide | omega | (split <;> omega) | assumption, by first | decide | omega | (split <;> omega) | assumption⟩) (fa1 (mf25 (v := y2) ⟨by first | decide | omega | (split <;> omega) | assumption, by first | decide | omega | (split <;> omega) | assumption⟩) fa0))) (fa1 hg4.2 (fa1 ho2.1 (fa1 ho2.2 (fa1 u3 fa0))))), hF.2.1, hF.2.2.1, hwc⟩ ⟨by omega, by omega⟩ ⟨by omega, by omega⟩ ⟨by omega, by omega⟩ ⟨by omega, by omega⟩) pdX2_earliestOf ⟨Nat.le_of_ble_eq_true rfl, by decide, by omega⟩ (kk_z fun r85 h85 q85 => ?_) kx_z
                  obtain ⟨f85, r85, rfl, x85, y85, z85, w85, rfl⟩ := q85
                  refine mw_tov (b := ovr sg [(5, s), (22, day), (25, 0)] [(4, g4), (23, f85), (24, r85), (43, B3)]) (ovr_ovr _ _ _ _ _) ?_
                  refine mw_top (x' := (if f85 b < r85 b then f85 b else r85 b)) rfl ?_
                  have hEc := (EA.te (a := sd (ovr sg [(5, s), (22, x2), (25, y2)] [(4, g4), (23, f2), (24, r2), (43, B3)]) day) (b := sd (ovr sg [(5, s)] [(4, g4)]) day) rfl (w85.ea (s := b) x85 y85 z85 ⟨by omega, by show b < sg.1 1; omega⟩ (by show sg.1 1 ≤ 12; omega))).rc
                  rw [← hcs] at hEc
                  have c23 := oa23 x85 b (by omega) (by omega)
                  have c24 := oa24 y85 b (by omega) (by omega)
                  refine j_ldc (1000000) dX2_lostBy_88 q3264 (by decide) ?_
                  refine j_icmp_lt 96 dX2_lostBy_90 (by decide) ⟨⟨by omega, by omega⟩, ⟨by omega, by omega⟩⟩ (fun c90 => ?_) (fun c90 => ?_)
                  · refine j_iinc [some (.ref m), some (vi s), some (vi day), some (vi mn2), some (vi a), some (vi (b + 1))] dX2_lostBy_96 rfl (by decide) rfl rfl ?_
                    refine m_goto 32 dX2_lostBy_99 (by decide) ?_
                    exact ih32 _ (by omega) _ _ _ _ _ _ rfl (by omega) (by first | exact ⟨⟨by omega, by omega⟩, Or.inl rfl⟩ | exact hx2) (by first | exact ⟨x85, y85⟩ | exact ho2) (by first | (rw [cB_n hb.1 (fun q => by first | exact absurd q.1 (by omega) | exact absurd q.2.1 (by omega) | exact absurd q.2.2.1 (by omega) | exact absurd (hEb.mpr q.2.2.2.1) (by omega) | exact absurd (hEc.mp (by omega)) q.2.2.2.2), hm2]; done) | (rw [cB_y hb.1 ⟨by omega, by omega, by omega, hEb.mp (by omega), fun q => absurd (hEc.mpr q) (by omega)⟩, hm2]; omega))
                  · refine j_iinc [some (.ref m), some (vi s), some (vi day), some (vi (mn2 + 1)), some (vi a), some (vi b)] dX2_lostBy_93 rfl (by decide) rfl rfl ?_
                    refine j_iinc [some (.ref m), some (vi s), some (vi day), some (vi (mn2 + 1)), some (vi a), some (vi (b + 1))] dX2_lostBy_96 rfl (by decide) rfl rfl ?_
                    refine m_goto 32 dX2_lostBy_99 (by decide) ?_
                    exact ih32 _ (by omega) _ _ _ _ _ _ rfl (by omega) (by first | exact ⟨⟨by omega, by omega⟩, Or.inl rfl⟩ | exact hx2) (by first | exact ⟨x85, y85⟩ | exact ho2) (by first | (rw [cB_n hb.1 (fun q => by first | exact absurd q.1 (by omega) | exact absurd q.2.1 (by omega) | exact absurd q.2.2.1 (by omega) | exact absurd (hEb.mpr q.2.2.2.1) (by omega) | exact absurd (hEc.mp (by omega)) q.2.2.2.2), hm2]; done) | (rw [cB_y hb.1 ⟨by omega, by omega, by omega, hEb.mp (by omega), fun q => absurd (hEc.mpr q) (by omega)⟩, hm2]; omega))
      exact L32 _ _ _ _ _ _ _ rfl (by omega) hx ho (by show mn = mn + 0; omega)
  exact L20 _ _ _ _ _ _ _ _ rfl (by omega) ⟨cutW_of (hT.ovr (fa1 (mf5 (v := s) ⟨by omega, by omega⟩) (fa1 (mf22 (v := x3) g3) (fa1 (mf25 (v := y3) (by omega)) fa0))) (fa1 o3 (fa1 p3 (fa1 u3 fa0)))) rfl rfl rfl, by assumption⟩ ⟨g3, i3⟩ ⟨o3, p3⟩ rfl
