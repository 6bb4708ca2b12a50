/-! the twin: week, nextDay, call, shift, typeNumber, late -/
def wkOn (on : Int → Int) (s dy fr n : Int) : Int → Int := fun q => if 28 * s + fr ≤ q ∧ q < 28 * s + n ∧ dy / 2 ^ ((q - 28 * s) % 7).toNat % 2 = 1 then 1 else on q
theorem wkOn_0 {on : Int → Int} {s dy fr : Int} : on = wkOn on s dy fr fr := by
  funext q; unfold wkOn; rw [if_neg (by omega)]
theorem wkOn_y {on : Int → Int} {s dy fr k : Int} (h0 : fr ≤ k) (h : dy / 2 ^ (k % 7).toNat % 2 = 1) : upz (wkOn on s dy fr k) (28 * s + k) 1 = wkOn on s dy fr (k + 1) := by
  funext q
  unfold upz wkOn
  by_cases e : q = 28 * s + k
  · have e2 : q - 28 * s = k := by omega
    rw [if_pos e, e2, if_pos ⟨by omega, by omega, h⟩]
  · rw [if_neg e]
    by_cases h2 : 28 * s + fr ≤ q ∧ q < 28 * s + k ∧ dy / 2 ^ ((q - 28 * s) % 7).toNat % 2 = 1
    · rw [if_pos h2, if_pos ⟨h2.1, by omega, h2.2.2⟩]
    · rw [if_neg h2, if_neg (fun h3 => h2 ⟨h3.1, by omega, h3.2.2⟩)]
theorem wkOn_n {on : Int → Int} {s dy fr k : Int} (h : ¬ dy / 2 ^ (k % 7).toNat % 2 = 1) : wkOn on s dy fr k = wkOn on s dy fr (k + 1) := by
  funext q
  unfold wkOn
  by_cases h2 : 28 * s + fr ≤ q ∧ q < 28 * s + k ∧ dy / 2 ^ ((q - 28 * s) % 7).toNat % 2 = 1
  · rw [if_pos h2, if_pos ⟨h2.1, by omega, h2.2.2⟩]
  · rw [if_neg h2, if_neg]
    rintro ⟨h3, h4, h5⟩
    by_cases e : q = 28 * s + k
    · have e2 : q - 28 * s = k := by omega
      rw [e2] at h5; exact h h5
    · exact h2 ⟨h3, by omega, h5⟩
theorem ok7_wk {on : Int → Int} {s dy fr k : Int} (h : okA 7 on) : okA 7 (wkOn on s dy fr k) := by
  intro q h0 h1
  unfold wkOn
  split
  · exact ⟨by decide, by decide⟩
  · exact h q h0 h1
def dcnt (on : Int → Int) (s : Int) : Nat → Int
  | 0 => 0
  | k + 1 => dcnt on s k + (if on (28 * s + (k : Int)) = 0 then 0 else 1)
theorem dcnt_s {on : Int → Int} {s k : Int} (hk : 0 ≤ k) : dcnt on s (k + 1).toNat = dcnt on s k.toNat + (if on (28 * s + k) = 0 then 0 else 1) := by
  have e : (k + 1).toNat = k.toNat + 1 := by omega
  rw [e]; show dcnt on s k.toNat + (if on (28 * s + (k.toNat : Int)) = 0 then 0 else 1) = _
  rw [show (k.toNat : Int) = k by omega]
theorem c_week (K : KT) (d : Nat) (h : MH) (m : Nat) (sg : TS) (s : Int) (dy : Int) (fr : Int) (to : Int) (hd : 2 ≤ d) (hT : TB sg) (i_s : In s) (i_dy : In dy) (i_fr : In fr) (i_to : In to)  : Mt K yiX2_week d [.ref m, vi s, vi dy, vi fr, vi to] (tov K h m sg) (Rz fun v h' => (¬ (0 ≤ s ∧ s ≤ sg.1 6 - 1) ∧ h' = tov K h m (ovr sg [(0, 1)] [])) ∨ ((0 ≤ s ∧ s ≤ sg.1 6 - 1) ∧ ¬ ((0 ≤ dy ∧ dy ≤ 127) ∧ (0 ≤ fr ∧ fr ≤ 27) ∧ (0 ≤ to ∧ to ≤ 27) ∧ fr ≤ to) ∧ h' = tov K h m (ovr sg [(0, 2)] [])) ∨ ((0 ≤ s ∧ s ≤ sg.1 6 - 1) ∧ ((0 ≤ dy ∧ dy ≤ 127) ∧ (0 ≤ fr ∧ fr ≤ 27) ∧ (0 ≤ to ∧ to ≤ 27) ∧ fr ≤ to) ∧ h' = tov K h m (ovr sg [(0, 0)] [(7, wkOn (sg.2 7) s dy fr (to + 1))]) ∧ v = dcnt (wkOn (sg.2 7) s dy fr (to + 1)) s 28)) := by
  have := i_s.1; have := i_s.2; have := i_dy.1; have := i_dy.2; have := i_fr.1; have := i_fr.2; have := i_to.1; have := i_to.2
  have f6 := of6 (hT.1 6)
  refine mt_ofQ (by decide) (Nat.le_of_ble_eq_true rfl) (fun Q hQ => ?_)
  show MW K yiX2_week d (tov K h m (ovr sg [] [])) 0 [some (.ref m), some (vi s), some (vi dy), some (vi fr), some (vi to), none, none] [] Q
  have J60 : (0 ≤ s ∧ s ≤ sg.1 6 - 1) → ((0 ≤ dy ∧ dy ≤ 127) ∧ (0 ≤ fr ∧ fr ≤ 27) ∧ (0 ≤ to ∧ to ≤ 27) ∧ fr ≤ to) → MW K yiX2_week d (tov K h m (ovr sg [(0, 0)] [])) 60 [some (.ref m), some (vi s), some (vi dy), some (vi fr), some (vi to), none, none] [] Q := by
    intro g1 g2
    refine j_iload_n dX2_week_60 rfl ?_
    refine j_istore [some (.ref m), some (vi s), some (vi dy), some (vi fr), some (vi to), some (vi fr), none] dX2_week_61 (by decide) rfl rfl ?_
    have L63 : ∀ (N : Nat) (k : Int) (g : Int → Int), (to + 1 - k).toNat = N → (fr ≤ k ∧ k ≤ to + 1) → (g = wkOn (sg.2 7) s dy fr k) → (okA 7 g) → MW K yiX2_week d (tov K h m (ovr sg [(0, 0)] [(7, g)])) 63 [some (.ref m), some (vi s), some (vi dy), some (vi fr), some (vi to), some (vi k), none] [] Q := by
      intro N
      induction N using Nat.strongRecOn with
      | _ N ih63 =>
      intro k g hN63 hk hg ho
      refine j_iload dX2_week_63 rfl ?_
      refine j_iload dX2_week_65 rfl ?_
      refine j_icmp_gt 102 dX2_week_67 (by decide) ⟨⟨by omega, by omega⟩, ⟨by omega, by omega⟩⟩ (fun c67 => ?_) (fun c67 => ?_)
      · refine j_iconst dX2_week_102 ?_
        refine j_istore [some (.ref m), some (vi s), some (vi dy), some (vi fr), some (vi to), some (vi 0), none] dX2_week_103 (by decide) rfl rfl ?_
        refine j_iconst dX2_week_105 ?_
        refine j_istore [some (.ref m), some (vi s), some (vi dy), some (vi fr), some (vi to), some (vi 0), some (vi 0)] dX2_week_106 (by decide) rfl rfl ?_
        have L108 : ∀ (N : Nat) (mn j : Int), (28 - j).toNat = N → (0 ≤ j ∧ j ≤ 28) → (mn = dcnt g s j.toNat) → MW K yiX2_week d (tov K h m (ovr sg [(0, 0)] [(7, g)])) 108 [some (.ref m), some (vi s), some (vi dy), some (vi fr), some (vi to), some (vi mn), some (vi j)] [] Q := by
          intro N
          induction N using Nat.strongRecOn with
          | _ N ih108 =>
          intro mn j hN108 hj hmn
          refine j_iload dX2_week_108 rfl ?_
          refine j_bipush dX2_week_110 (by decide) ?_
          refine j_icmp_ge 146 dX2_week_112 (by decide) ⟨⟨by omega, by omega⟩, ⟨by omega, by omega⟩⟩ (fun c112 => ?_) (fun c112 => ?_)
          · refine j_iload dX2_week_146 rfl ?_
            subst hQ; exact j_iret dX2_week_148 rfl (Or.inr (Or.inr ⟨g1, g2, by rw [hg, show k = to + 1 by omega], by rw [hmn, hg, show k = to + 1 by omega, show j = 28 by omega]; rfl⟩))
          · refine j_iload dX2_week_115 rfl ?_
            refine m_aload_n dX2_week_117 rfl ?_
            refine t_geta 7 4 (by decide) dX2_week_118 q3100 rfl ?_
            refine j_bipush dX2_week_121 (by decide) ?_
            refine j_iload_n dX2_week_123 rfl ?_
            refine j_imul dX2_week_124 ?_
            refine j_iload dX2_week_125 rfl ?_
            refine j_iadd dX2_week_127 ?_
            refine t_zldB g dX2_week_128 rfl (oa7 ho) ⟨by omega, by omega⟩ (fun b128 => ?_)
            refine j_if_eq 136 dX2_week_129 (by decide) ⟨by omega, by omega⟩ (fun c129 => ?_) (fun c129 => ?_)
            · refine j_iconst dX2_week_136 ?_
              refine j_iadd dX2_week_137 ?_
              refine j_istore [some (.ref m), some (vi s), some (vi dy), some (vi fr), some (vi to), some (vi (mn + 0)), some (vi j)] dX2_week_138 (by decide) rfl rfl ?_
              refine j_iinc [some (.ref m), some (vi s), some (vi dy), some (vi fr), some (vi to), some (vi (mn + 0)), some (vi (j + 1))] dX2_week_140 rfl (by decide) rfl rfl ?_
              refine m_goto 108 dX2_week_143 (by decide) ?_
              exact ih108 _ (by omega) _ _ rfl (by omega) (by rw [dcnt_s hj.1, hmn]; first | rw [if_pos (by omega)] | rw [if_neg (by omega)])
            · refine j_iconst dX2_week_132 ?_
              refine m_goto 137 dX2_week_133 (by decide) ?_
              refine j_iadd dX2_week_137 ?_
              refine j_istore [some (.ref m), some (vi s), some (vi dy), some (vi fr), some (vi to), some (vi (mn + 1)), some (vi j)] dX2_week_138 (by decide) rfl rfl ?_
              refine j_iinc [some (.ref m), some (vi s), some (vi dy), some (vi fr), some (vi to), some (vi (mn + 1)), some (vi (j + 1))] dX2_week_140 rfl (by decide) rfl rfl ?_
              refine m_goto 108 dX2_week_143 (by decide) ?_
              exact ih108 _ (by omega) _ _ rfl (by omega) (by rw [dcnt_s hj.1, hmn]; first | rw [if_pos (by omega)] | rw [if_neg (by omega)])
        exact L108 _ _ _ rfl (by omega) rfl
      · refine j_iload_n dX2_week_70 rfl ?_
        refine j_iload dX2_week_71 rfl ?_
        refine j_bipush dX2_week_73 (by decide) ?_
        refine j_irem dX2_week_75 ⟨⟨by omega, by omega⟩, ⟨by omega, by omega⟩⟩ ⟨by omega, by omega⟩ ?_
        refine j_ishr dX2_week_76 ⟨by omega, by omega⟩ ⟨by omega, by omega⟩ ?_
        refine j_iconst dX2_week_77 ?_
        refine j_iand1 dX2_week_78 ?_
        refine j_iconst dX2_week_79 ?_
        refine j_icmp_ne 96 dX2_week_80 (by decide) ⟨⟨by omega, by omega⟩, ⟨by omega, by omega⟩⟩ (fun c80 => ?_) (fun c80 => ?_)
        · refine j_iinc [some (.ref m), some (vi s), some (vi dy), some (vi fr), some (vi to), some (vi (k + 1)), none] dX2_week_96 rfl (by decide) rfl rfl ?_
          refine m_goto 63 dX2_week_99 (by decide) ?_
          exact ih63 _ (by omega) _ _ rfl (by omega) (by subst hg; first | exact wkOn_y (by omega) (by assumption) | exact wkOn_n (by assumption)) (by first | assumption | exact mu7 ho ⟨by decide, by decide⟩)
        · refine m_aload_n dX2_week_83 rfl ?_
          refine t_geta 7 4 (by decide) dX2_week_84 q3100 rfl ?_
          refine j_bipush dX2_week_87 (by decide) ?_
          refine j_iload_n dX2_week_89 rfl ?_
          refine j_imul dX2_week_90 ?_
          refine j_iload dX2_week_91 rfl ?_
          refine j_iadd dX2_week_93 ?_
          refine j_iconst dX2_week_94 ?_
          refine t_zst g [(7, (upz g ((28 * s) + k) 1))] dX2_week_95 rfl ⟨by omega, by omega⟩ (by omega) rfl ?_
          refine j_iinc [some (.ref m), some (vi s), some (vi dy), some (vi fr), some (vi to), some (vi (k + 1)), none] dX2_week_96 rfl (by decide) rfl rfl ?_
          refine m_goto 63 dX2_week_99 (by decide) ?_
          exact ih63 _ (by omega) _ _ rfl (by omega) (by subst hg; first | exact wkOn_y (by omega) (by assumption) | exact wkOn_n (by assumption)) (by first | assumption | exact mu7 ho ⟨by decide, by decide⟩)
    refine mw_tov (b := ovr sg [(0, 0)] [(7, (sg.2 7))]) (ovr_addA _ _ _ 7) ?_
    exact L63 _ _ _ rfl (by omega) wkOn_0 (hT.2 7)
  refine m_aload_n dX2_week_0 rfl ?_
  refine j_iload_n dX2_week_1 rfl ?_
  refine t_inv [(vi s)] dX2_week_2 q3289 q3291 qs79 q3292 rfl (c_isNoService K 1 h m _ _ (by omega) (hT.1 6) ⟨by omega, by omega⟩) pdX2_isNoService ⟨Nat.le_of_ble_eq_true rfl, by decide, by omega⟩ (kk_z fun r2 h2 q2 => ?_) kx_z
  obtain ⟨rfl, rfl⟩ := q2
  refine mw_tov (b := ovr sg [(0, (if ¬ (0 ≤ s ∧ s ≤ (sg.1 6) - 1) then 1 else 0))] []) (ovr_ovr _ _ _ _ _) ?_
  refine mw_top (x' := bz (¬ (0 ≤ s ∧ s ≤ (sg.1 6) - 1))) rfl ?_
  refine j_bz_ne 58 dX2_week_5 (by decide) (fun c5 => ?_) (fun c5 => ?_)
  · refine mw_tov (b := ovr sg [(0, 1)] []) (by rw [if_pos c5]) ?_
    refine j_iconst dX2_week_58 ?_
    subst hQ; exact j_iret dX2_week_59 rfl (by first | exact Or.inl ⟨(by first | omega | rfl | assumption), (by first | omega | rfl | assumption)⟩ | exact Or.inr (Or.inl ⟨(by first | omega | rfl | assumption), (by first | omega | rfl | assumption), (by first | omega | rfl | assumption)⟩) | exact Or.inr (Or.inr (⟨(by first | omega | rfl | assumption), (by first | omega | rfl | assumption), (by first | omega | rfl | assumption), (by first | omega | rfl | assumption)⟩)))
  · refine mw_tov (b := ovr sg [(0, 0)] []) (by rw [if_neg c5]) ?_
    refine m_aload_n dX2_week_8 rfl ?_
    refine j_iload_n dX2_week_9 rfl ?_
    refine j_iconst dX2_week_10 ?_
    refine j_bipush dX2_week_11 (by decide) ?_
    refine m_invS [(vi dy), (vi 0), (vi 127)] dX2_week_13 q3253 q3254 q133 q3255 (c_isIn K 0 _ _ _ _ ⟨by omega, by omega⟩ ⟨by omega, by omega⟩ ⟨by omega, by omega⟩) pdX2_isIn ⟨Nat.le_of_ble_eq_true rfl, by decide, by omega⟩ (kk_z fun r13 h13 q13 => ?_) kx_z
    obtain ⟨rfl, rfl⟩ := q13
    refine mw_top (x' := bz (0 ≤ dy ∧ dy ≤ 127)) rfl ?_
    refine j_bz_eq 46 dX2_week_16 (by decide) (fun c16 => ?_) (fun c16 => ?_)
    · refine j_iconst dX2_week_46 ?_
      refine m_goto 51 dX2_week_47 (by decide) ?_
      refine j_iconst dX2_week_51 ?_
      refine t_inv [(vi 1), (vi 2)] dX2_week_52 q3256 q3258 qs76 q3259 rfl (c_isThrown1 K 0 h m _ _) pdX2_isThrown ⟨Nat.le_of_ble_eq_true rfl, by decide, by omega⟩ (kk_z fun r52 h52 q52 => ?_) kx_z
      obtain ⟨rfl, rfl⟩ := q52
      refine mw_tov (b := ovr sg [(0, 2)] []) (ovr_ovr _ _ _ _ _) ?_
      refine j_if_eq 60 dX2_week_55 (by decide) ⟨by decide, by decide⟩ (fun c => absurd c (by decide)) (fun _ => ?_)
      refine j_iconst dX2_week_58 ?_
      subst hQ; exact j_iret dX2_week_59 rfl (by first | exact Or.inl ⟨(by first | omega | rfl | assumption), (by first | omega | rfl | assumption)⟩ | exact Or.inr (Or.inl ⟨(by first | omega | rfl | assumption), (by first | omega | rfl | assumption), (by first | omega | rfl | assumption)⟩) | exact Or.inr (Or.inr (⟨(by first | omega | rfl | assumption), (by first | omega | rfl | assumption), (by first | omega | rfl | assumption), (by first | omega | rfl | assumption)⟩)))
    · refine j_iload_n dX2_week_19 rfl ?_
      refine j_iconst dX2_week_20 ?_
      refine j_bipush dX2_week_21 (by decide) ?_
      refine m_invS [(vi fr), (vi 0), (vi 27)] dX2_week_23 q3253 q3254 q133 q3255 (c_isIn K 0 _ _ _ _ ⟨by omega, by omega⟩ ⟨by omega, by omega⟩ ⟨by omega, by omega⟩) pdX2_isIn ⟨Nat.le_of_ble_eq_true rfl, by decide, by omega⟩ (kk_z fun r23 h23 q23 => ?_) kx_z
      obtain ⟨rfl, rfl⟩ := q23
      refine mw_top (x' := bz (0 ≤ fr ∧ fr ≤ 27)) rfl ?_
      refine j_bz_eq 46 dX2_week_26 (by decide) (fun c26 => ?_) (fun c26 => ?_)
      · refine j_iconst dX2_week_46 ?_
        refine m_goto 51 dX2_week_47 (by decide) ?_
        refine j_iconst dX2_week_51 ?_
        refine t_inv [(vi 1), (vi 2)] dX2_week_52 q3256 q3258 qs76 q3259 rfl (c_isThrown1 K 0 h m _ _) pdX2_isThrown ⟨Nat.le_of_ble_eq_true rfl, by decide, by omega⟩ (kk_z fun r52 h52 q52 => ?_) kx_z
        obtain ⟨rfl, rfl⟩ := q52
        refine mw_tov (b := ovr sg [(0, 2)] []) (ovr_ovr _ _ _ _ _) ?_
        refine j_if_eq 60 dX2_week_55 (by decide) ⟨by decide, by decide⟩ (fun c => absurd c (by decide)) (fun _ => ?_)
        refine j_iconst dX2_week_58 ?_
        subst hQ; exact j_iret dX2_week_59 rfl (by first | exact Or.inl ⟨(by first | omega | rfl | assumption), (by first | omega | rfl | assumption)⟩ | exact Or.inr (Or.inl ⟨(by first | omega | rfl | assumption), (by first | omega | rfl | assumption), (by first | omega | rfl | assumption)⟩) | exact Or.inr (Or.inr (⟨(by first | omega | rfl | assumption), (by first | omega | rfl | assumption), (by first | omega | rfl | assumption), (by first | omega | rfl | assumption)⟩)))
      · refine j_iload dX2_week_29 rfl ?_
        refine j_iconst dX2_week_31 ?_
        refine j_bipush dX2_week_32 (by decide) ?_
        refine m_invS [(vi to), (vi 0), (vi 27)] dX2_week_34 q3253 q3254 q133 q3255 (c_isIn K 0 _ _ _ _ ⟨by omega, by omega⟩ ⟨by omega, by omega⟩ ⟨by omega, by omega⟩) pdX2_isIn ⟨Nat.le_of_ble_eq_true rfl, by decide, by omega⟩ (kk_z fun r34 h34 q34 => ?_) kx_z
        obtain ⟨rfl, rfl⟩ := q34
        refine mw_top (x' := bz (0 ≤ to ∧ to ≤ 27)) rfl ?_
        refine j_bz_eq 46 dX2_week_37 (by decide) (fun c37 => ?_) (fun c37 => ?_)
        · refine j_iconst dX2_week_46 ?_
          refine m_goto 51 dX2_week_47 (by decide) ?_
          refine j_iconst dX2_week_51 ?_
          refine t_inv [(vi 1), (vi 2)] dX2_week_52 q3256 q3258 qs76 q3259 rfl (c_isThrown1 K 0 h m _ _) pdX2_isThrown ⟨Nat.le_of_ble_eq_true rfl, by decide, by omega⟩ (kk_z fun r52 h52 q52 => ?_) kx_z
          obtain ⟨rfl, rfl⟩ := q52
          refine mw_tov (b := ovr sg [(0, 2)] []) (ovr_ovr _ _ _ _ _) ?_
          refine j_if_eq 60 dX2_week_55 (by decide) ⟨by decide, by decide⟩ (fun c => absurd c (by decide)) (fun _ => ?_)
          refine j_iconst dX2_week_58 ?_
          subst hQ; exact j_iret dX2_week_59 rfl (by first | exact Or.inl ⟨(by first | omega | rfl | assumption), (by first | omega | rfl | assumption)⟩ | exact Or.inr (Or.inl ⟨(by first | omega | rfl | assumption), (by first | omega | rfl | assumption), (by first | omega | rfl | assumption)⟩) | exact Or.inr (Or.inr (⟨(by first | omega | rfl | assumption), (by first | omega | rfl | assumption), (by first | omega | rfl | assumption), (by first | omega | rfl | assumption)⟩)))
        · refine j_iload dX2_week_40 rfl ?_
          refine j_iload_n dX2_week_42 rfl ?_
          refine j_icmp_ge 50 dX2_week_43 (by decide) ⟨⟨by omega, by omega⟩, ⟨by omega, by omega⟩⟩ (fun c43 => ?_) (fun c43 => ?_)
          · refine j_iconst dX2_week_50 ?_
            refine j_iconst dX2_week_51 ?_
            refine t_inv [(vi 0), (vi 2)] dX2_week_52 q3256 q3258 qs76 q3259 rfl (c_isThrown0 K 0 h m _ _) pdX2_isThrown ⟨Nat.le_of_ble_eq_true rfl, by decide, by omega⟩ (kk_z fun r52 h52 q52 => ?_) kx_z
            obtain ⟨rfl, rfl⟩ := q52
            refine mw_tov (b := ovr sg [(0, 0)] []) (ovr_ovr _ _ _ _ _) ?_
            refine j_if_eq 60 dX2_week_55 (by decide) ⟨by decide, by decide⟩ (fun _ => ?_) (fun c => absurd c (by decide))
            exact J60  (by omega) (by omega)
          · refine j_iconst dX2_week_46 ?_
            refine m_goto 51 dX2_week_47 (by decide) ?_
            refine j_iconst dX2_week_51 ?_
            refine t_inv [(vi 1), (vi 2)] dX2_week_52 q3256 q3258 qs76 q3259 rfl (c_isThrown1 K 0 h m _ _) pdX2_isThrown ⟨Nat.le_of_ble_eq_true rfl, by decide, by omega⟩ (kk_z fun r52 h52 q52 => ?_) kx_z
            obtain ⟨rfl, rfl⟩ := q52
            refine mw_tov (b := ovr sg [(0, 2)] []) (ovr_ovr _ _ _ _ _) ?_
            refine j_if_eq 60 dX2_week_55 (by decide) ⟨by decide, by decide⟩ (fun c => absurd c (by decide)) (fun _ => ?_)
            refine j_iconst dX2_week_58 ?_
            subst hQ; exact j_iret dX2_week_59 rfl (by first | exact Or.inl ⟨(by first | omega | rfl | assumption), (by first | omega | rfl | assumption)⟩ | exact Or.inr (Or.inl ⟨(by first | omega | rfl | assumption), (by first | omega | rfl | assumption), (by first | omega | rfl | assumption)⟩) | exact Or.inr (Or.inr (⟨(by first | omega | rfl | assumption), (by first | omega | rfl | assumption), (by first | omega | rfl | assumption), (by first | omega | rfl | assumption)⟩)))
theorem c_nextDay (K : KT) (d : Nat) (h : MH) (m : Nat) (sg : TS) (s : Int) (y : Int) (hd : 2 ≤ d) (hT : TB sg) (i_s : In s) (i_y : In y)  : Mt K yiX2_nextDay d [.ref m, vi s, vi y] (tov K h m sg) (Rz fun v h' => (¬ (0 ≤ s ∧ s ≤ sg.1 6 - 1) ∧ h' = tov K h m (ovr sg [(0, 1)] [])) ∨ ((0 ≤ s ∧ s ≤ sg.1 6 - 1) ∧ ¬ (0 ≤ y ∧ y ≤ 27) ∧ h' = tov K h m (ovr sg [(0, 2)] [])) ∨ ((0 ≤ s ∧ s ≤ sg.1 6 - 1) ∧ (0 ≤ y ∧ y ≤ 27) ∧ (∀ j, y ≤ j → j < 28 → sg.2 7 (28 * s + j) = 0) ∧ h' = tov K h m (ovr sg [(0, 3)] [])) ∨ ((0 ≤ s ∧ s ≤ sg.1 6 - 1) ∧ (0 ≤ y ∧ y ≤ 27) ∧ ((y ≤ v ∧ v < 28) ∧ sg.2 7 (28 * s + v) ≠ 0 ∧ ∀ j, y ≤ j → j < v → sg.2 7 (28 * s + j) = 0) ∧ h' = tov K h m (ovr sg [(0, 0)] []))) := by
  have := i_s.1; have := i_s.2; have := i_y.1; have := i_y.2
  have f6 := of6 (hT.1 6)
  refine mt_ofQ (by decide) (Nat.le_of_ble_eq_true rfl) (fun Q hQ => ?_)
  show MW K yiX2_nextDay d (tov K h m (ovr sg [] [])) 0 [some (.ref m), some (vi s), some (vi y), none] [] Q
  refine m_aload_n dX2_nextDay_0 rfl ?_
  refine j_iload_n dX2_nextDay_1 rfl ?_
  refine t_inv [(vi s)] dX2_nextDay_2 q3289 q3291 qs79 q3292 rfl (c_isNoService K 1 h m _ _ (by omega) (hT.1 6) ⟨by omega, by omega⟩) pdX2_isNoService ⟨Nat.le_of_ble_eq_true rfl, by decide, by omega⟩ (kk_z fun r2 h2 q2 => ?_) kx_z
  obtain ⟨rfl, rfl⟩ := q2
  refine mw_tov (b := ovr sg [(0, (if ¬ (0 ≤ s ∧ s ≤ (sg.1 6) - 1) then 1 else 0))] []) (ovr_ovr _ _ _ _ _) ?_
  refine mw_top (x' := bz (¬ (0 ≤ s ∧ s ≤ (sg.1 6) - 1))) rfl ?_
  refine j_bz_ne 17 dX2_nextDay_5 (by decide) (fun c5 => ?_) (fun c5 => ?_)
  · refine mw_tov (b := ovr sg [(0, 1)] []) (by rw [if_pos c5]) ?_
    refine j_iconst dX2_nextDay_17 ?_
    subst hQ; exact j_iret dX2_nextDay_18 rfl (by first | exact Or.inl ⟨by omega, rfl⟩ | exact Or.inr (Or.inl ⟨by omega, by omega, rfl⟩))
  · refine mw_tov (b := ovr sg [(0, 0)] []) (by rw [if_neg c5]) ?_
    refine m_aload_n dX2_nextDay_8 rfl ?_
    refine j_iload_n dX2_nextDay_9 rfl ?_
    refine j_iconst dX2_nextDay_10 ?_
    refine t_inv [(vi y), (vi 2)] dX2_nextDay_11 q3297 q3299 qs80 q3300 rfl (c_isNoDay K 1 h m _ _ _ (by omega) ⟨by omega, by omega⟩) pdX2_isNoDay ⟨Nat.le_of_ble_eq_true rfl, by decide, by omega⟩ (kk_z fun r11 h11 q11 => ?_) kx_z
    obtain ⟨rfl, rfl⟩ := q11
    refine mw_tov (b := ovr sg [(0, (if ¬ (0 ≤ y ∧ y ≤ 27) then 2 else 0))] []) (ovr_ovr _ _ _ _ _) ?_
    refine mw_top (x' := bz (¬ (0 ≤ y ∧ y ≤ 27))) rfl ?_
    refine j_bz_eq 19 dX2_nextDay_14 (by decide) (fun c14 => ?_) (fun c14 => ?_)
    · refine mw_tov (b := ovr sg [(0, 0)] []) (by rw [if_neg c14]) ?_
      refine j_iload_n dX2_nextDay_19 rfl ?_
      refine j_istore_n [some (.ref m), some (vi s), some (vi y), some (vi y)] dX2_nextDay_20 (by decide) rfl rfl ?_
      have L21 : ∀ (N : Nat) (k : Int), (28 - k).toNat = N → (y ≤ k ∧ k ≤ 28) → (∀ j, y ≤ j → j < k → sg.2 7 (28 * s + j) = 0) → MW K yiX2_nextDay d (tov K h m (ovr sg [(0, 0)] [])) 21 [some (.ref m), some (vi s), some (vi y), some (vi k)] [] Q := by
        intro N
        induction N using Nat.strongRecOn with
        | _ N ih21 =>
        intro k hN21 hk hj
        refine j_iload_n dX2_nextDay_21 rfl ?_
        refine j_bipush dX2_nextDay_22 (by decide) ?_
        refine j_icmp_ge 47 dX2_nextDay_24 (by decide) ⟨⟨by omega, by omega⟩, ⟨by omega, by omega⟩⟩ (fun c24 => ?_) (fun c24 => ?_)
        · refine m_aload_n dX2_nextDay_47 rfl ?_
          refine j_iload_n dX2_nextDay_48 rfl ?_
          refine j_bipush dX2_nextDay_49 (by decide) ?_
          refine j_icmp_ne 58 dX2_nextDay_51 (by decide) ⟨⟨by omega, by omega⟩, ⟨by omega, by omega⟩⟩ (fun c51 => ?_) (fun c51 => ?_)
          · refine j_iconst dX2_nextDay_58 ?_
            refine j_iconst dX2_nextDay_59 ?_
            refine t_inv [(vi 0), (vi 3)] dX2_nextDay_60 q3256 q3258 qs76 q3259 rfl (c_isThrown0 K 0 h m _ _) pdX2_isThrown ⟨Nat.le_of_ble_eq_true rfl, by decide, by omega⟩ (kk_z fun r60 h60 q60 => ?_) kx_z
            obtain ⟨rfl, rfl⟩ := q60
            refine mw_tov (b := ovr sg [(0, 0)] []) (ovr_ovr _ _ _ _ _) ?_
            refine j_if_eq 70 dX2_nextDay_63 (by decide) ⟨by decide, by decide⟩ (fun _ => ?_) (fun c => absurd c (by decide))
            refine j_iload_n dX2_nextDay_70 rfl ?_
            subst hQ; exact j_iret dX2_nextDay_71 rfl (by first | exact Or.inr (Or.inr (Or.inl ⟨by omega, by omega, fun j a b => hj j a (by omega), rfl⟩)) | exact Or.inr (Or.inr (Or.inr ⟨by omega, by omega, ⟨by omega, by omega, hj⟩, rfl⟩)))
          · refine j_iconst dX2_nextDay_54 ?_
            refine m_goto 59 dX2_nextDay_55 (by decide) ?_
            refine j_iconst dX2_nextDay_59 ?_
            refine t_inv [(vi 1), (vi 3)] dX2_nextDay_60 q3256 q3258 qs76 q3259 rfl (c_isThrown1 K 0 h m _ _) pdX2_isThrown ⟨Nat.le_of_ble_eq_true rfl, by decide, by omega⟩ (kk_z fun r60 h60 q60 => ?_) kx_z
            obtain ⟨rfl, rfl⟩ := q60
            refine mw_tov (b := ovr sg [(0, 3)] []) (ovr_ovr _ _ _ _ _) ?_
            refine j_if_eq 70 dX2_nextDay_63 (by decide) ⟨by decide, by decide⟩ (fun c => absurd c (by decide)) (fun _ => ?_)
            refine j_iconst dX2_nextDay_66 ?_
            refine m_goto 71 dX2_nextDay_67 (by decide) ?_
            subst hQ; exact j_iret dX2_nextDay_71 rfl (by first | exact Or.inr (Or.inr (Or.inl ⟨by omega, by omega, fun j a b => hj j a (by omega), rfl⟩)) | exact Or.inr (Or.inr (Or.inr ⟨by omega, by omega, ⟨by omega, by omega, hj⟩, rfl⟩)))
        · refine m_aload_n dX2_nextDay_27 rfl ?_
          refine t_geta 7 4 (by decide) dX2_nextDay_28 q3100 rfl ?_
          refine j_bipush dX2_nextDay_31 (by decide) ?_
          refine j_iload_n dX2_nextDay_33 rfl ?_
          refine j_imul dX2_nextDay_34 ?_
          refine j_iload_n dX2_nextDay_35 rfl ?_
          refine j_iadd dX2_nextDay_36 ?_
          refine t_zldB (sg.2 7) dX2_nextDay_37 rfl (oa7 (hT.2 7)) ⟨by omega, by omega⟩ (fun b37 => ?_)
          refine j_if_ne 47 dX2_nextDay_38 (by decide) ⟨by omega, by omega⟩ (fun c38 => ?_) (fun c38 => ?_)
          · refine m_aload_n dX2_nextDay_47 rfl ?_
            refine j_iload_n dX2_nextDay_48 rfl ?_
            refine j_bipush dX2_nextDay_49 (by decide) ?_
            refine j_icmp_ne 58 dX2_nextDay_51 (by decide) ⟨⟨by omega, by omega⟩, ⟨by omega, by omega⟩⟩ (fun c51 => ?_) (fun c51 => ?_)
            · refine j_iconst dX2_nextDay_58 ?_
              refine j_iconst dX2_nextDay_59 ?_
              refine t_inv [(vi 0), (vi 3)] dX2_nextDay_60 q3256 q3258 qs76 q3259 rfl (c_isThrown0 K 0 h m _ _) pdX2_isThrown ⟨Nat.le_of_ble_eq_true rfl, by decide, by omega⟩ (kk_z fun r60 h60 q60 => ?_) kx_z
              obtain ⟨rfl, rfl⟩ := q60
              refine mw_tov (b := ovr sg [(0, 0)] []) (ovr_ovr _ _ _ _ _) ?_
              refine j_if_eq 70 dX2_nextDay_63 (by decide) ⟨by decide, by decide⟩ (fun _ => ?_) (fun c => absurd c (by decide))
              refine j_iload_n dX2_nextDay_70 rfl ?_
              subst hQ; exact j_iret dX2_nextDay_71 rfl (by first | exact Or.inr (Or.inr (Or.inl ⟨by omega, by omega, fun j a b => hj j a (by omega), rfl⟩)) | exact Or.inr (Or.inr (Or.inr ⟨by omega, by omega, ⟨by omega, by omega, hj⟩, rfl⟩)))
            · refine j_iconst dX2_nextDay_54 ?_
              refine m_goto 59 dX2_nextDay_55 (by decide) ?_
              refine j_iconst dX2_nextDay_59 ?_
              refine t_inv [(vi 1), (vi 3)] dX2_nextDay_60 q3256 q3258 qs76 q3259 rfl (c_isThrown1 K 0 h m _ _) pdX2_isThrown ⟨Nat.le_of_ble_eq_true rfl, by decide, by omega⟩ (kk_z fun r60 h60 q60 => ?_) kx_z
              obtain ⟨rfl, rfl⟩ := q60
              refine mw_tov (b := ovr sg [(0, 3)] []) (ovr_ovr _ _ _ _ _) ?_
              refine j_if_eq 70 dX2_nextDay_63 (by decide) ⟨by decide, by decide⟩ (fun c => absurd c (by decide)) (fun _ => ?_)
              refine j_iconst dX2_nextDay_66 ?_
              refine m_goto 71 dX2_nextDay_67 (by decide) ?_
              subst hQ; exact j_iret dX2_nextDay_71 rfl (by first | exact Or.inr (Or.inr (Or.inl ⟨by omega, by omega, fun j a b => hj j a (by omega), rfl⟩)) | exact Or.inr (Or.inr (Or.inr ⟨by omega, by omega, ⟨by omega, by omega, hj⟩, rfl⟩)))
          · refine j_iinc [some (.ref m), some (vi s), some (vi y), some (vi (k + 1))] dX2_nextDay_41 rfl (by decide) rfl rfl ?_
            refine m_goto 21 dX2_nextDay_44 (by decide) ?_
            exact ih21 _ (by omega) _ rfl (by omega) (fun j a b => by { by_cases e : j = k; { subst e; omega }; { exact hj j a (by omega) } })
      exact L21 _ _ rfl (by omega) (fun j a b => by omega)
    · refine mw_tov (b := ovr sg [(0, 2)] []) (by rw [if_pos c14]) ?_
      refine j_iconst dX2_nextDay_17 ?_
      subst hQ; exact j_iret dX2_nextDay_18 rfl (by first | exact Or.inl ⟨by omega, rfl⟩ | exact Or.inr (Or.inl ⟨by omega, by omega, rfl⟩))
/-- every trip has a call -/
def clOk (sg : TS) : Prop := ∀ t, 0 ≤ t → t < sg.1 8 → 1 ≤ sg.2 10 t
theorem c_call (K : KT) (d : Nat) (h : MH) (m : Nat) (sg : TS) (t : Int) (s : Int) (c : Int) (g : Int) (hd : 2 ≤ d) (hT : TB sg) (i_t : In t) (i_s : In s) (i_c : In c) (i_g : In g) (hC : clOk sg) : Mt K yiX2_call d [.ref m, vi t, vi s, vi c, vi g] (tov K h m sg) (Rz fun v h' => (¬ ((0 ≤ t ∧ t ≤ sg.1 8 - 1) ∧ (0 ≤ s ∧ s ≤ sg.1 1 - 1)) ∧ h' = tov K h m (ovr sg [(0, 1)] [])) ∨ (((0 ≤ t ∧ t ≤ sg.1 8 - 1) ∧ (0 ≤ s ∧ s ≤ sg.1 1 - 1)) ∧ ¬ ((0 ≤ c ∧ c ≤ 2879) ∧ (0 ≤ g ∧ g ≤ 2879) ∧ sg.2 13 (8 * t + sg.2 10 t - 1) < c ∧ c ≤ g ∧ s ≠ sg.2 11 (8 * t + sg.2 10 t - 1)) ∧ h' = tov K h m (ovr sg [(0, 2)] [])) ∨ (((0 ≤ t ∧ t ≤ sg.1 8 - 1) ∧ (0 ≤ s ∧ s ≤ sg.1 1 - 1)) ∧ ((0 ≤ c ∧ c ≤ 2879) ∧ (0 ≤ g ∧ g ≤ 2879) ∧ sg.2 13 (8 * t + sg.2 10 t - 1) < c ∧ c ≤ g ∧ s ≠ sg.2 11 (8 * t + sg.2 10 t - 1)) ∧ sg.2 10 t = 8 ∧ h' = tov K h m (ovr sg [(0, 3)] [])) ∨ (((0 ≤ t ∧ t ≤ sg.1 8 - 1) ∧ (0 ≤ s ∧ s ≤ sg.1 1 - 1)) ∧ ((0 ≤ c ∧ c ≤ 2879) ∧ (0 ≤ g ∧ g ≤ 2879) ∧ sg.2 13 (8 * t + sg.2 10 t - 1) < c ∧ c ≤ g ∧ s ≠ sg.2 11 (8 * t + sg.2 10 t - 1)) ∧ sg.2 10 t < 8 ∧ h' = tov K h m (ovr sg [(0, 0)] [(10, upz (sg.2 10) t (sg.2 10 t + 1)), (11, upz (sg.2 11) (8 * t + sg.2 10 t) s), (12, upz (sg.2 12) (8 * t + sg.2 10 t) c), (13, upz (sg.2 13) (8 * t + sg.2 10 t) g)]) ∧ v = sg.2 10 t + 1)) := by
  have := i_t.1; have := i_t.2; have := i_s.1; have := i_s.2; have := i_c.1; have := i_c.2; have := i_g.1; have := i_g.2
  have f1 := of1 (hT.1 1)
  have f8 := of8 (hT.1 8)
  have hCt := hC t
  refine mt_ofQ (by decide) (Nat.le_of_ble_eq_true rfl) (fun Q hQ => ?_)
  show MW K yiX2_call d (tov K h m (ovr sg [] [])) 0 [some (.ref m), some (vi t), some (vi s), some (vi c), some (vi g), none, none] [] Q
  refine m_aload_n dX2_call_0 rfl ?_
  refine j_iload_n dX2_call_1 rfl ?_
  refine t_inv [(vi t)] dX2_call_2 q3321 q3323 qs82 q3324 rfl (c_isNoTrip K 1 h m _ _ (by omega) (hT.1 8) ⟨by omega, by omega⟩) pdX2_isNoTrip ⟨Nat.le_of_ble_eq_true rfl, by decide, by omega⟩ (kk_z fun r2 h2 q2 => ?_) kx_z
  obtain ⟨rfl, rfl⟩ := q2
  refine mw_tov (b := ovr sg [(0, (if ¬ (0 ≤ t ∧ t ≤ (sg.1 8) - 1) then 1 else 0))] []) (ovr_ovr _ _ _ _ _) ?_
  refine mw_top (x' := bz (¬ (0 ≤ t ∧ t ≤ (sg.1 8) - 1))) rfl ?_
  refine j_bz_ne 16 dX2_call_5 (by decide) (fun c5 => ?_) (fun c5 => ?_)
  · refine mw_tov (b := ovr sg [(0, 1)] []) (by rw [if_pos c5]) ?_
    refine j_iconst dX2_call_16 ?_
    subst hQ; exact j_iret dX2_call_17 rfl (by first | exact Or.inl ⟨by omega, rfl⟩ | exact Or.inr (Or.inl ⟨by omega, by omega, rfl⟩) | exact Or.inr (Or.inr (Or.inl ⟨by omega, by omega, by omega, rfl⟩)) | exact Or.inr (Or.inr (Or.inr ⟨by omega, by omega, by omega, rfl, by unfold upz; rw [if_pos rfl]⟩)))
  · refine mw_tov (b := ovr sg [(0, 0)] []) (by rw [if_neg c5]) ?_
    refine m_aload_n dX2_call_8 rfl ?_
    refine j_iload_n dX2_call_9 rfl ?_
    refine t_inv [(vi s)] dX2_call_10 q3269 q3271 qs78 q3272 rfl (c_isNoStop K 1 h m _ _ (by omega) (hT.1 1) ⟨by omega, by omega⟩) pdX2_isNoStop ⟨Nat.le_of_ble_eq_true rfl, by decide, by omega⟩ (kk_z fun r10 h10 q10 => ?_) kx_z
    obtain ⟨rfl, rfl⟩ := q10
    refine mw_tov (b := ovr sg [(0, (if ¬ (0 ≤ s ∧ s ≤ (sg.1 1) - 1) then 1 else 0))] []) (ovr_ovr _ _ _ _ _) ?_
    refine mw_top (x' := bz (¬ (0 ≤ s ∧ s ≤ (sg.1 1) - 1))) rfl ?_
    refine j_bz_eq 18 dX2_call_13 (by decide) (fun c13 => ?_) (fun c13 => ?_)
    · refine mw_tov (b := ovr sg [(0, 0)] []) (by rw [if_neg c13]) ?_
      refine j_bipush dX2_call_18 (by decide) ?_
      refine j_iload_n dX2_call_20 rfl ?_
      refine j_imul dX2_call_21 ?_
      refine m_aload_n dX2_call_22 rfl ?_
      refine t_geta 10 6 (by decide) dX2_call_23 q3103 rfl ?_
      refine j_iload_n dX2_call_26 rfl ?_
      refine t_aldB 6 (by decide) (n := 24) (sg.2 10) dX2_call_27 rfl (Nat.le_of_ble_eq_true rfl) (oa10 (hT.2 10)) ⟨by omega, by omega⟩ (fun b27 => ?_)
      refine j_iadd dX2_call_28 ?_
      refine j_istore [some (.ref m), some (vi t), some (vi s), some (vi c), some (vi g), some (vi ((8 * t) + ((sg.2 10) t))), none] dX2_call_29 (by decide) rfl rfl ?_
      refine j_iload_n dX2_call_31 rfl ?_
      refine j_iconst dX2_call_32 ?_
      refine j_sipush dX2_call_33 (by decide) ?_
      refine m_invS [(vi c), (vi 0), (vi 2879)] dX2_call_36 q3253 q3254 q133 q3255 (c_isIn K 0 _ _ _ _ ⟨by omega, by omega⟩ ⟨by omega, by omega⟩ ⟨by omega, by omega⟩) pdX2_isIn ⟨Nat.le_of_ble_eq_true rfl, by decide, by omega⟩ (kk_z fun r36 h36 q36 => ?_) kx_z
      obtain ⟨rfl, rfl⟩ := q36
      refine mw_top (x' := bz (0 ≤ c ∧ c ≤ 2879)) rfl ?_
      refine j_bz_eq 86 dX2_call_39 (by decide) (fun c39 => ?_) (fun c39 => ?_)
      · refine j_iconst dX2_call_86 ?_
        refine m_goto 91 dX2_call_87 (by decide) ?_
        refine j_istore [some (.ref m), some (vi t), some (vi s), some (vi c), some (vi g), some (vi ((8 * t) + ((sg.2 10) t))), some (vi 1)] dX2_call_91 (by decide) rfl rfl ?_
        refine m_aload_n dX2_call_93 rfl ?_
        refine j_iload dX2_call_94 rfl ?_
        refine j_iconst dX2_call_96 ?_
        refine t_inv [(vi 1), (vi 2)] dX2_call_97 q3256 q3258 qs76 q3259 rfl (c_isThrown1 K 0 h m _ _) pdX2_isThrown ⟨Nat.le_of_ble_eq_true rfl, by decide, by omega⟩ (kk_z fun r97 h97 q97 => ?_) kx_z
        obtain ⟨rfl, rfl⟩ := q97
        refine mw_tov (b := ovr sg [(0, 2)] []) (ovr_ovr _ _ _ _ _) ?_
        refine j_if_ne 127 dX2_call_100 (by decide) ⟨by decide, by decide⟩ (fun _ => ?_) (fun c => absurd c (by decide))
        refine j_iconst dX2_call_127 ?_
        subst hQ; exact j_iret dX2_call_128 rfl (by first | exact Or.inl ⟨by omega, rfl⟩ | exact Or.inr (Or.inl ⟨by omega, by omega, rfl⟩) | exact Or.inr (Or.inr (Or.inl ⟨by omega, by omega, by omega, rfl⟩)) | exact Or.inr (Or.inr (Or.inr ⟨by omega, by omega, by omega, rfl, by unfold upz; rw [if_pos rfl]⟩)))
      · refine j_iload dX2_call_42 rfl ?_
        refine j_iconst dX2_call_44 ?_
        refine j_sipush dX2_call_45 (by decide) ?_
        refine m_invS [(vi g), (vi 0), (vi 2879)] dX2_call_48 q3253 q3254 q133 q3255 (c_isIn K 0 _ _ _ _ ⟨by omega, by omega⟩ ⟨by omega, by omega⟩ ⟨by omega, by omega⟩) pdX2_isIn ⟨Nat.le_of_ble_eq_true rfl, by decide, by omega⟩ (kk_z fun r48 h48 q48 => ?_) kx_z
        obtain ⟨rfl, rfl⟩ := q48
        refine mw_top (x' := bz (0 ≤ g ∧ g ≤ 2879)) rfl ?_
        refine j_bz_eq 86 dX2_call_51 (by decide) (fun c51 => ?_) (fun c51 => ?_)
        · refine j_iconst dX2_call_86 ?_
          refine m_goto 91 dX2_call_87 (by decide) ?_
          refine j_istore [some (.ref m), some (vi t), some (vi s), some (vi c), some (vi g), some (vi ((8 * t) + ((sg.2 10) t))), some (vi 1)] dX2_call_91 (by decide) rfl rfl ?_
          refine m_aload_n dX2_call_93 rfl ?_
          refine j_iload dX2_call_94 rfl ?_
          refine j_iconst dX2_call_96 ?_
          refine t_inv [(vi 1), (vi 2)] dX2_call_97 q3256 q3258 qs76 q3259 rfl (c_isThrown1 K 0 h m _ _) pdX2_isThrown ⟨Nat.le_of_ble_eq_true rfl, by decide, by omega⟩ (kk_z fun r97 h97 q97 => ?_) kx_z
          obtain ⟨rfl, rfl⟩ := q97
          refine mw_tov (b := ovr sg [(0, 2)] []) (ovr_ovr _ _ _ _ _) ?_
          refine j_if_ne 127 dX2_call_100 (by decide) ⟨by decide, by decide⟩ (fun _ => ?_) (fun c => absurd c (by decide))
          refine j_iconst dX2_call_127 ?_
          subst hQ; exact j_iret dX2_call_128 rfl (by first | exact Or.inl ⟨by omega, rfl⟩ | exact Or.inr (Or.inl ⟨by omega, by omega, rfl⟩) | exact Or.inr (Or.inr (Or.inl ⟨by omega, by omega, by omega, rfl⟩)) | exact Or.inr (Or.inr (Or.inr ⟨by omega, by omega, by omega, rfl, by unfold upz; rw [if_pos rfl]⟩)))
        · refine j_iload_n dX2_call_54 rfl ?_
          refine m_aload_n dX2_call_55 rfl ?_
          refine t_geta 13 9 (by decide) dX2_call_56 q3106 rfl ?_
          refine j_iload dX2_call_59 rfl ?_
          refine j_iconst dX2_call_61 ?_
          refine j_isub dX2_call_62 ?_
          refine t_aldB 9 (by decide) (n := 192) (sg.2 13) dX2_call_63 rfl (Nat.le_of_ble_eq_true rfl) (oa13 (hT.2 13)) ⟨by omega, by omega⟩ (fun b63 => ?_)
          refine j_icmp_le 86 dX2_call_64 (by decide) ⟨⟨by omega, by omega⟩, ⟨by omega, by omega⟩⟩ (fun c64 => ?_) (fun c64 => ?_)
          · refine j_iconst dX2_call_86 ?_
            refine m_goto 91 dX2_call_87 (by decide) ?_
            refine j_istore [some (.ref m), some (vi t), some (vi s), some (vi c), some (vi g), some (vi ((8 * t) + ((sg.2 10) t))), some (vi 1)] dX2_call_91 (by decide) rfl rfl ?_
            refine m_aload_n dX2_call_93 rfl ?_
            refine j_iload dX2_call_94 rfl ?_
            refine j_iconst dX2_call_96 ?_
            refine t_inv [(vi 1), (vi 2)] dX2_call_97 q3256 q3258 qs76 q3259 rfl (c_isThrown1 K 0 h m _ _) pdX2_isThrown ⟨Nat.le_of_ble_eq_true rfl, by decide, by omega⟩ (kk_z fun r97 h97 q97 => ?_) kx_z
            obtain ⟨rfl, rfl⟩ := q97
            refine mw_tov (b := ovr sg [(0, 2)] []) (ovr_ovr _ _ _ _ _) ?_
            refine j_if_ne 127 dX2_call_100 (by decide) ⟨by decide, by decide⟩ (fun _ => ?_) (fun c => absurd c (by decide))
            refine j_iconst dX2_call_127 ?_
            subst hQ; exact j_iret dX2_call_128 rfl (by first | exact Or.inl ⟨by omega, rfl⟩ | exact Or.inr (Or.inl ⟨by omega, by omega, rfl⟩) | exact Or.inr (Or.inr (Or.inl ⟨by omega, by omega, by omega, rfl⟩)) | exact Or.inr (Or.inr (Or.inr ⟨by omega, by omega, by omega, rfl, by unfold upz; rw [if_pos rfl]⟩)))
          · refine j_iload dX2_call_67 rfl ?_
            refine j_iload_n dX2_call_69 rfl ?_
            refine j_icmp_lt 86 dX2_call_70 (by decide) ⟨⟨by omega, by omega⟩, ⟨by omega, by omega⟩⟩ (fun c70 => ?_) (fun c70 => ?_)
            · refine j_iconst dX2_call_86 ?_
              refine m_goto 91 dX2_call_87 (by decide) ?_
              refine j_istore [some (.ref m), some (vi t), some (vi s), some (vi c), some (vi g), some (vi ((8 * t) + ((sg.2 10) t))), some (vi 1)] dX2_call_91 (by decide) rfl rfl ?_
              refine m_aload_n dX2_call_93 rfl ?_
              refine j_iload dX2_call_94 rfl ?_
              refine j_iconst dX2_call_96 ?_
              refine t_inv [(vi 1), (vi 2)] dX2_call_97 q3256 q3258 qs76 q3259 rfl (c_isThrown1 K 0 h m _ _) pdX2_isThrown ⟨Nat.le_of_ble_eq_true rfl, by decide, by omega⟩ (kk_z fun r97 h97 q97 => ?_) kx_z
              obtain ⟨rfl, rfl⟩ := q97
              refine mw_tov (b := ovr sg [(0, 2)] []) (ovr_ovr _ _ _ _ _) ?_
              refine j_if_ne 127 dX2_call_100 (by decide) ⟨by decide, by decide⟩ (fun _ => ?_) (fun c => absurd c (by decide))
              refine j_iconst dX2_call_127 ?_
              subst hQ; exact j_iret dX2_call_128 rfl (by first | exact Or.inl ⟨by omega, rfl⟩ | exact Or.inr (Or.inl ⟨by omega, by omega, rfl⟩) | exact Or.inr (Or.inr (Or.inl ⟨by omega, by omega, by omega, rfl⟩)) | exact Or.inr (Or.inr (Or.inr ⟨by omega, by omega, by omega, rfl, by unfold upz; rw [if_pos rfl]⟩)))
            · refine j_iload_n dX2_call_73 rfl ?_
              refine m_aload_n dX2_call_74 rfl ?_
              refine t_geta 11 7 (by decide) dX2_call_75 q3104 rfl ?_
              refine j_iload dX2_call_78 rfl ?_
              refine j_iconst dX2_call_80 ?_
              refine j_isub dX2_call_81 ?_
              refine t_aldB 7 (by decide) (n := 192) (sg.2 11) dX2_call_82 rfl (Nat.le_of_ble_eq_true rfl) (oa11 (hT.2 11)) ⟨by omega, by omega⟩ (fun b82 => ?_)
              refine j_icmp_ne 90 dX2_call_83 (by decide) ⟨⟨by omega, by omega⟩, ⟨by omega, by omega⟩⟩ (fun c83 => ?_) (fun c83 => ?_)
              · refine j_iconst dX2_call_90 ?_
                refine j_istore [some (.ref m), some (vi t), some (vi s), some (vi c), some (vi g), some (vi ((8 * t) + ((sg.2 10) t))), some (vi 0)] dX2_call_91 (by decide) rfl rfl ?_
                refine m_aload_n dX2_call_93 rfl ?_
                refine j_iload dX2_call_94 rfl ?_
                refine j_iconst dX2_call_96 ?_
                refine t_inv [(vi 0), (vi 2)] dX2_call_97 q3256 q3258 qs76 q3259 rfl (c_isThrown0 K 0 h m _ _) pdX2_isThrown ⟨Nat.le_of_ble_eq_true rfl, by decide, by omega⟩ (kk_z fun r97 h97 q97 => ?_) kx_z
                obtain ⟨rfl, rfl⟩ := q97
                refine mw_tov (b := ovr sg [(0, 0)] []) (ovr_ovr _ _ _ _ _) ?_
                refine j_if_ne 127 dX2_call_100 (by decide) ⟨by decide, by decide⟩ (fun c => absurd c (by decide)) (fun _ => ?_)
                refine m_aload_n dX2_call_103 rfl ?_
                refine m_aload_n dX2_call_104 rfl ?_
                refine t_geta 10 6 (by decide) dX2_call_105 q3103 rfl ?_
                refine j_iload_n dX2_call_108 rfl ?_
                refine t_aldB 6 (by decide) (n := 24) (sg.2 10) dX2_call_109 rfl (Nat.le_of_ble_eq_true rfl) (oa10 (hT.2 10)) ⟨by omega, by omega⟩ (fun b109 => ?_)
                refine j_bipush dX2_call_110 (by decide) ?_
                refine j_icmp_ne 119 dX2_call_112 (by decide) ⟨⟨by omega, by omega⟩, ⟨by omega, by omega⟩⟩ (fun c112 => ?_) (fun c112 => ?_)
                · refine j_iconst dX2_call_119 ?_
                  refine j_iconst dX2_call_120 ?_
                  refine t_inv [(vi 0), (vi 3)] dX2_call_121 q3256 q3258 qs76 q3259 rfl (c_isThrown0 K 0 h m _ _) pdX2_isThrown ⟨Nat.le_of_ble_eq_true rfl, by decide, by omega⟩ (kk_z fun r121 h121 q121 => ?_) kx_z
                  obtain ⟨rfl, rfl⟩ := q121
                  refine mw_tov (b := ovr sg [(0, 0)] []) (ovr_ovr _ _ _ _ _) ?_
                  refine j_if_eq 129 dX2_call_124 (by decide) ⟨by decide, by decide⟩ (fun _ => ?_) (fun c => absurd c (by decide))
                  refine m_aload_n dX2_call_129 rfl ?_
                  refine t_geta 11 7 (by decide) dX2_call_130 q3104 rfl ?_
                  refine j_iload dX2_call_133 rfl ?_
                  refine j_iload_n dX2_call_135 rfl ?_
                  refine t_ast 7 (by decide) (n := 192) (sg.2 11) [(11, (upz (sg.2 11) ((8 * t) + ((sg.2 10) t)) s))] dX2_call_136 rfl (Nat.le_of_ble_eq_true rfl) ⟨by omega, by omega⟩ rfl rfl ?_
                  refine m_aload_n dX2_call_137 rfl ?_
                  refine t_geta 12 8 (by decide) dX2_call_138 q3105 rfl ?_
                  refine j_iload dX2_call_141 rfl ?_
                  refine j_iload_n dX2_call_143 rfl ?_
                  refine t_ast 8 (by decide) (n := 192) (sg.2 12) [(11, (upz (sg.2 11) ((8 * t) + ((sg.2 10) t)) s)), (12, (upz (sg.2 12) ((8 * t) + ((sg.2 10) t)) c))] dX2_call_144 rfl (Nat.le_of_ble_eq_true rfl) ⟨by omega, by omega⟩ rfl rfl ?_
                  refine m_aload_n dX2_call_145 rfl ?_
                  refine t_geta 13 9 (by decide) dX2_call_146 q3106 rfl ?_
                  refine j_iload dX2_call_149 rfl ?_
                  refine j_iload dX2_call_151 rfl ?_
                  refine t_ast 9 (by decide) (n := 192) (sg.2 13) [(11, (upz (sg.2 11) ((8 * t) + ((sg.2 10) t)) s)), (12, (upz (sg.2 12) ((8 * t) + ((sg.2 10) t)) c)), (13, (upz (sg.2 13) ((8 * t) + ((sg.2 10) t)) g))] dX2_call_153 rfl (Nat.le_of_ble_eq_true rfl) ⟨by omega, by omega⟩ rfl rfl ?_
                  refine m_aload_n dX2_call_154 rfl ?_
                  refine t_geta 10 6 (by decide) dX2_call_155 q3103 rfl ?_
                  refine j_iload_n dX2_call_158 rfl ?_
                  refine m_dup2 dX2_call_159 rfl rfl ?_
                  refine t_aldB 6 (by decide) (n := 24) (sg.2 10) dX2_call_160 rfl (Nat.le_of_ble_eq_true rfl) (oa10 (hT.2 10)) ⟨by omega, by omega⟩ (fun b160 => ?_)
                  refine j_iconst dX2_call_161 ?_
                  refine j_iadd dX2_call_162 ?_
                  refine t_ast 6 (by decide) (n := 24) (sg.2 10) [(10, (upz (sg.2 10) t (((sg.2 10) t) + 1))), (11, (upz (sg.2 11) ((8 * t) + ((sg.2 10) t)) s)), (12, (upz (sg.2 12) ((8 * t) + ((sg.2 10) t)) c)), (13, (upz (sg.2 13) ((8 * t) + ((sg.2 10) t)) g))] dX2_call_163 rfl (Nat.le_of_ble_eq_true rfl) ⟨by omega, by omega⟩ rfl rfl ?_
                  refine m_aload_n dX2_call_164 rfl ?_
                  refine t_geta 10 6 (by decide) dX2_call_165 q3103 rfl ?_
                  refine j_iload_n dX2_call_168 rfl ?_
                  refine t_ald 6 (by decide) (n := 24) (upz (sg.2 10) t (((sg.2 10) t) + 1)) dX2_call_169 rfl (Nat.le_of_ble_eq_true rfl) ⟨by omega, by omega⟩ ?_
                  subst hQ; exact j_iret dX2_call_170 rfl (by first | exact Or.inl ⟨by omega, rfl⟩ | exact Or.inr (Or.inl ⟨by omega, by omega, rfl⟩) | exact Or.inr (Or.inr (Or.inl ⟨by omega, by omega, by omega, rfl⟩)) | exact Or.inr (Or.inr (Or.inr ⟨by omega, by omega, by omega, rfl, by unfold upz; rw [if_pos rfl]⟩)))
                · refine j_iconst dX2_call_115 ?_
                  refine m_goto 120 dX2_call_116 (by decide) ?_
                  refine j_iconst dX2_call_120 ?_
                  refine t_inv [(vi 1), (vi 3)] dX2_call_121 q3256 q3258 qs76 q3259 rfl (c_isThrown1 K 0 h m _ _) pdX2_isThrown ⟨Nat.le_of_ble_eq_true rfl, by decide, by omega⟩ (kk_z fun r121 h121 q121 => ?_) kx_z
                  obtain ⟨rfl, rfl⟩ := q121
                  refine mw_tov (b := ovr sg [(0, 3)] []) (ovr_ovr _ _ _ _ _) ?_
                  refine j_if_eq 129 dX2_call_124 (by decide) ⟨by decide, by decide⟩ (fun c => absurd c (by decide)) (fun _ => ?_)
                  refine j_iconst dX2_call_127 ?_
                  subst hQ; exact j_iret dX2_call_128 rfl (by first | exact Or.inl ⟨by omega, rfl⟩ | exact Or.inr (Or.inl ⟨by omega, by omega, rfl⟩) | exact Or.inr (Or.inr (Or.inl ⟨by omega, by omega, by omega, rfl⟩)) | exact Or.inr (Or.inr (Or.inr ⟨by omega, by omega, by omega, rfl, by unfold upz; rw [if_pos rfl]⟩)))
              · refine j_iconst dX2_call_86 ?_
                refine m_goto 91 dX2_call_87 (by decide) ?_
                refine j_istore [some (.ref m), some (vi t), some (vi s), some (vi c), some (vi g), some (vi ((8 * t) + ((sg.2 10) t))), some (vi 1)] dX2_call_91 (by decide) rfl rfl ?_
                refine m_aload_n dX2_call_93 rfl ?_
                refine j_iload dX2_call_94 rfl ?_
                refine j_iconst dX2_call_96 ?_
                refine t_inv [(vi 1), (vi 2)] dX2_call_97 q3256 q3258 qs76 q3259 rfl (c_isThrown1 K 0 h m _ _) pdX2_isThrown ⟨Nat.le_of_ble_eq_true rfl, by decide, by omega⟩ (kk_z fun r97 h97 q97 => ?_) kx_z
                obtain ⟨rfl, rfl⟩ := q97
                refine mw_tov (b := ovr sg [(0, 2)] []) (ovr_ovr _ _ _ _ _) ?_
                refine j_if_ne 127 dX2_call_100 (by decide) ⟨by decide, by decide⟩ (fun _ => ?_) (fun c => absurd c (by decide))
                refine j_iconst dX2_call_127 ?_
                subst hQ; exact j_iret dX2_call_128 rfl (by first | exact Or.inl ⟨by omega, rfl⟩ | exact Or.inr (Or.inl ⟨by omega, by omega, rfl⟩) | exact Or.inr (Or.inr (Or.inl ⟨by omega, by omega, by omega, rfl⟩)) | exact Or.inr (Or.inr (Or.inr ⟨by omega, by omega, by omega, rfl, by unfold upz; rw [if_pos rfl]⟩)))
    · refine mw_tov (b := ovr sg [(0, 1)] []) (by rw [if_pos c13]) ?_
      refine j_iconst dX2_call_16 ?_
      subst hQ; exact j_iret dX2_call_17 rfl (by first | exact Or.inl ⟨by omega, rfl⟩ | exact Or.inr (Or.inl ⟨by omega, by omega, rfl⟩) | exact Or.inr (Or.inr (Or.inl ⟨by omega, by omega, by omega, rfl⟩)) | exact Or.inr (Or.inr (Or.inr ⟨by omega, by omega, by omega, rfl, by unfold upz; rw [if_pos rfl]⟩)))
/-- a shift by mi puts a call out of the times -/
def shB (sg : TS) (t mi c : Int) : Prop := ¬ ((0 ≤ sg.2 12 (8 * t + c) + mi ∧ sg.2 12 (8 * t + c) + mi ≤ 2879) ∧ (0 ≤ sg.2 13 (8 * t + c) + mi ∧ sg.2 13 (8 * t + c) + mi ≤ 2879))
def shE (sg : TS) (t mi k : Int) : Prop := ∃ c, 0 ≤ c ∧ c < k ∧ c < sg.2 10 t ∧ shB sg t mi c
theorem shE_y {sg : TS} {t mi k : Int} (hk : 0 ≤ k ∧ k < sg.2 10 t) (h : shB sg t mi k) : (1 : Int) = 1 ↔ shE sg t mi (k + 1) := ⟨fun _ => ⟨k, hk.1, by omega, hk.2, h⟩, fun _ => rfl⟩
theorem shE_n {sg : TS} {t mi k i : Int} (hb : i = 1 ↔ shE sg t mi k) (h : ¬ shB sg t mi k) : i = 1 ↔ shE sg t mi (k + 1) := by
  rw [hb]
  constructor
  · rintro ⟨c, a1, a2, a3, a4⟩; exact ⟨c, a1, by omega, a3, a4⟩
  · rintro ⟨c, a1, a2, a3, a4⟩
    by_cases e : c = k
    · subst e; exact absurd a4 h
    · exact ⟨c, a1, by omega, a3, a4⟩
theorem shE_0 {sg : TS} {t mi : Int} : (0 : Int) = 1 ↔ shE sg t mi 0 := ⟨fun h => absurd h (by decide), fun ⟨c, a1, a2, _⟩ => by omega⟩
theorem shE_f {sg : TS} {t mi k : Int} (h : sg.2 10 t ≤ k) : shE sg t mi k ↔ ∃ c, 0 ≤ c ∧ c < sg.2 10 t ∧ shB sg t mi c := ⟨fun ⟨c, a1, _, a3, a4⟩ => ⟨c, a1, a3, a4⟩, fun ⟨c, a1, a3, a4⟩ => ⟨c, a1, by omega, a3, a4⟩⟩
theorem c_isShiftWrong (K : KT) (d : Nat) (h : MH) (m : Nat) (sg : TS) (t : Int) (mi : Int) (hd : 1 ≤ d) (hT : TB sg) (i_t : In t) (i_mi : In mi) (ht : 0 ≤ t ∧ t < 24) (hm : -60 ≤ mi ∧ mi ≤ 60) : Mt K yiX2_isShiftWrong d [.ref m, vi t, vi mi] (tov K h m sg) (Rz fun v h' => h' = tov K h m sg ∧ (v = 0 ∨ v = 1) ∧ (v = 1 ↔ ∃ c, 0 ≤ c ∧ c < sg.2 10 t ∧ shB sg t mi c)) := by
  have := i_t.1; have := i_t.2; have := i_mi.1; have := i_mi.2
  refine mt_ofQ (by decide) (Nat.le_of_ble_eq_true rfl) (fun Q hQ => ?_)
  show MW K yiX2_isShiftWrong d (tov K h m (ovr sg [] [])) 0 [some (.ref m), some (vi t), some (vi mi), none, none] [] Q
  refine j_iload_n dX2_isShiftWrong_0 rfl ?_
  refine j_bipush dX2_isShiftWrong_1 (by decide) ?_
  refine j_bipush dX2_isShiftWrong_3 (by decide) ?_
  refine m_invS [(vi mi), (vi (-60)), (vi 60)] dX2_isShiftWrong_5 q3253 q3254 q133 q3255 (c_isIn K 0 _ _ _ _ ⟨by omega, by omega⟩ ⟨by omega, by omega⟩ ⟨by omega, by omega⟩) pdX2_isIn ⟨Nat.le_of_ble_eq_true rfl, by decide, by omega⟩ (kk_z fun r5 h5 q5 => ?_) kx_z
  obtain ⟨rfl, rfl⟩ := q5
  refine mw_top (x' := bz ((-60) ≤ mi ∧ mi ≤ 60)) rfl ?_
  refine j_bz_ne 15 dX2_isShiftWrong_8 (by decide) (fun c8 => ?_) (fun c8 => ?_)
  · refine j_iconst dX2_isShiftWrong_15 ?_
    refine j_istore_n [some (.ref m), some (vi t), some (vi mi), some (vi 0), none] dX2_isShiftWrong_16 (by decide) rfl rfl ?_
    refine j_iconst dX2_isShiftWrong_17 ?_
    refine j_istore [some (.ref m), some (vi t), some (vi mi), some (vi 0), some (vi 0)] dX2_isShiftWrong_18 (by decide) rfl rfl ?_
    have L20 : ∀ (N : Nat) (i k : Int), (8 - k).toNat = N → (0 ≤ k ∧ k ≤ 8) → (i = 0 ∨ i = 1) → (i = 1 ↔ shE sg t mi k) → MW K yiX2_isShiftWrong d (tov K h m (ovr sg [] [])) 20 [some (.ref m), some (vi t), some (vi mi), some (vi i), some (vi k)] [] Q := by
      intro N
      induction N using Nat.strongRecOn with
      | _ N ih20 =>
      intro i k hN20 hk hi hb
      refine j_iload dX2_isShiftWrong_20 rfl ?_
      refine m_aload_n dX2_isShiftWrong_22 rfl ?_
      refine t_geta 10 6 (by decide) dX2_isShiftWrong_23 q3103 rfl ?_
      refine j_iload_n dX2_isShiftWrong_26 rfl ?_
      refine t_aldB 6 (by decide) (n := 24) (sg.2 10) dX2_isShiftWrong_27 rfl (Nat.le_of_ble_eq_true rfl) (oa10 (hT.2 10)) ⟨by omega, by omega⟩ (fun b27 => ?_)
      refine j_icmp_ge 93 dX2_isShiftWrong_28 (by decide) ⟨⟨by omega, by omega⟩, ⟨by omega, by omega⟩⟩ (fun c28 => ?_) (fun c28 => ?_)
      · refine j_iload_n dX2_isShiftWrong_93 rfl ?_
        subst hQ; exact j_zret dX2_isShiftWrong_94 rfl (by omega) (⟨rfl, hi, hb.trans (shE_f (by omega))⟩)
      · refine j_iload_n dX2_isShiftWrong_31 rfl ?_
        refine m_aload_n dX2_isShiftWrong_32 rfl ?_
        refine t_geta 12 8 (by decide) dX2_isShiftWrong_33 q3105 rfl ?_
        refine j_bipush dX2_isShiftWrong_36 (by decide) ?_
        refine j_iload_n dX2_isShiftWrong_38 rfl ?_
        refine j_imul dX2_isShiftWrong_39 ?_
        refine j_iload dX2_isShiftWrong_40 rfl ?_
        refine j_iadd dX2_isShiftWrong_42 ?_
        refine t_aldB 8 (by decide) (n := 192) (sg.2 12) dX2_isShiftWrong_43 rfl (Nat.le_of_ble_eq_true rfl) (oa12 (hT.2 12)) ⟨by omega, by omega⟩ (fun b43 => ?_)
        refine j_iload_n dX2_isShiftWrong_44 rfl ?_
        refine j_iadd dX2_isShiftWrong_45 ?_
        refine j_iconst dX2_isShiftWrong_46 ?_
        refine j_sipush dX2_isShiftWrong_47 (by decide) ?_
        refine m_invS [(vi (((sg.2 12) ((8 * t) + k)) + mi)), (vi 0), (vi 2879)] dX2_isShiftWrong_50 q3253 q3254 q133 q3255 (c_isIn K 0 _ _ _ _ ⟨by omega, by omega⟩ ⟨by omega, by omega⟩ ⟨by omega, by omega⟩) pdX2_isIn ⟨Nat.le_of_ble_eq_true rfl, by decide, by omega⟩ (kk_z fun r50 h50 q50 => ?_) kx_z
        obtain ⟨rfl, rfl⟩ := q50
        refine mw_top (x' := bz (0 ≤ (((sg.2 12) ((8 * t) + k)) + mi) ∧ (((sg.2 12) ((8 * t) + k)) + mi) ≤ 2879)) rfl ?_
        refine j_bz_eq 80 dX2_isShiftWrong_53 (by decide) (fun c53 => ?_) (fun c53 => ?_)
        · refine j_iconst dX2_isShiftWrong_80 ?_
          refine m_goto 85 dX2_isShiftWrong_81 (by decide) ?_
          refine j_ior1 dX2_isShiftWrong_85 (by omega) ?_
          refine j_istore_n [some (.ref m), some (vi t), some (vi mi), some (vi 1), some (vi k)] dX2_isShiftWrong_86 (by decide) rfl rfl ?_
          refine j_iinc [some (.ref m), some (vi t), some (vi mi), some (vi 1), some (vi (k + 1))] dX2_isShiftWrong_87 rfl (by decide) rfl rfl ?_
          refine m_goto 20 dX2_isShiftWrong_90 (by decide) ?_
          exact ih20 _ (by omega) _ _ rfl (by omega) (by omega) (by first | exact shE_y (by omega) (by unfold shB; omega) | exact shE_n hb (by unfold shB; omega))
        · refine m_aload_n dX2_isShiftWrong_56 rfl ?_
          refine t_geta 13 9 (by decide) dX2_isShiftWrong_57 q3106 rfl ?_
          refine j_bipush dX2_isShiftWrong_60 (by decide) ?_
          refine j_iload_n dX2_isShiftWrong_62 rfl ?_
          refine j_imul dX2_isShiftWrong_63 ?_
          refine j_iload dX2_isShiftWrong_64 rfl ?_
          refine j_iadd dX2_isShiftWrong_66 ?_
          refine t_aldB 9 (by decide) (n := 192) (sg.2 13) dX2_isShiftWrong_67 rfl (Nat.le_of_ble_eq_true rfl) (oa13 (hT.2 13)) ⟨by omega, by omega⟩ (fun b67 => ?_)
          refine j_iload_n dX2_isShiftWrong_68 rfl ?_
          refine j_iadd dX2_isShiftWrong_69 ?_
          refine j_iconst dX2_isShiftWrong_70 ?_
          refine j_sipush dX2_isShiftWrong_71 (by decide) ?_
          refine m_invS [(vi (((sg.2 13) ((8 * t) + k)) + mi)), (vi 0), (vi 2879)] dX2_isShiftWrong_74 q3253 q3254 q133 q3255 (c_isIn K 0 _ _ _ _ ⟨by omega, by omega⟩ ⟨by omega, by omega⟩ ⟨by omega, by omega⟩) pdX2_isIn ⟨Nat.le_of_ble_eq_true rfl, by decide, by omega⟩ (kk_z fun r74 h74 q74 => ?_) kx_z
          obtain ⟨rfl, rfl⟩ := q74
          refine mw_top (x' := bz (0 ≤ (((sg.2 13) ((8 * t) + k)) + mi) ∧ (((sg.2 13) ((8 * t) + k)) + mi) ≤ 2879)) rfl ?_
          refine j_bz_ne 84 dX2_isShiftWrong_77 (by decide) (fun c77 => ?_) (fun c77 => ?_)
          · refine j_iconst dX2_isShiftWrong_84 ?_
            refine j_ior0 dX2_isShiftWrong_85 ?_
            refine j_istore_n [some (.ref m), some (vi t), some (vi mi), some (vi i), some (vi k)] dX2_isShiftWrong_86 (by decide) rfl rfl ?_
            refine j_iinc [some (.ref m), some (vi t), some (vi mi), some (vi i), some (vi (k + 1))] dX2_isShiftWrong_87 rfl (by decide) rfl rfl ?_
            refine m_goto 20 dX2_isShiftWrong_90 (by decide) ?_
            exact ih20 _ (by omega) _ _ rfl (by omega) (by omega) (by first | exact shE_y (by omega) (by unfold shB; omega) | exact shE_n hb (by unfold shB; omega))
          · refine j_iconst dX2_isShiftWrong_80 ?_
            refine m_goto 85 dX2_isShiftWrong_81 (by decide) ?_
            refine j_ior1 dX2_isShiftWrong_85 (by omega) ?_
            refine j_istore_n [some (.ref m), some (vi t), some (vi mi), some (vi 1), some (vi k)] dX2_isShiftWrong_86 (by decide) rfl rfl ?_
            refine j_iinc [some (.ref m), some (vi t), some (vi mi), some (vi 1), some (vi (k + 1))] dX2_isShiftWrong_87 rfl (by decide) rfl rfl ?_
            refine m_goto 20 dX2_isShiftWrong_90 (by decide) ?_
            exact ih20 _ (by omega) _ _ rfl (by omega) (by omega) (by first | exact shE_y (by omega) (by unfold shB; omega) | exact shE_n hb (by unfold shB; omega))
    exact L20 _ _ _ rfl (by omega) (by omega) (by first | exact shE_0 | (exfalso; omega))
  · refine j_iconst dX2_isShiftWrong_11 ?_
    refine m_goto 16 dX2_isShiftWrong_12 (by decide) ?_
    refine j_istore_n [some (.ref m), some (vi t), some (vi mi), some (vi 1), none] dX2_isShiftWrong_16 (by decide) rfl rfl ?_
    refine j_iconst dX2_isShiftWrong_17 ?_
    refine j_istore [some (.ref m), some (vi t), some (vi mi), some (vi 1), some (vi 0)] dX2_isShiftWrong_18 (by decide) rfl rfl ?_
    have L20 : ∀ (N : Nat) (i k : Int), (8 - k).toNat = N → (0 ≤ k ∧ k ≤ 8) → (i = 0 ∨ i = 1) → (i = 1 ↔ shE sg t mi k) → MW K yiX2_isShiftWrong d (tov K h m (ovr sg [] [])) 20 [some (.ref m), some (vi t), some (vi mi), some (vi i), some (vi k)] [] Q := by
      intro N
      induction N using Nat.strongRecOn with
      | _ N ih20 =>
      intro i k hN20 hk hi hb
      refine j_iload dX2_isShiftWrong_20 rfl ?_
      refine m_aload_n dX2_isShiftWrong_22 rfl ?_
      refine t_geta 10 6 (by decide) dX2_isShiftWrong_23 q3103 rfl ?_
      refine j_iload_n dX2_isShiftWrong_26 rfl ?_
      refine t_aldB 6 (by decide) (n := 24) (sg.2 10) dX2_isShiftWrong_27 rfl (Nat.le_of_ble_eq_true rfl) (oa10 (hT.2 10)) ⟨by omega, by omega⟩ (fun b27 => ?_)
      refine j_icmp_ge 93 dX2_isShiftWrong_28 (by decide) ⟨⟨by omega, by omega⟩, ⟨by omega, by omega⟩⟩ (fun c28 => ?_) (fun c28 => ?_)
      · refine j_iload_n dX2_isShiftWrong_93 rfl ?_
        subst hQ; exact j_zret dX2_isShiftWrong_94 rfl (by omega) (⟨rfl, hi, hb.trans (shE_f (by omega))⟩)
      · refine j_iload_n dX2_isShiftWrong_31 rfl ?_
        refine m_aload_n dX2_isShiftWrong_32 rfl ?_
        refine t_geta 12 8 (by decide) dX2_isShiftWrong_33 q3105 rfl ?_
        refine j_bipush dX2_isShiftWrong_36 (by decide) ?_
        refine j_iload_n dX2_isShiftWrong_38 rfl ?_
        refine j_imul dX2_isShiftWrong_39 ?_
        refine j_iload dX2_isShiftWrong_40 rfl ?_
        refine j_iadd dX2_isShiftWrong_42 ?_
        refine t_aldB 8 (by decide) (n := 192) (sg.2 12) dX2_isShiftWrong_43 rfl (Nat.le_of_ble_eq_true rfl) (oa12 (hT.2 12)) ⟨by omega, by omega⟩ (fun b43 => ?_)
        refine j_iload_n dX2_isShiftWrong_44 rfl ?_
        refine j_iadd dX2_isShiftWrong_45 ?_
        refine j_iconst dX2_isShiftWrong_46 ?_
        refine j_sipush dX2_isShiftWrong_47 (by decide) ?_
        refine m_invS [(vi (((sg.2 12) ((8 * t) + k)) + mi)), (vi 0), (vi 2879)] dX2_isShiftWrong_50 q3253 q3254 q133 q3255 (c_isIn K 0 _ _ _ _ ⟨by omega, by omega⟩ ⟨by omega, by omega⟩ ⟨by omega, by omega⟩) pdX2_isIn ⟨Nat.le_of_ble_eq_true rfl, by decide, by omega⟩ (kk_z fun r50 h50 q50 => ?_) kx_z
        obtain ⟨rfl, rfl⟩ := q50
        refine mw_top (x' := bz (0 ≤ (((sg.2 12) ((8 * t) + k)) + mi) ∧ (((sg.2 12) ((8 * t) + k)) + mi) ≤ 2879)) rfl ?_
        refine j_bz_eq 80 dX2_isShiftWrong_53 (by decide) (fun c53 => ?_) (fun c53 => ?_)
        · refine j_iconst dX2_isShiftWrong_80 ?_
          refine m_goto 85 dX2_isShiftWrong_81 (by decide) ?_
          refine j_ior1 dX2_isShiftWrong_85 (by omega) ?_
          refine j_istore_n [some (.ref m), some (vi t), some (vi mi), some (vi 1), some (vi k)] dX2_isShiftWrong_86 (by decide) rfl rfl ?_
          refine j_iinc [some (.ref m), some (vi t), some (vi mi), some (vi 1), some (vi (k + 1))] dX2_isShiftWrong_87 rfl (by decide) rfl rfl ?_
          refine m_goto 20 dX2_isShiftWrong_90 (by decide) ?_
          exact ih20 _ (by omega) _ _ rfl (by omega) (by omega) (by first | exact shE_y (by omega) (by unfold shB; omega) | exact shE_n hb (by unfold shB; omega))
        · refine m_aload_n dX2_isShiftWrong_56 rfl ?_
          refine t_geta 13 9 (by decide) dX2_isShiftWrong_57 q3106 rfl ?_
          refine j_bipush dX2_isShiftWrong_60 (by decide) ?_
          refine j_iload_n dX2_isShiftWrong_62 rfl ?_
          refine j_imul dX2_isShiftWrong_63 ?_
          refine j_iload dX2_isShiftWrong_64 rfl ?_
          refine j_iadd dX2_isShiftWrong_66 ?_
          refine t_aldB 9 (by decide) (n := 192) (sg.2 13) dX2_isShiftWrong_67 rfl (Nat.le_of_ble_eq_true rfl) (oa13 (hT.2 13)) ⟨by omega, by omega⟩ (fun b67 => ?_)
          refine j_iload_n dX2_isShiftWrong_68 rfl ?_
          refine j_iadd dX2_isShiftWrong_69 ?_
          refine j_iconst dX2_isShiftWrong_70 ?_
          refine j_sipush dX2_isShiftWrong_71 (by decide) ?_
          refine m_invS [(vi (((sg.2 13) ((8 * t) + k)) + mi)), (vi 0), (vi 2879)] dX2_isShiftWrong_74 q3253 q3254 q133 q3255 (c_isIn K 0 _ _ _ _ ⟨by omega, by omega⟩ ⟨by omega, by omega⟩ ⟨by omega, by omega⟩) pdX2_isIn ⟨Nat.le_of_ble_eq_true rfl, by decide, by omega⟩ (kk_z fun r74 h74 q74 => ?_) kx_z
          obtain ⟨rfl, rfl⟩ := q74
          refine mw_top (x' := bz (0 ≤ (((sg.2 13) ((8 * t) + k)) + mi) ∧ (((sg.2 13) ((8 * t) + k)) + mi) ≤ 2879)) rfl ?_
          refine j_bz_ne 84 dX2_isShiftWrong_77 (by decide) (fun c77 => ?_) (fun c77 => ?_)
          · refine j_iconst dX2_isShiftWrong_84 ?_
            refine j_ior0 dX2_isShiftWrong_85 ?_
            refine j_istore_n [some (.ref m), some (vi t), some (vi mi), some (vi i), some (vi k)] dX2_isShiftWrong_86 (by decide) rfl rfl ?_
            refine j_iinc [some (.ref m), some (vi t), some (vi mi), some (vi i), some (vi (k + 1))] dX2_isShiftWrong_87 rfl (by decide) rfl rfl ?_
            refine m_goto 20 dX2_isShiftWrong_90 (by decide) ?_
            exact ih20 _ (by omega) _ _ rfl (by omega) (by omega) (by first | exact shE_y (by omega) (by unfold shB; omega) | exact shE_n hb (by unfold shB; omega))
          · refine j_iconst dX2_isShiftWrong_80 ?_
            refine m_goto 85 dX2_isShiftWrong_81 (by decide) ?_
            refine j_ior1 dX2_isShiftWrong_85 (by omega) ?_
            refine j_istore_n [some (.ref m), some (vi t), some (vi mi), some (vi 1), some (vi k)] dX2_isShiftWrong_86 (by decide) rfl rfl ?_
            refine j_iinc [some (.ref m), some (vi t), some (vi mi), some (vi 1), some (vi (k + 1))] dX2_isShiftWrong_87 rfl (by decide) rfl rfl ?_
            refine m_goto 20 dX2_isShiftWrong_90 (by decide) ?_
            exact ih20 _ (by omega) _ _ rfl (by omega) (by omega) (by first | exact shE_y (by omega) (by unfold shB; omega) | exact shE_n hb (by unfold shB; omega))
    exact L20 _ _ _ rfl (by omega) (by omega) (by first | exact shE_0 | (exfalso; omega))
def mvA (f : Int → Int) (t n mi : Int) : Int → Int := fun q => if 8 * t ≤ q ∧ q < 8 * t + n then f q + mi else f q
theorem mvA_0 {f : Int → Int} {t mi : Int} : f = mvA f t 0 mi := by funext q; unfold mvA; rw [if_neg (by omega)]
theorem mvA_s {f : Int → Int} {t k mi : Int} (hk : 0 ≤ k) : upz (mvA f t k mi) (8 * t + k) (mvA f t k mi (8 * t + k) + mi) = mvA f t (k + 1) mi := by
  have e0 : mvA f t k mi (8 * t + k) = f (8 * t + k) := by unfold mvA; rw [if_neg (by omega)]
  rw [e0]
  funext q; unfold upz mvA
  by_cases e : q = 8 * t + k
  · rw [if_pos e, if_pos (by omega), e]
  · rw [if_neg e]
    by_cases h2 : 8 * t ≤ q ∧ q < 8 * t + k
    · rw [if_pos h2, if_pos (by omega)]
    · rw [if_neg h2, if_neg (by omega)]
theorem mvA_back {f : Int → Int} {t n mi : Int} : mvA (mvA f t n mi) t n (-mi) = f := by
  funext q; unfold mvA
  by_cases h2 : 8 * t ≤ q ∧ q < 8 * t + n
  · rw [if_pos h2, if_pos h2]; omega
  · rw [if_neg h2, if_neg h2]
theorem c_move (K : KT) (d : Nat) (h : MH) (m : Nat) (sg : TS) (t : Int) (mi : Int) (hd : 0 ≤ d) (hT : TB sg) (i_t : In t) (i_mi : In mi) (ht : 0 ≤ t ∧ t < 24) : Mt K yiX2_move d [.ref m, vi t, vi mi] (tov K h m sg) (Rv fun h' => h' = tov K h m (ovr sg [] [(12, mvA (sg.2 12) t (sg.2 10 t) mi), (13, mvA (sg.2 13) t (sg.2 10 t) mi)])) := by
  have := i_t.1; have := i_t.2; have := i_mi.1; have := i_mi.2
  have b10 := oa10 (hT.2 10) t (by omega) (by omega)
  refine mt_ofQ (by decide) (Nat.le_of_ble_eq_true rfl) (fun Q hQ => ?_)
  show MW K yiX2_move d (tov K h m (ovr sg [] [])) 0 [some (.ref m), some (vi t), some (vi mi), none] [] Q
  refine j_iconst dX2_move_0 ?_
  refine j_istore_n [some (.ref m), some (vi t), some (vi mi), some (vi 0)] dX2_move_1 (by decide) rfl rfl ?_
  have L2 : ∀ (N : Nat) (k : Int) (g1 g2 : Int → Int), (8 - k).toNat = N → (0 ≤ k ∧ k ≤ sg.2 10 t) → (g1 = mvA (sg.2 12) t k mi) → (g2 = mvA (sg.2 13) t k mi) → MW K yiX2_move d (tov K h m (ovr sg [] [(12, g1), (13, g2)])) 2 [some (.ref m), some (vi t), some (vi mi), some (vi k)] [] Q := by
    intro N
    induction N using Nat.strongRecOn with
    | _ N ih2 =>
    intro k g1 g2 hN2 hk h1 h2
    refine j_iload_n dX2_move_2 rfl ?_
    refine m_aload_n dX2_move_3 rfl ?_
    refine t_geta 10 6 (by decide) dX2_move_4 q3103 rfl ?_
    refine j_iload_n dX2_move_7 rfl ?_
    refine t_aldB 6 (by decide) (n := 24) (sg.2 10) dX2_move_8 rfl (Nat.le_of_ble_eq_true rfl) (oa10 (hT.2 10)) ⟨by omega, by omega⟩ (fun b8 => ?_)
    refine j_icmp_ge 48 dX2_move_9 (by decide) ⟨⟨by omega, by omega⟩, ⟨by omega, by omega⟩⟩ (fun c9 => ?_) (fun c9 => ?_)
    · subst hQ; exact j_vret dX2_move_48 rfl (by rw [h1, h2, show k = sg.2 10 t by omega])
    · refine m_aload_n dX2_move_12 rfl ?_
      refine t_geta 12 8 (by decide) dX2_move_13 q3105 rfl ?_
      refine j_bipush dX2_move_16 (by decide) ?_
      refine j_iload_n dX2_move_18 rfl ?_
      refine j_imul dX2_move_19 ?_
      refine j_iload_n dX2_move_20 rfl ?_
      refine j_iadd dX2_move_21 ?_
      refine m_dup2 dX2_move_22 rfl rfl ?_
      refine t_ald 8 (by decide) (n := 192) g1 dX2_move_23 rfl (Nat.le_of_ble_eq_true rfl) ⟨by omega, by omega⟩ ?_
      refine j_iload_n dX2_move_24 rfl ?_
      refine j_iadd dX2_move_25 ?_
      refine t_ast 8 (by decide) (n := 192) g1 [(12, (upz g1 ((8 * t) + k) ((g1 ((8 * t) + k)) + mi))), (13, g2)] dX2_move_26 rfl (Nat.le_of_ble_eq_true rfl) ⟨by omega, by omega⟩ rfl rfl ?_
      refine m_aload_n dX2_move_27 rfl ?_
      refine t_geta 13 9 (by decide) dX2_move_28 q3106 rfl ?_
      refine j_bipush dX2_move_31 (by decide) ?_
      refine j_iload_n dX2_move_33 rfl ?_
      refine j_imul dX2_move_34 ?_
      refine j_iload_n dX2_move_35 rfl ?_
      refine j_iadd dX2_move_36 ?_
      refine m_dup2 dX2_move_37 rfl rfl ?_
      refine t_ald 9 (by decide) (n := 192) g2 dX2_move_38 rfl (Nat.le_of_ble_eq_true rfl) ⟨by omega, by omega⟩ ?_
      refine j_iload_n dX2_move_39 rfl ?_
      refine j_iadd dX2_move_40 ?_
      refine t_ast 9 (by decide) (n := 192) g2 [(12, (upz g1 ((8 * t) + k) ((g1 ((8 * t) + k)) + mi))), (13, (upz g2 ((8 * t) + k) ((g2 ((8 * t) + k)) + mi)))] dX2_move_41 rfl (Nat.le_of_ble_eq_true rfl) ⟨by omega, by omega⟩ rfl rfl ?_
      refine j_iinc [some (.ref m), some (vi t), some (vi mi), some (vi (k + 1))] dX2_move_42 rfl (by decide) rfl rfl ?_
      refine m_goto 2 dX2_move_45 (by decide) ?_
      exact ih2 _ (by omega) _ _ _ rfl (by omega) (by rw [h1]; exact mvA_s hk.1) (by rw [h2]; exact mvA_s hk.1)
  refine mw_tov (b := ovr sg [] [(12, (sg.2 12))]) (ovr_addA _ _ _ 12) ?_
  refine mw_tov (b := ovr sg [] [(12, (sg.2 12)), (13, (sg.2 13))]) (ovr_addA _ _ _ 13) ?_
  exact L2 _ _ _ _ rfl (by omega) mvA_0 mvA_0
theorem c_shift (K : KT) (d : Nat) (h : MH) (m : Nat) (sg : TS) (t : Int) (mi : Int) (hd : 2 ≤ d) (hT : TB sg) (i_t : In t) (i_mi : In mi) (hC : clOk sg) : Mt K yiX2_shift d [.ref m, vi t, vi mi] (tov K h m sg) (Rz fun v h' => (¬ (0 ≤ t ∧ t ≤ sg.1 8 - 1) ∧ h' = tov K h m (ovr sg [(0, 1)] [])) ∨ ((0 ≤ t ∧ t ≤ sg.1 8 - 1) ∧ (¬ (-60 ≤ mi ∧ mi ≤ 60) ∨ ∃ c, 0 ≤ c ∧ c < sg.2 10 t ∧ shB sg t mi c) ∧ h' = tov K h m (ovr sg [(0, 2)] [])) ∨ ((0 ≤ t ∧ t ≤ sg.1 8 - 1) ∧ ((-60 ≤ mi ∧ mi ≤ 60) ∧ ∀ c, 0 ≤ c → c < sg.2 10 t → ¬ shB sg t mi c) ∧ h' = tov K h m (ovr sg [(0, 0)] [(12, mvA (sg.2 12) t (sg.2 10 t) mi), (13, mvA (sg.2 13) t (sg.2 10 t) mi)]) ∧ v = sg.2 13 (8 * t) + mi)) := by
  have := i_t.1; have := i_t.2; have := i_mi.1; have := i_mi.2
  have f8 := of8 (hT.1 8)
  have hCt := hC t
  refine mt_ofQ (by decide) (Nat.le_of_ble_eq_true rfl) (fun Q hQ => ?_)
  show MW K yiX2_shift d (tov K h m (ovr sg [] [])) 0 [some (.ref m), some (vi t), some (vi mi)] [] Q
  refine m_aload_n dX2_shift_0 rfl ?_
  refine j_iload_n dX2_shift_1 rfl ?_
  refine t_inv [(vi t)] dX2_shift_2 q3321 q3323 qs82 q3324 rfl (c_isNoTrip K 1 h m _ _ (by omega) (hT.1 8) ⟨by omega, by omega⟩) pdX2_isNoTrip ⟨Nat.le_of_ble_eq_true rfl, by decide, by omega⟩ (kk_z fun r2 h2 q2 => ?_) kx_z
  obtain ⟨rfl, rfl⟩ := q2
  refine mw_tov (b := ovr sg [(0, (if ¬ (0 ≤ t ∧ t ≤ (sg.1 8) - 1) then 1 else 0))] []) (ovr_ovr _ _ _ _ _) ?_
  refine mw_top (x' := bz (¬ (0 ≤ t ∧ t ≤ (sg.1 8) - 1))) rfl ?_
  refine j_bz_ne 41 dX2_shift_5 (by decide) (fun c5 => ?_) (fun c5 => ?_)
  · refine mw_tov (b := ovr sg [(0, 1)] []) (by rw [if_pos c5]) ?_
    refine j_iconst dX2_shift_41 ?_
    subst hQ; exact j_iret dX2_shift_42 rfl (by first | exact Or.inl ⟨by omega, rfl⟩ | exact Or.inr (Or.inl ⟨by omega, Or.inl (by omega), rfl⟩) | exact Or.inr (Or.inl ⟨by omega, Or.inr (y23.mp (by omega)), rfl⟩))
  · refine mw_tov (b := ovr sg [(0, 0)] []) (by rw [if_neg c5]) ?_
    refine m_aload_n dX2_shift_8 rfl ?_
    refine j_iload_n dX2_shift_9 rfl ?_
    refine j_bipush dX2_shift_10 (by decide) ?_
    refine j_bipush dX2_shift_12 (by decide) ?_
    refine m_invS [(vi mi), (vi (-60)), (vi 60)] dX2_shift_14 q3253 q3254 q133 q3255 (c_isIn K 0 _ _ _ _ ⟨by omega, by omega⟩ ⟨by omega, by omega⟩ ⟨by omega, by omega⟩) pdX2_isIn ⟨Nat.le_of_ble_eq_true rfl, by decide, by omega⟩ (kk_z fun r14 h14 q14 => ?_) kx_z
    obtain ⟨rfl, rfl⟩ := q14
    refine mw_top (x' := bz ((-60) ≤ mi ∧ mi ≤ 60)) rfl ?_
    refine j_bz_eq 29 dX2_shift_17 (by decide) (fun c17 => ?_) (fun c17 => ?_)
    · refine j_iconst dX2_shift_29 ?_
      refine m_goto 34 dX2_shift_30 (by decide) ?_
      refine j_iconst dX2_shift_34 ?_
      refine t_inv [(vi 1), (vi 2)] dX2_shift_35 q3256 q3258 qs76 q3259 rfl (c_isThrown1 K 0 h m _ _) pdX2_isThrown ⟨Nat.le_of_ble_eq_true rfl, by decide, by omega⟩ (kk_z fun r35 h35 q35 => ?_) kx_z
      obtain ⟨rfl, rfl⟩ := q35
      refine mw_tov (b := ovr sg [(0, 2)] []) (ovr_ovr _ _ _ _ _) ?_
      refine j_if_eq 43 dX2_shift_38 (by decide) ⟨by decide, by decide⟩ (fun c => absurd c (by decide)) (fun _ => ?_)
      refine j_iconst dX2_shift_41 ?_
      subst hQ; exact j_iret dX2_shift_42 rfl (by first | exact Or.inl ⟨by omega, rfl⟩ | exact Or.inr (Or.inl ⟨by omega, Or.inl (by omega), rfl⟩) | exact Or.inr (Or.inl ⟨by omega, Or.inr (y23.mp (by omega)), rfl⟩))
    · refine m_aload_n dX2_shift_20 rfl ?_
      refine j_iload_n dX2_shift_21 rfl ?_
      refine j_iload_n dX2_shift_22 rfl ?_
      refine t_inv [(vi t), (vi mi)] dX2_shift_23 q3349 q3351 qs84 q3352 rfl (c_isShiftWrong K 1 h m _ _ _ (by omega) (hT.ovr (fa1 (mf0 (v := 0) ⟨by first | decide | omega | (split <;> omega) | assumption, by first | decide | omega | (split <;> omega) | assumption⟩) fa0) fa0) ⟨by omega, by omega⟩ ⟨by omega, by omega⟩ ⟨by omega, by omega⟩ ⟨by omega, by omega⟩) pdX2_isShiftWrong ⟨Nat.le_of_ble_eq_true rfl, by decide, by omega⟩ (kk_z fun r23 h23 q23 => ?_) kx_z
      obtain ⟨rfl, x23, y23⟩ := q23
      refine j_if_eq 33 dX2_shift_26 (by decide) ⟨by omega, by omega⟩ (fun c26 => ?_) (fun c26 => ?_)
      · refine j_iconst dX2_shift_33 ?_
        refine j_iconst dX2_shift_34 ?_
        refine t_inv [(vi 0), (vi 2)] dX2_shift_35 q3256 q3258 qs76 q3259 rfl (c_isThrown0 K 0 h m _ _) pdX2_isThrown ⟨Nat.le_of_ble_eq_true rfl, by decide, by omega⟩ (kk_z fun r35 h35 q35 => ?_) kx_z
        obtain ⟨rfl, rfl⟩ := q35
        refine mw_tov (b := ovr sg [(0, 0)] []) (ovr_ovr _ _ _ _ _) ?_
        refine j_if_eq 43 dX2_shift_38 (by decide) ⟨by decide, by decide⟩ (fun _ => ?_) (fun c => absurd c (by decide))
        refine m_aload_n dX2_shift_43 rfl ?_
        refine j_iload_n dX2_shift_44 rfl ?_
        refine j_iload_n dX2_shift_45 rfl ?_
        refine t_inv [(vi t), (vi mi)] dX2_shift_46 q3353 q3355 qs85 q3356 rfl (c_move K 0 h m _ _ _ (by omega) (hT.ovr (fa1 (mf0 (v := 0) ⟨by first | decide | omega | (split <;> omega) | assumption, by first | decide | omega | (split <;> omega) | assumption⟩) fa0) fa0) ⟨by omega, by omega⟩ ⟨by omega, by omega⟩ ⟨by omega, by omega⟩) pdX2_move ⟨Nat.le_of_ble_eq_true rfl, by decide, by omega⟩ (kk_v fun h46 q46 => ?_) kx_v
        obtain rfl := q46
        refine mw_tov (b := ovr sg [(0, 0)] [(12, (mvA (sg.2 12) t ((sg.2 10) t) mi)), (13, (mvA (sg.2 13) t ((sg.2 10) t) mi))]) (ovr_ovr _ _ _ _ _) ?_
        refine m_aload_n dX2_shift_49 rfl ?_
        refine t_geta 13 9 (by decide) dX2_shift_50 q3106 rfl ?_
        refine j_bipush dX2_shift_53 (by decide) ?_
        refine j_iload_n dX2_shift_55 rfl ?_
        refine j_imul dX2_shift_56 ?_
        refine t_ald 9 (by decide) (n := 192) (mvA (sg.2 13) t ((sg.2 10) t) mi) dX2_shift_57 rfl (Nat.le_of_ble_eq_true rfl) ⟨by omega, by omega⟩ ?_
        subst hQ; exact j_iret dX2_shift_58 rfl (Or.inr (Or.inr ⟨by omega, ⟨by omega, fun c a b e => by { have := y23.mpr ⟨c, a, b, e⟩; omega }⟩, rfl, by unfold mvA; rw [if_pos (by omega)]⟩))
      · refine j_iconst dX2_shift_29 ?_
        refine m_goto 34 dX2_shift_30 (by decide) ?_
        refine j_iconst dX2_shift_34 ?_
        refine t_inv [(vi 1), (vi 2)] dX2_shift_35 q3256 q3258 qs76 q3259 rfl (c_isThrown1 K 0 h m _ _) pdX2_isThrown ⟨Nat.le_of_ble_eq_true rfl, by decide, by omega⟩ (kk_z fun r35 h35 q35 => ?_) kx_z
        obtain ⟨rfl, rfl⟩ := q35
        refine mw_tov (b := ovr sg [(0, 2)] []) (ovr_ovr _ _ _ _ _) ?_
        refine j_if_eq 43 dX2_shift_38 (by decide) ⟨by decide, by decide⟩ (fun c => absurd c (by decide)) (fun _ => ?_)
        refine j_iconst dX2_shift_41 ?_
        subst hQ; exact j_iret dX2_shift_42 rfl (by first | exact Or.inl ⟨by omega, rfl⟩ | exact Or.inr (Or.inl ⟨by omega, Or.inl (by omega), rfl⟩) | exact Or.inr (Or.inl ⟨by omega, Or.inr (y23.mp (by omega)), rfl⟩))
def dgc (n : Int) : Int := if 999 < n then 4 else if 99 < n then 3 else if 9 < n then 2 else 1
theorem dgc_b (n : Int) : 1 ≤ dgc n ∧ dgc n ≤ 4 := by unfold dgc; (repeat' split) <;> omega
def tnA (f : Int → Int) (s mn n k : Int) : Int → Int := fun q => if s + k < q ∧ q < s + mn then 48 + n / 10 ^ (s + mn - 1 - q).toNat % 10 else f q
theorem tnA_0 {f : Int → Int} {s mn n : Int} : f = tnA f s mn n (mn - 1) := by funext q; unfold tnA; rw [if_neg (by omega)]
theorem tnA_s {f : Int → Int} {s mn n k : Int} (hk : k < mn) : upz (tnA f s mn n k) (s + k) (48 + n / 10 ^ (mn - 1 - k).toNat % 10) = tnA f s mn n (k + -1) := by
  funext q; unfold upz tnA
  by_cases e : q = s + k
  · have e2 : s + mn - 1 - q = mn - 1 - k := by omega
    rw [if_pos e, if_pos (by omega), e2]
  · rw [if_neg e]
    by_cases h2 : s + k < q ∧ q < s + mn
    · rw [if_pos h2, if_pos (by omega)]
    · rw [if_neg h2, if_neg (by omega)]
theorem div10 {n k mn : Int} (h0 : 0 ≤ n) (hk : 0 ≤ k ∧ k < mn) : n / 10 ^ (mn - 1 - k).toNat / 10 = n / 10 ^ (mn - 1 - (k + -1)).toNat := by
  have e : (mn - 1 - (k + -1)).toNat = (mn - 1 - k).toNat + 1 := by omega
  rw [e, Int.pow_succ, Int.ediv_ediv_of_nonneg (Int.le_of_lt (Int.pow_pos (by omega)))]
theorem c_typeNumber (K : KT) (d : Nat) (h : MH) (m : Nat) (sg : TS) (n : Int) (hd : 2 ≤ d) (hT : TB sg) (i_n : In n)  : Mt K yiX2_typeNumber d [.ref m, vi n] (tov K h m sg) (Rz fun v h' => (¬ (0 ≤ n ∧ n ≤ 9999) ∧ h' = tov K h m (ovr sg [(0, 1)] [])) ∨ ((0 ≤ n ∧ n ≤ 9999) ∧ 80 < sg.1 19 + dgc n ∧ h' = tov K h m (ovr sg [(0, 2)] [])) ∨ ((0 ≤ n ∧ n ≤ 9999) ∧ sg.1 19 + dgc n ≤ 80 ∧ h' = tov K h m (ovr sg [(0, 0), (19, sg.1 19 + dgc n)] [(20, tnA (sg.2 20) (sg.1 19) (dgc n) n (-1))]) ∧ v = sg.1 19 + dgc n)) := by
  have := i_n.1; have := i_n.2
  have f19 := of19 (hT.1 19)
  have hmb := dgc_b n
  refine mt_ofQ (by decide) (Nat.le_of_ble_eq_true rfl) (fun Q hQ => ?_)
  show MW K yiX2_typeNumber d (tov K h m (ovr sg [] [])) 0 [some (.ref m), some (vi n), none, none, none] [] Q
  have f19 := of19 (hT.1 19)
  have J32 : True → MW K yiX2_typeNumber d (tov K h m (ovr sg [] [])) 32 [some (.ref m), some (vi n), none, none, none] [(vi (dgc n))] Q := by
    intro hj0
    refine j_istore_n [some (.ref m), some (vi n), some (vi (dgc n)), none, none] dX2_typeNumber_32 (by decide) rfl rfl ?_
    refine m_aload_n dX2_typeNumber_33 rfl ?_
    refine j_iload_n dX2_typeNumber_34 rfl ?_
    refine j_iconst dX2_typeNumber_35 ?_
    refine j_sipush dX2_typeNumber_36 (by decide) ?_
    refine m_invS [(vi n), (vi 0), (vi 9999)] dX2_typeNumber_39 q3253 q3254 q133 q3255 (c_isIn K 0 _ _ _ _ ⟨by omega, by omega⟩ ⟨by omega, by omega⟩ ⟨by omega, by omega⟩) pdX2_isIn ⟨Nat.le_of_ble_eq_true rfl, by decide, by omega⟩ (kk_z fun r39 h39 q39 => ?_) kx_z
    obtain ⟨rfl, rfl⟩ := q39
    refine mw_top (x' := bz (0 ≤ n ∧ n ≤ 9999)) rfl ?_
    refine j_bz_ne 49 dX2_typeNumber_42 (by decide) (fun c42 => ?_) (fun c42 => ?_)
    · refine j_iconst dX2_typeNumber_49 ?_
      refine j_iconst dX2_typeNumber_50 ?_
      refine t_inv [(vi 0), (vi 1)] dX2_typeNumber_51 q3256 q3258 qs76 q3259 rfl (c_isThrown0 K 0 h m _ _) pdX2_isThrown ⟨Nat.le_of_ble_eq_true rfl, by decide, by omega⟩ (kk_z fun r51 h51 q51 => ?_) kx_z
      obtain ⟨rfl, rfl⟩ := q51
      refine mw_tov (b := ovr sg [(0, 0)] []) (ovr_ovr _ _ _ _ _) ?_
      refine j_if_ne 81 dX2_typeNumber_54 (by decide) ⟨by decide, by decide⟩ (fun c => absurd c (by decide)) (fun _ => ?_)
      refine m_aload_n dX2_typeNumber_57 rfl ?_
      refine m_aload_n dX2_typeNumber_58 rfl ?_
      refine t_geti 19 (by decide) (sg.1 19) dX2_typeNumber_59 q3112 rfl ?_
      refine j_iload_n dX2_typeNumber_62 rfl ?_
      refine j_iadd dX2_typeNumber_63 ?_
      refine j_bipush dX2_typeNumber_64 (by decide) ?_
      refine j_icmp_le 73 dX2_typeNumber_66 (by decide) ⟨⟨by omega, by omega⟩, ⟨by omega, by omega⟩⟩ (fun c66 => ?_) (fun c66 => ?_)
      · refine j_iconst dX2_typeNumber_73 ?_
        refine j_iconst dX2_typeNumber_74 ?_
        refine t_inv [(vi 0), (vi 2)] dX2_typeNumber_75 q3256 q3258 qs76 q3259 rfl (c_isThrown0 K 0 h m _ _) pdX2_isThrown ⟨Nat.le_of_ble_eq_true rfl, by decide, by omega⟩ (kk_z fun r75 h75 q75 => ?_) kx_z
        obtain ⟨rfl, rfl⟩ := q75
        refine mw_tov (b := ovr sg [(0, 0)] []) (ovr_ovr _ _ _ _ _) ?_
        refine j_if_eq 83 dX2_typeNumber_78 (by decide) ⟨by decide, by decide⟩ (fun _ => ?_) (fun c => absurd c (by decide))
        refine j_iload_n dX2_typeNumber_83 rfl ?_
        refine j_istore_n [some (.ref m), some (vi n), some (vi (dgc n)), some (vi n), none] dX2_typeNumber_84 (by decide) rfl rfl ?_
        refine j_iload_n dX2_typeNumber_85 rfl ?_
        refine j_iconst dX2_typeNumber_86 ?_
        refine j_isub dX2_typeNumber_87 ?_
        refine j_istore [some (.ref m), some (vi n), some (vi (dgc n)), some (vi n), some (vi ((dgc n) - 1))] dX2_typeNumber_88 (by decide) rfl rfl ?_
        have L90 : ∀ (N : Nat) (l k : Int) (g : Int → Int), (k + 1).toNat = N → (-1 ≤ k ∧ k < dgc n) → (l = n / 10 ^ (dgc n - 1 - k).toNat ∧ 0 ≤ l ∧ l ≤ 9999) → (g = tnA (sg.2 20) (sg.1 19) (dgc n) n k) → MW K yiX2_typeNumber d (tov K h m (ovr sg [(0, 0)] [(20, g)])) 90 [some (.ref m), some (vi n), some (vi (dgc n)), some (vi l), some (vi k)] [] Q := by
          intro N
          induction N using Nat.strongRecOn with
          | _ N ih90 =>
          intro l k g hN90 hk hl hg
          refine j_iload dX2_typeNumber_90 rfl ?_
          refine j_if_lt 125 dX2_typeNumber_92 (by decide) ⟨by omega, by omega⟩ (fun c92 => ?_) (fun c92 => ?_)
          · refine m_aload_n dX2_typeNumber_125 rfl ?_
            refine m_dup dX2_typeNumber_126 rfl ?_
            refine t_geti 19 (by decide) (sg.1 19) dX2_typeNumber_127 q3112 rfl ?_
            refine j_iload_n dX2_typeNumber_130 rfl ?_
            refine j_iadd dX2_typeNumber_131 ?_
            refine t_puti 19 (by decide) [(0, 0), (19, ((sg.1 19) + (dgc n)))] dX2_typeNumber_132 q3112 rfl rfl rfl rfl ?_
            refine m_aload_n dX2_typeNumber_135 rfl ?_
            refine t_geti 19 (by decide) ((sg.1 19) + (dgc n)) dX2_typeNumber_136 q3112 rfl ?_
            subst hQ; exact j_iret dX2_typeNumber_139 rfl (by { have e : k = -1 := by { omega }; subst e; rw [← hg]; exact Or.inr (Or.inr ⟨by omega, by omega, rfl, rfl⟩) })
          · refine m_aload_n dX2_typeNumber_95 rfl ?_
            refine t_geta 20 14 (by decide) dX2_typeNumber_96 q3113 rfl ?_
            refine m_aload_n dX2_typeNumber_99 rfl ?_
            refine t_geti 19 (by decide) (sg.1 19) dX2_typeNumber_100 q3112 rfl ?_
            refine j_iload dX2_typeNumber_103 rfl ?_
            refine j_iadd dX2_typeNumber_105 ?_
            refine j_bipush dX2_typeNumber_106 (by decide) ?_
            refine j_iload_n dX2_typeNumber_108 rfl ?_
            refine j_bipush dX2_typeNumber_109 (by decide) ?_
            refine j_irem dX2_typeNumber_111 ⟨⟨by omega, by omega⟩, ⟨by omega, by omega⟩⟩ ⟨by omega, by omega⟩ ?_
            refine j_iadd dX2_typeNumber_112 ?_
            refine t_ast 14 (by decide) (n := 80) g [(20, (upz g ((sg.1 19) + k) (48 + (l % 10))))] dX2_typeNumber_113 rfl (Nat.le_of_ble_eq_true rfl) ⟨by omega, by omega⟩ rfl rfl ?_
            refine j_iload_n dX2_typeNumber_114 rfl ?_
            refine j_bipush dX2_typeNumber_115 (by decide) ?_
            refine j_idiv dX2_typeNumber_117 ⟨⟨by omega, by omega⟩, ⟨by omega, by omega⟩⟩ ⟨by omega, by omega⟩ ?_
            refine j_istore_n [some (.ref m), some (vi n), some (vi (dgc n)), some (vi (l / 10)), some (vi k)] dX2_typeNumber_118 (by decide) rfl rfl ?_
            refine j_iinc [some (.ref m), some (vi n), some (vi (dgc n)), some (vi (l / 10)), some (vi (k + (-1)))] dX2_typeNumber_119 rfl (by decide) rfl rfl ?_
            refine m_goto 90 dX2_typeNumber_122 (by decide) ?_
            exact ih90 _ (by omega) _ _ _ rfl (by omega) ⟨by rw [hl.1, div10 (by omega) (by omega)], by omega, by omega⟩ (by rw [hg, hl.1]; exact tnA_s (by omega))
        refine mw_tov (b := ovr sg [(0, 0)] [(20, (sg.2 20))]) (ovr_addA _ _ _ 20) ?_
        exact L90 _ _ _ _ rfl (by omega) ⟨by rw [show dgc n - 1 - (dgc n - 1) = 0 by omega]; simp, by omega, by omega⟩ tnA_0
      · refine j_iconst dX2_typeNumber_69 ?_
        refine m_goto 74 dX2_typeNumber_70 (by decide) ?_
        refine j_iconst dX2_typeNumber_74 ?_
        refine t_inv [(vi 1), (vi 2)] dX2_typeNumber_75 q3256 q3258 qs76 q3259 rfl (c_isThrown1 K 0 h m _ _) pdX2_isThrown ⟨Nat.le_of_ble_eq_true rfl, by decide, by omega⟩ (kk_z fun r75 h75 q75 => ?_) kx_z
        obtain ⟨rfl, rfl⟩ := q75
        refine mw_tov (b := ovr sg [(0, 2)] []) (ovr_ovr _ _ _ _ _) ?_
        refine j_if_eq 83 dX2_typeNumber_78 (by decide) ⟨by decide, by decide⟩ (fun c => absurd c (by decide)) (fun _ => ?_)
        refine j_iconst dX2_typeNumber_81 ?_
        subst hQ; exact j_iret dX2_typeNumber_82 rfl (by first | exact Or.inl ⟨(by first | omega | rfl | assumption), (by first | omega | rfl | assumption)⟩ | exact Or.inr (Or.inl ⟨(by first | omega | rfl | assumption), (by first | omega | rfl | assumption), (by first | omega | rfl | assumption)⟩) | exact Or.inr (Or.inr (⟨(by first | omega | rfl | assumption), (by first | omega | rfl | assumption), (by first | omega | rfl | assumption), (by first | omega | rfl | assumption)⟩)))
    · refine j_iconst dX2_typeNumber_45 ?_
      refine m_goto 50 dX2_typeNumber_46 (by decide) ?_
      refine j_iconst dX2_typeNumber_50 ?_
      refine t_inv [(vi 1), (vi 1)] dX2_typeNumber_51 q3256 q3258 qs76 q3259 rfl (c_isThrown1 K 0 h m _ _) pdX2_isThrown ⟨Nat.le_of_ble_eq_true rfl, by decide, by omega⟩ (kk_z fun r51 h51 q51 => ?_) kx_z
      obtain ⟨rfl, rfl⟩ := q51
      refine mw_tov (b := ovr sg [(0, 1)] []) (ovr_ovr _ _ _ _ _) ?_
      refine j_if_ne 81 dX2_typeNumber_54 (by decide) ⟨by decide, by decide⟩ (fun _ => ?_) (fun c => absurd c (by decide))
      refine j_iconst dX2_typeNumber_81 ?_
      subst hQ; exact j_iret dX2_typeNumber_82 rfl (by first | exact Or.inl ⟨(by first | omega | rfl | assumption), (by first | omega | rfl | assumption)⟩ | exact Or.inr (Or.inl ⟨(by first | omega | rfl | assumption), (by first | omega | rfl | assumption), (by first | omega | rfl | assumption)⟩) | exact Or.inr (Or.inr (⟨(by first | omega | rfl | assumption), (by first | omega | rfl | assumption), (by first | omega | rfl | assumption), (by first | omega | rfl | assumption)⟩)))
  refine j_iload_n dX2_typeNumber_0 rfl ?_
  refine j_sipush dX2_typeNumber_1 (by decide) ?_
  refine j_icmp_le 11 dX2_typeNumber_4 (by decide) ⟨⟨by omega, by omega⟩, ⟨by omega, by omega⟩⟩ (fun c4 => ?_) (fun c4 => ?_)
  · refine j_iload_n dX2_typeNumber_11 rfl ?_
    refine j_bipush dX2_typeNumber_12 (by decide) ?_
    refine j_icmp_le 21 dX2_typeNumber_14 (by decide) ⟨⟨by omega, by omega⟩, ⟨by omega, by omega⟩⟩ (fun c14 => ?_) (fun c14 => ?_)
    · refine j_iload_n dX2_typeNumber_21 rfl ?_
      refine j_bipush dX2_typeNumber_22 (by decide) ?_
      refine j_icmp_le 31 dX2_typeNumber_24 (by decide) ⟨⟨by omega, by omega⟩, ⟨by omega, by omega⟩⟩ (fun c24 => ?_) (fun c24 => ?_)
      · refine j_iconst dX2_typeNumber_31 ?_
        refine mw_top (x' := dgc n) (by unfold dgc; (repeat' split) <;> omega) ?_
        exact J32  trivial
      · refine j_iconst dX2_typeNumber_27 ?_
        refine m_goto 32 dX2_typeNumber_28 (by decide) ?_
        refine mw_top (x' := dgc n) (by unfold dgc; (repeat' split) <;> omega) ?_
        exact J32  trivial
    · refine j_iconst dX2_typeNumber_17 ?_
      refine m_goto 32 dX2_typeNumber_18 (by decide) ?_
      refine mw_top (x' := dgc n) (by unfold dgc; (repeat' split) <;> omega) ?_
      exact J32  trivial
  · refine j_iconst dX2_typeNumber_7 ?_
    refine m_goto 32 dX2_typeNumber_8 (by decide) ?_
    refine mw_top (x' := dgc n) (by unfold dgc; (repeat' split) <;> omega) ?_
    exact J32  trivial
theorem c_late (K : KT) (d : Nat) (h : MH) (m : Nat) (sg : TS) (y : Int) (t : Int) (c : Int) (mi : Int) (hd : 3 ≤ d) (hT : TB sg) (i_y : In y) (i_t : In t) (i_c : In c) (i_mi : In mi)  : Mt K yiX2_late d [.ref m, vi y, vi t, vi c, vi mi] (tov K h m sg) (Rz fun v h' => (¬ ((0 ≤ t ∧ t ≤ sg.1 8 - 1) ∧ (0 ≤ c ∧ c ≤ sg.2 10 t - 1)) ∧ h' = tov K h m (ovr sg [(0, 1)] [])) ∨ (((0 ≤ t ∧ t ≤ sg.1 8 - 1) ∧ (0 ≤ c ∧ c ≤ sg.2 10 t - 1)) ∧ ¬ ((0 ≤ y ∧ y ≤ 27) ∧ 0 ≤ mi ∧ mi ≤ 120) ∧ h' = tov K h m (ovr sg [(0, 2)] [])) ∨ (((0 ≤ t ∧ t ≤ sg.1 8 - 1) ∧ (0 ≤ c ∧ c ≤ sg.2 10 t - 1)) ∧ ((0 ≤ y ∧ y ≤ 27) ∧ 0 ≤ mi ∧ mi ≤ 120) ∧ (latAt (sg.2 15) (sg.2 16) y t (sg.1 14).toNat = -1 ∧ sg.1 14 = 12 ∧ mi ≠ 0) ∧ h' = tov K h m (ovr sg [(0, 3)] [])) ∨ (((0 ≤ t ∧ t ≤ sg.1 8 - 1) ∧ (0 ≤ c ∧ c ≤ sg.2 10 t - 1)) ∧ ((0 ≤ y ∧ y ≤ 27) ∧ mi = 0) ∧ latAt (sg.2 15) (sg.2 16) y t (sg.1 14).toNat = -1 ∧ h' = tov K h m (ovr sg [(0, 0)] []) ∧ v = 0) ∨ (((0 ≤ t ∧ t ≤ sg.1 8 - 1) ∧ (0 ≤ c ∧ c ≤ sg.2 10 t - 1)) ∧ ((0 ≤ y ∧ y ≤ 27) ∧ mi = 0) ∧ latAt (sg.2 15) (sg.2 16) y t (sg.1 14).toNat ≠ -1 ∧ h' = tov K h m (ovr sg [(0, 0), (14, sg.1 14 - 1)] [(15, upz (sg.2 15) (latAt (sg.2 15) (sg.2 16) y t (sg.1 14).toNat) (sg.2 15 (sg.1 14 - 1))), (16, upz (sg.2 16) (latAt (sg.2 15) (sg.2 16) y t (sg.1 14).toNat) (sg.2 16 (sg.1 14 - 1))), (17, upz (sg.2 17) (latAt (sg.2 15) (sg.2 16) y t (sg.1 14).toNat) (sg.2 17 (sg.1 14 - 1))), (18, upz (sg.2 18) (latAt (sg.2 15) (sg.2 16) y t (sg.1 14).toNat) (sg.2 18 (sg.1 14 - 1)))]) ∧ v = sg.2 18 (latAt (sg.2 15) (sg.2 16) y t (sg.1 14).toNat)) ∨ (((0 ≤ t ∧ t ≤ sg.1 8 - 1) ∧ (0 ≤ c ∧ c ≤ sg.2 10 t - 1)) ∧ ((0 ≤ y ∧ y ≤ 27) ∧ 0 < mi ∧ mi ≤ 120) ∧ (latAt (sg.2 15) (sg.2 16) y t (sg.1 14).toNat = -1 ∧ sg.1 14 < 12) ∧ h' = tov K h m (ovr sg [(0, 0), (14, sg.1 14 + 1)] [(15, upz (sg.2 15) (sg.1 14) y), (16, upz (sg.2 16) (sg.1 14) t), (17, upz (sg.2 17) (sg.1 14) c), (18, upz (sg.2 18) (sg.1 14) mi)]) ∧ v = 0) ∨ (((0 ≤ t ∧ t ≤ sg.1 8 - 1) ∧ (0 ≤ c ∧ c ≤ sg.2 10 t - 1)) ∧ ((0 ≤ y ∧ y ≤ 27) ∧ 0 < mi ∧ mi ≤ 120) ∧ latAt (sg.2 15) (sg.2 16) y t (sg.1 14).toNat ≠ -1 ∧ h' = tov K h m (ovr sg [(0, 0)] [(15, upz (sg.2 15) (latAt (sg.2 15) (sg.2 16) y t (sg.1 14).toNat) y), (16, upz (sg.2 16) (latAt (sg.2 15) (sg.2 16) y t (sg.1 14).toNat) t), (17, upz (sg.2 17) (latAt (sg.2 15) (sg.2 16) y t (sg.1 14).toNat) c), (18, upz (sg.2 18) (latAt (sg.2 15) (sg.2 16) y t (sg.1 14).toNat) mi)]) ∧ v = sg.2 18 (latAt (sg.2 15) (sg.2 16) y t (sg.1 14).toNat))) := by
  have := i_y.1; have := i_y.2; have := i_t.1; have := i_t.2; have := i_c.1; have := i_c.2; have := i_mi.1; have := i_mi.2
  have f8 := of8 (hT.1 8)
  have f14 := of14 (hT.1 14)
  have b10 := oa10 (hT.2 10) t
  have bl := latAt_b (ld := sg.2 15) (lt := sg.2 16) (day := y) (trip := t) (sg.1 14).toNat
  refine mt_ofQ (by decide) (Nat.le_of_ble_eq_true rfl) (fun Q hQ => ?_)
  show MW K yiX2_late d (tov K h m (ovr sg [] [])) 0 [some (.ref m), some (vi y), some (vi t), some (vi c), some (vi mi), none, none] [] Q
  have f14 := of14 (hT.1 14)
  refine m_aload_n dX2_late_0 rfl ?_
  refine j_iload_n dX2_late_1 rfl ?_
  refine j_iload_n dX2_late_2 rfl ?_
  refine t_inv [(vi t), (vi c)] dX2_late_3 q3337 q3339 qs83 q3340 rfl (c_isNoCall K 2 h m _ _ _ (by omega) hT ⟨by omega, by omega⟩ ⟨by omega, by omega⟩) pdX2_isNoCall ⟨Nat.le_of_ble_eq_true rfl, by decide, by omega⟩ (kk_z fun r3 h3 q3 => ?_) kx_z
  obtain ⟨rfl, rfl⟩ := q3
  refine mw_tov (b := ovr sg [(0, (if ¬ (0 ≤ t ∧ t ≤ (sg.1 8) - 1) ∨ ¬ (0 ≤ c ∧ c ≤ (sg.2 10) t - 1) then 1 else 0))] []) (ovr_ovr _ _ _ _ _) ?_
  refine mw_top (x' := bz (¬ (0 ≤ t ∧ t ≤ (sg.1 8) - 1) ∨ ¬ (0 ≤ c ∧ c ≤ (sg.2 10) t - 1))) rfl ?_
  refine j_bz_ne 43 dX2_late_6 (by decide) (fun c6 => ?_) (fun c6 => ?_)
  · refine mw_tov (b := ovr sg [(0, 1)] []) (by rw [if_pos c6]) ?_
    refine j_iconst dX2_late_43 ?_
    subst hQ; exact j_iret dX2_late_44 rfl (by first | exact Or.inl ⟨(by first | omega | rfl | assumption), (by first | omega | rfl | assumption)⟩ | exact Or.inr (Or.inl ⟨(by first | omega | rfl | assumption), (by first | omega | rfl | assumption), (by first | omega | rfl | assumption)⟩) | exact Or.inr (Or.inr (Or.inl ⟨(by first | omega | rfl | assumption), (by first | omega | rfl | assumption), (by first | omega | rfl | assumption), (by first | omega | rfl | assumption)⟩)) | exact Or.inr (Or.inr (Or.inr (Or.inl ⟨(by first | omega | rfl | assumption), (by first | omega | rfl | assumption), (by first | omega | rfl | assumption), (by first | omega | rfl | assumption), (by first | omega | rfl | assumption)⟩))) | exact Or.inr (Or.inr (Or.inr (Or.inr (Or.inl ⟨(by first | omega | rfl | assumption), (by first | omega | rfl | assumption), (by first | omega | rfl | assumption), (by first | omega | rfl | assumption), (by first | omega | rfl | assumption)⟩)))) | exact Or.inr (Or.inr (Or.inr (Or.inr (Or.inr (Or.inl ⟨(by first | omega | rfl | assumption), (by first | omega | rfl | assumption), (by first | omega | rfl | assumption), (by first | omega | rfl | assumption), (by first | omega | rfl | assumption)⟩))))) | exact Or.inr (Or.inr (Or.inr (Or.inr (Or.inr (Or.inr (⟨(by first | omega | rfl | assumption), (by first | omega | rfl | assumption), (by first | omega | rfl | assumption), (by first | omega | rfl | assumption), (by first | omega | rfl | assumption)⟩)))))))
  · refine mw_tov (b := ovr sg [(0, 0)] []) (by rw [if_neg c6]) ?_
    refine m_aload_n dX2_late_9 rfl ?_
    refine j_iload_n dX2_late_10 rfl ?_
    refine j_iconst dX2_late_11 ?_
    refine j_bipush dX2_late_12 (by decide) ?_
    refine m_invS [(vi y), (vi 0), (vi 27)] dX2_late_14 q3253 q3254 q133 q3255 (c_isIn K 0 _ _ _ _ ⟨by omega, by omega⟩ ⟨by omega, by omega⟩ ⟨by omega, by omega⟩) pdX2_isIn ⟨Nat.le_of_ble_eq_true rfl, by decide, by omega⟩ (kk_z fun r14 h14 q14 => ?_) kx_z
    obtain ⟨rfl, rfl⟩ := q14
    refine mw_top (x' := bz (0 ≤ y ∧ y ≤ 27)) rfl ?_
    refine j_bz_eq 31 dX2_late_17 (by decide) (fun c17 => ?_) (fun c17 => ?_)
    · refine j_iconst dX2_late_31 ?_
      refine m_goto 36 dX2_late_32 (by decide) ?_
      refine j_iconst dX2_late_36 ?_
      refine t_inv [(vi 1), (vi 2)] dX2_late_37 q3256 q3258 qs76 q3259 rfl (c_isThrown1 K 0 h m _ _) pdX2_isThrown ⟨Nat.le_of_ble_eq_true rfl, by decide, by omega⟩ (kk_z fun r37 h37 q37 => ?_) kx_z
      obtain ⟨rfl, rfl⟩ := q37
      refine mw_tov (b := ovr sg [(0, 2)] []) (ovr_ovr _ _ _ _ _) ?_
      refine j_if_eq 45 dX2_late_40 (by decide) ⟨by decide, by decide⟩ (fun c => absurd c (by decide)) (fun _ => ?_)
      refine j_iconst dX2_late_43 ?_
      subst hQ; exact j_iret dX2_late_44 rfl (by first | exact Or.inl ⟨(by first | omega | rfl | assumption), (by first | omega | rfl | assumption)⟩ | exact Or.inr (Or.inl ⟨(by first | omega | rfl | assumption), (by first | omega | rfl | assumption), (by first | omega | rfl | assumption)⟩) | exact Or.inr (Or.inr (Or.inl ⟨(by first | omega | rfl | assumption), (by first | omega | rfl | assumption), (by first | omega | rfl | assumption), (by first | omega | rfl | assumption)⟩)) | exact Or.inr (Or.inr (Or.inr (Or.inl ⟨(by first | omega | rfl | assumption), (by first | omega | rfl | assumption), (by first | omega | rfl | assumption), (by first | omega | rfl | assumption), (by first | omega | rfl | assumption)⟩))) | exact Or.inr (Or.inr (Or.inr (Or.inr (Or.inl ⟨(by first | omega | rfl | assumption), (by first | omega | rfl | assumption), (by first | omega | rfl | assumption), (by first | omega | rfl | assumption), (by first | omega | rfl | assumption)⟩)))) | exact Or.inr (Or.inr (Or.inr (Or.inr (Or.inr (Or.inl ⟨(by first | omega | rfl | assumption), (by first | omega | rfl | assumption), (by first | omega | rfl | assumption), (by first | omega | rfl | assumption), (by first | omega | rfl | assumption)⟩))))) | exact Or.inr (Or.inr (Or.inr (Or.inr (Or.inr (Or.inr (⟨(by first | omega | rfl | assumption), (by first | omega | rfl | assumption), (by first | omega | rfl | assumption), (by first | omega | rfl | assumption), (by first | omega | rfl | assumption)⟩)))))))
    · refine j_iload dX2_late_20 rfl ?_
      refine j_iconst dX2_late_22 ?_
      refine j_bipush dX2_late_23 (by decide) ?_
      refine m_invS [(vi mi), (vi 0), (vi 120)] dX2_late_25 q3253 q3254 q133 q3255 (c_isIn K 0 _ _ _ _ ⟨by omega, by omega⟩ ⟨by omega, by omega⟩ ⟨by omega, by omega⟩) pdX2_isIn ⟨Nat.le_of_ble_eq_true rfl, by decide, by omega⟩ (kk_z fun r25 h25 q25 => ?_) kx_z
      obtain ⟨rfl, rfl⟩ := q25
      refine mw_top (x' := bz (0 ≤ mi ∧ mi ≤ 120)) rfl ?_
      refine j_bz_ne 35 dX2_late_28 (by decide) (fun c28 => ?_) (fun c28 => ?_)
      · refine j_iconst dX2_late_35 ?_
        refine j_iconst dX2_late_36 ?_
        refine t_inv [(vi 0), (vi 2)] dX2_late_37 q3256 q3258 qs76 q3259 rfl (c_isThrown0 K 0 h m _ _) pdX2_isThrown ⟨Nat.le_of_ble_eq_true rfl, by decide, by omega⟩ (kk_z fun r37 h37 q37 => ?_) kx_z
        obtain ⟨rfl, rfl⟩ := q37
        refine mw_tov (b := ovr sg [(0, 0)] []) (ovr_ovr _ _ _ _ _) ?_
        refine j_if_eq 45 dX2_late_40 (by decide) ⟨by decide, by decide⟩ (fun _ => ?_) (fun c => absurd c (by decide))
        refine m_aload_n dX2_late_45 rfl ?_
        refine j_iload_n dX2_late_46 rfl ?_
        refine j_iload_n dX2_late_47 rfl ?_
        refine t_inv [(vi y), (vi t)] dX2_late_48 q3393 q3395 qs89 q3396 rfl (c_lateAt K 0 h m _ _ _ (hT.ovr (fa1 (mf0 (v := 0) ⟨by first | decide | omega | (split <;> omega) | assumption, by first | decide | omega | (split <;> omega) | assumption⟩) fa0) fa0) ⟨by omega, by omega⟩ ⟨by omega, by omega⟩) pdX2_lateAt ⟨Nat.le_of_ble_eq_true rfl, by decide, by omega⟩ (kk_z fun r48 h48 q48 => ?_) kx_z
        obtain ⟨rfl, rfl⟩ := q48
        refine mw_top (x' := latAt (sg.2 15) (sg.2 16) y t (sg.1 14).toNat) rfl ?_
        refine j_istore [some (.ref m), some (vi y), some (vi t), some (vi c), some (vi mi), some (vi (latAt (sg.2 15) (sg.2 16) y t (sg.1 14).toNat)), none] dX2_late_51 (by decide) rfl rfl ?_
        refine m_aload_n dX2_late_53 rfl ?_
        refine j_iload dX2_late_54 rfl ?_
        refine j_iconst dX2_late_56 ?_
        refine j_icmp_ne 78 dX2_late_57 (by decide) ⟨⟨by omega, by omega⟩, ⟨by omega, by omega⟩⟩ (fun c57 => ?_) (fun c57 => ?_)
        · refine j_iconst dX2_late_78 ?_
          refine j_iconst dX2_late_79 ?_
          refine t_inv [(vi 0), (vi 3)] dX2_late_80 q3256 q3258 qs76 q3259 rfl (c_isThrown0 K 0 h m _ _) pdX2_isThrown ⟨Nat.le_of_ble_eq_true rfl, by decide, by omega⟩ (kk_z fun r80 h80 q80 => ?_) kx_z
          obtain ⟨rfl, rfl⟩ := q80
          refine mw_tov (b := ovr sg [(0, 0)] []) (ovr_ovr _ _ _ _ _) ?_
          refine j_if_eq 88 dX2_late_83 (by decide) ⟨by decide, by decide⟩ (fun _ => ?_) (fun c => absurd c (by decide))
          refine j_iload dX2_late_88 rfl ?_
          refine j_iconst dX2_late_90 ?_
          refine j_icmp_ne 98 dX2_late_91 (by decide) ⟨⟨by omega, by omega⟩, ⟨by omega, by omega⟩⟩ (fun c91 => ?_) (fun c91 => False.elim (by omega))
          refine m_aload_n dX2_late_98 rfl ?_
          refine t_geta 18 13 (by decide) dX2_late_99 q3111 rfl ?_
          refine j_iload dX2_late_102 rfl ?_
          refine t_aldB 13 (by decide) (n := 12) (sg.2 18) dX2_late_104 rfl (Nat.le_of_ble_eq_true rfl) (oa18 (hT.2 18)) ⟨by omega, by omega⟩ (fun b104 => ?_)
          refine j_istore [some (.ref m), some (vi y), some (vi t), some (vi c), some (vi mi), some (vi (latAt (sg.2 15) (sg.2 16) y t (sg.1 14).toNat)), some (vi ((sg.2 18) (latAt (sg.2 15) (sg.2 16) y t (sg.1 14).toNat)))] dX2_late_105 (by decide) rfl rfl ?_
          refine j_iload dX2_late_107 rfl ?_
          refine j_if_ne 195 dX2_late_109 (by decide) ⟨by omega, by omega⟩ (fun c109 => ?_) (fun c109 => ?_)
          · refine j_iload dX2_late_195 rfl ?_
            refine j_iconst dX2_late_197 ?_
            refine j_icmp_ne 217 dX2_late_198 (by decide) ⟨⟨by omega, by omega⟩, ⟨by omega, by omega⟩⟩ (fun c198 => ?_) (fun c198 => False.elim (by omega))
            refine m_aload_n dX2_late_217 rfl ?_
            refine t_geta 15 10 (by decide) dX2_late_218 q3108 rfl ?_
            refine j_iload dX2_late_221 rfl ?_
            refine j_iload_n dX2_late_223 rfl ?_
            refine t_ast 10 (by decide) (n := 12) (sg.2 15) [(15, (upz (sg.2 15) (latAt (sg.2 15) (sg.2 16) y t (sg.1 14).toNat) y))] dX2_late_224 rfl (Nat.le_of_ble_eq_true rfl) ⟨by omega, by omega⟩ rfl rfl ?_
            refine m_aload_n dX2_late_225 rfl ?_
            refine t_geta 16 11 (by decide) dX2_late_226 q3109 rfl ?_
            refine j_iload dX2_late_229 rfl ?_
            refine j_iload_n dX2_late_231 rfl ?_
            refine t_ast 11 (by decide) (n := 12) (sg.2 16) [(15, (upz (sg.2 15) (latAt (sg.2 15) (sg.2 16) y t (sg.1 14).toNat) y)), (16, (upz (sg.2 16) (latAt (sg.2 15) (sg.2 16) y t (sg.1 14).toNat) t))] dX2_late_232 rfl (Nat.le_of_ble_eq_true rfl) ⟨by omega, by omega⟩ rfl rfl ?_
            refine m_aload_n dX2_late_233 rfl ?_
            refine t_geta 17 12 (by decide) dX2_late_234 q3110 rfl ?_
            refine j_iload dX2_late_237 rfl ?_
            refine j_iload_n dX2_late_239 rfl ?_
            refine t_ast 12 (by decide) (n := 12) (sg.2 17) [(15, (upz (sg.2 15) (latAt (sg.2 15) (sg.2 16) y t (sg.1 14).toNat) y)), (16, (upz (sg.2 16) (latAt (sg.2 15) (sg.2 16) y t (sg.1 14).toNat) t)), (17, (upz (sg.2 17) (latAt (sg.2 15) (sg.2 16) y t (sg.1 14).toNat) c))] dX2_late_240 rfl (Nat.le_of_ble_eq_true rfl) ⟨by omega, by omega⟩ rfl rfl ?_
            refine m_aload_n dX2_late_241 rfl ?_
            refine t_geta 18 13 (by decide) dX2_late_242 q3111 rfl ?_
            refine j_iload dX2_late_245 rfl ?_
            refine j_iload dX2_late_247 rfl ?_
            refine t_ast 13 (by decide) (n := 12) (sg.2 18) [(15, (upz (sg.2 15) (latAt (sg.2 15) (sg.2 16) y t (sg.1 14).toNat) y)), (16, (upz (sg.2 16) (latAt (sg.2 15) (sg.2 16) y t (sg.1 14).toNat) t)), (17, (upz (sg.2 17) (latAt (sg.2 15) (sg.2 16) y t (sg.1 14).toNat) c)), (18, (upz (sg.2 18) (latAt (sg.2 15) (sg.2 16) y t (sg.1 14).toNat) mi))] dX2_late_249 rfl (Nat.le_of_ble_eq_true rfl) ⟨by omega, by omega⟩ rfl rfl ?_
            refine j_iload dX2_late_250 rfl ?_
            subst hQ; exact j_iret dX2_late_252 rfl (by first | exact Or.inl ⟨(by first | omega | rfl | assumption), (by first | omega | rfl | assumption)⟩ | exact Or.inr (Or.inl ⟨(by first | omega | rfl | assumption), (by first | omega | rfl | assumption), (by first | omega | rfl | assumption)⟩) | exact Or.inr (Or.inr (Or.inl ⟨(by first | omega | rfl | assumption), (by first | omega | rfl | assumption), (by first | omega | rfl | assumption), (by first | omega | rfl | assumption)⟩)) | exact Or.inr (Or.inr (Or.inr (Or.inl ⟨(by first | omega | rfl | assumption), (by first | omega | rfl | assumption), (by first | omega | rfl | assumption), (by first | omega | rfl | assumption), (by first | omega | rfl | assumption)⟩))) | exact Or.inr (Or.inr (Or.inr (Or.inr (Or.inl ⟨(by first | omega | rfl | assumption), (by first | omega | rfl | assumption), (by first | omega | rfl | assumption), (by first | omega | rfl | assumption), (by first | omega | rfl | assumption)⟩)))) | exact Or.inr (Or.inr (Or.inr (Or.inr (Or.inr (Or.inl ⟨(by first | omega | rfl | assumption), (by first | omega | rfl | assumption), (by first | omega | rfl | assumption), (by first | omega | rfl | assumption), (by first | omega | rfl | assumption)⟩))))) | exact Or.inr (Or.inr (Or.inr (Or.inr (Or.inr (Or.inr (⟨(by first | omega | rfl | assumption), (by first | omega | rfl | assumption), (by first | omega | rfl | assumption), (by first | omega | rfl | assumption), (by first | omega | rfl | assumption)⟩)))))))
          · refine j_iload dX2_late_112 rfl ?_
            refine j_iconst dX2_late_114 ?_
            refine j_icmp_eq 192 dX2_late_115 (by decide) ⟨⟨by omega, by omega⟩, ⟨by omega, by omega⟩⟩ (fun c115 => False.elim (by omega)) (fun c115 => ?_)
            refine m_aload_n dX2_late_118 rfl ?_
            refine m_dup dX2_late_119 rfl ?_
            refine t_geti 14 (by decide) (sg.1 14) dX2_late_120 q3107 rfl ?_
            refine j_iconst dX2_late_123 ?_
            refine j_isub dX2_late_124 ?_
            refine t_puti 14 (by decide) [(0, 0), (14, ((sg.1 14) - 1))] dX2_late_125 q3107 rfl rfl rfl rfl ?_
            refine m_aload_n dX2_late_128 rfl ?_
            refine t_geta 15 10 (by decide) dX2_late_129 q3108 rfl ?_
            refine j_iload dX2_late_132 rfl ?_
            refine m_aload_n dX2_late_134 rfl ?_
            refine t_geta 15 10 (by decide) dX2_late_135 q3108 rfl ?_
            refine m_aload_n dX2_late_138 rfl ?_
            refine t_geti 14 (by decide) ((sg.1 14) - 1) dX2_late_139 q3107 rfl ?_
            refine t_aldB 10 (by decide) (n := 12) (sg.2 15) dX2_late_142 rfl (Nat.le_of_ble_eq_true rfl) (oa15 (hT.2 15)) ⟨by omega, by omega⟩ (fun b142 => ?_)
            refine t_ast 10 (by decide) (n := 12) (sg.2 15) [(15, (upz (sg.2 15) (latAt (sg.2 15) (sg.2 16) y t (sg.1 14).toNat) ((sg.2 15) ((sg.1 14) - 1))))] dX2_late_143 rfl (Nat.le_of_ble_eq_true rfl) ⟨by omega, by omega⟩ rfl rfl ?_
            refine m_aload_n dX2_late_144 rfl ?_
            refine t_geta 16 11 (by decide) dX2_late_145 q3109 rfl ?_
            refine j_iload dX2_late_148 rfl ?_
            refine m_aload_n dX2_late_150 rfl ?_
            refine t_geta 16 11 (by decide) dX2_late_151 q3109 rfl ?_
            refine m_aload_n dX2_late_154 rfl ?_
            refine t_geti 14 (by decide) ((sg.1 14) - 1) dX2_late_155 q3107 rfl ?_
            refine t_aldB 11 (by decide) (n := 12) (sg.2 16) dX2_late_158 rfl (Nat.le_of_ble_eq_true rfl) (oa16 (hT.2 16)) ⟨by omega, by omega⟩ (fun b158 => ?_)
            refine t_ast 11 (by decide) (n := 12) (sg.2 16) [(15, (upz (sg.2 15) (latAt (sg.2 15) (sg.2 16) y t (sg.1 14).toNat) ((sg.2 15) ((sg.1 14) - 1)))), (16, (upz (sg.2 16) (latAt (sg.2 15) (sg.2 16) y t (sg.1 14).toNat) ((sg.2 16) ((sg.1 14) - 1))))] dX2_late_159 rfl (Nat.le_of_ble_eq_true rfl) ⟨by omega, by omega⟩ rfl rfl ?_
            refine m_aload_n dX2_late_160 rfl ?_
            refine t_geta 17 12 (by decide) dX2_late_161 q3110 rfl ?_
            refine j_iload dX2_late_164 rfl ?_
            refine m_aload_n dX2_late_166 rfl ?_
            refine t_geta 17 12 (by decide) dX2_late_167 q3110 rfl ?_
            refine m_aload_n dX2_late_170 rfl ?_
            refine t_geti 14 (by decide) ((sg.1 14) - 1) dX2_late_171 q3107 rfl ?_
            refine t_aldB 12 (by decide) (n := 12) (sg.2 17) dX2_late_174 rfl (Nat.le_of_ble_eq_true rfl) (oa17 (hT.2 17)) ⟨by omega, by omega⟩ (fun b174 => ?_)
            refine t_ast 12 (by decide) (n := 12) (sg.2 17) [(15, (upz (sg.2 15) (latAt (sg.2 15) (sg.2 16) y t (sg.1 14).toNat) ((sg.2 15) ((sg.1 14) - 1)))), (16, (upz (sg.2 16) (latAt (sg.2 15) (sg.2 16) y t (sg.1 14).toNat) ((sg.2 16) ((sg.1 14) - 1)))), (17, (upz (sg.2 17) (latAt (sg.2 15) (sg.2 16) y t (sg.1 14).toNat) ((sg.2 17) ((sg.1 14) - 1))))] dX2_late_175 rfl (Nat.le_of_ble_eq_true rfl) ⟨by omega, by omega⟩ rfl rfl ?_
            refine m_aload_n dX2_late_176 rfl ?_
            refine t_geta 18 13 (by decide) dX2_late_177 q3111 rfl ?_
            refine j_iload dX2_late_180 rfl ?_
            refine m_aload_n dX2_late_182 rfl ?_
            refine t_geta 18 13 (by decide) dX2_late_183 q3111 rfl ?_
            refine m_aload_n dX2_late_186 rfl ?_
            refine t_geti 14 (by decide) ((sg.1 14) - 1) dX2_late_187 q3107 rfl ?_
            refine t_aldB 13 (by decide) (n := 12) (sg.2 18) dX2_late_190 rfl (Nat.le_of_ble_eq_true rfl) (oa18 (hT.2 18)) ⟨by omega, by omega⟩ (fun b190 => ?_)
            refine t_ast 13 (by decide) (n := 12) (sg.2 18) [(15, (upz (sg.2 15) (latAt (sg.2 15) (sg.2 16) y t (sg.1 14).toNat) ((sg.2 15) ((sg.1 14) - 1)))), (16, (upz (sg.2 16) (latAt (sg.2 15) (sg.2 16) y t (sg.1 14).toNat) ((sg.2 16) ((sg.1 14) - 1)))), (17, (upz (sg.2 17) (latAt (sg.2 15) (sg.2 16) y t (sg.1 14).toNat) ((sg.2 17) ((sg.1 14) - 1)))), (18, (upz (sg.2 18) (latAt (sg.2 15) (sg.2 16) y t (sg.1 14).toNat) ((sg.2 18) ((sg.1 14) - 1))))] dX2_late_191 rfl (Nat.le_of_ble_eq_true rfl) ⟨by omega, by omega⟩ rfl rfl ?_
            refine j_iload dX2_late_192 rfl ?_
            subst hQ; exact j_iret dX2_late_194 rfl (by first | exact Or.inl ⟨(by first | omega | rfl | assumption), (by first | omega | rfl | assumption)⟩ | exact Or.inr (Or.inl ⟨(by first | omega | rfl | assumption), (by first | omega | rfl | assumption), (by first | omega | rfl | assumption)⟩) | exact Or.inr (Or.inr (Or.inl ⟨(by first | omega | rfl | assumption), (by first | omega | rfl | assumption), (by first | omega | rfl | assumption), (by first | omega | rfl | assumption)⟩)) | exact Or.inr (Or.inr (Or.inr (Or.inl ⟨(by first | omega | rfl | assumption), (by first | omega | rfl | assumption), (by first | omega | rfl | assumption), (by first | omega | rfl | assumption), (by first | omega | rfl | assumption)⟩))) | exact Or.inr (Or.inr (Or.inr (Or.inr (Or.inl ⟨(by first | omega | rfl | assumption), (by first | omega | rfl | assumption), (by first | omega | rfl | assumption), (by first | omega | rfl | assumption), (by first | omega | rfl | assumption)⟩)))) | exact Or.inr (Or.inr (Or.inr (Or.inr (Or.inr (Or.inl ⟨(by first | omega | rfl | assumption), (by first | omega | rfl | assumption), (by first | omega | rfl | assumption), (by first | omega | rfl | assumption), (by first | omega | rfl | assumption)⟩))))) | exact Or.inr (Or.inr (Or.inr (Or.inr (Or.inr (Or.inr (⟨(by first | omega | rfl | assumption), (by first | omega | rfl | assumption), (by first | omega | rfl | assumption), (by first | omega | rfl | assumption), (by first | omega | rfl | assumption)⟩)))))))
        · refine m_aload_n dX2_late_60 rfl ?_
          refine t_geti 14 (by decide) (sg.1 14) dX2_late_61 q3107 rfl ?_
          refine j_bipush dX2_late_64 (by decide) ?_
          refine j_icmp_ne 78 dX2_late_66 (by decide) ⟨⟨by omega, by omega⟩, ⟨by omega, by omega⟩⟩ (fun c66 => ?_) (fun c66 => ?_)
          · refine j_iconst dX2_late_78 ?_
            refine j_iconst dX2_late_79 ?_
            refine t_inv [(vi 0), (vi 3)] dX2_late_80 q3256 q3258 qs76 q3259 rfl (c_isThrown0 K 0 h m _ _) pdX2_isThrown ⟨Nat.le_of_ble_eq_true rfl, by decide, by omega⟩ (kk_z fun r80 h80 q80 => ?_) kx_z
            obtain ⟨rfl, rfl⟩ := q80
            refine mw_tov (b := ovr sg [(0, 0)] []) (ovr_ovr _ _ _ _ _) ?_
            refine j_if_eq 88 dX2_late_83 (by decide) ⟨by decide, by decide⟩ (fun _ => ?_) (fun c => absurd c (by decide))
            refine j_iload dX2_late_88 rfl ?_
            refine j_iconst dX2_late_90 ?_
            refine j_icmp_ne 98 dX2_late_91 (by decide) ⟨⟨by omega, by omega⟩, ⟨by omega, by omega⟩⟩ (fun c91 => False.elim (by omega)) (fun c91 => ?_)
            refine j_iconst dX2_late_94 ?_
            refine m_goto 105 dX2_late_95 (by decide) ?_
            refine j_istore [some (.ref m), some (vi y), some (vi t), some (vi c), some (vi mi), some (vi (latAt (sg.2 15) (sg.2 16) y t (sg.1 14).toNat)), some (vi 0)] dX2_late_105 (by decide) rfl rfl ?_
            refine j_iload dX2_late_107 rfl ?_
            refine j_if_ne 195 dX2_late_109 (by decide) ⟨by omega, by omega⟩ (fun c109 => ?_) (fun c109 => ?_)
            · refine j_iload dX2_late_195 rfl ?_
              refine j_iconst dX2_late_197 ?_
              refine j_icmp_ne 217 dX2_late_198 (by decide) ⟨⟨by omega, by omega⟩, ⟨by omega, by omega⟩⟩ (fun c198 => False.elim (by omega)) (fun c198 => ?_)
              refine m_aload_n dX2_late_201 rfl ?_
              refine t_geti 14 (by decide) (sg.1 14) dX2_late_202 q3107 rfl ?_
              refine j_istore [some (.ref m), some (vi y), some (vi t), some (vi c), some (vi mi), some (vi (sg.1 14)), some (vi 0)] dX2_late_205 (by decide) rfl rfl ?_
              refine m_aload_n dX2_late_207 rfl ?_
              refine m_dup dX2_late_208 rfl ?_
              refine t_geti 14 (by decide) (sg.1 14) dX2_late_209 q3107 rfl ?_
              refine j_iconst dX2_late_212 ?_
              refine j_iadd dX2_late_213 ?_
              refine t_puti 14 (by decide) [(0, 0), (14, ((sg.1 14) + 1))] dX2_late_214 q3107 rfl rfl rfl rfl ?_
              refine m_aload_n dX2_late_217 rfl ?_
              refine t_geta 15 10 (by decide) dX2_late_218 q3108 rfl ?_
              refine j_iload dX2_late_221 rfl ?_
              refine j_iload_n dX2_late_223 rfl ?_
              refine t_ast 10 (by decide) (n := 12) (sg.2 15) [(15, (upz (sg.2 15) (sg.1 14) y))] dX2_late_224 rfl (Nat.le_of_ble_eq_true rfl) ⟨by omega, by omega⟩ rfl rfl ?_
              refine m_aload_n dX2_late_225 rfl ?_
              refine t_geta 16 11 (by decide) dX2_late_226 q3109 rfl ?_
              refine j_iload dX2_late_229 rfl ?_
              refine j_iload_n dX2_late_231 rfl ?_
              refine t_ast 11 (by decide) (n := 12) (sg.2 16) [(15, (upz (sg.2 15) (sg.1 14) y)), (16, (upz (sg.2 16) (sg.1 14) t))] dX2_late_232 rfl (Nat.le_of_ble_eq_true rfl) ⟨by omega, by omega⟩ rfl rfl ?_
              refine m_aload_n dX2_late_233 rfl ?_
              refine t_geta 17 12 (by decide) dX2_late_234 q3110 rfl ?_
              refine j_iload dX2_late_237 rfl ?_
              refine j_iload_n dX2_late_239 rfl ?_
              refine t_ast 12 (by decide) (n := 12) (sg.2 17) [(15, (upz (sg.2 15) (sg.1 14) y)), (16, (upz (sg.2 16) (sg.1 14) t)), (17, (upz (sg.2 17) (sg.1 14) c))] dX2_late_240 rfl (Nat.le_of_ble_eq_true rfl) ⟨by omega, by omega⟩ rfl rfl ?_
              refine m_aload_n dX2_late_241 rfl ?_
              refine t_geta 18 13 (by decide) dX2_late_242 q3111 rfl ?_
              refine j_iload dX2_late_245 rfl ?_
              refine j_iload dX2_late_247 rfl ?_
              refine t_ast 13 (by decide) (n := 12) (sg.2 18) [(15, (upz (sg.2 15) (sg.1 14) y)), (16, (upz (sg.2 16) (sg.1 14) t)), (17, (upz (sg.2 17) (sg.1 14) c)), (18, (upz (sg.2 18) (sg.1 14) mi))] dX2_late_249 rfl (Nat.le_of_ble_eq_true rfl) ⟨by omega, by omega⟩ rfl rfl ?_
              refine j_iload dX2_late_250 rfl ?_
              subst hQ; exact j_iret dX2_late_252 rfl (by first | exact Or.inl ⟨(by first | omega | rfl | assumption), (by first | omega | rfl | assumption)⟩ | exact Or.inr (Or.inl ⟨(by first | omega | rfl | assumption), (by first | omega | rfl | assumption), (by first | omega | rfl | assumption)⟩) | exact Or.inr (Or.inr (Or.inl ⟨(by first | omega | rfl | assumption), (by first | omega | rfl | assumption), (by first | omega | rfl | assumption), (by first | omega | rfl | assumption)⟩)) | exact Or.inr (Or.inr (Or.inr (Or.inl ⟨(by first | omega | rfl | assumption), (by first | omega | rfl | assumption), (by first | omega | rfl | assumption), (by first | omega | rfl | assumption), (by first | omega | rfl | assumption)⟩))) | exact Or.inr (Or.inr (Or.inr (Or.inr (Or.inl ⟨(by first | omega | rfl | assumption), (by first | omega | rfl | assumption), (by first | omega | rfl | assumption), (by first | omega | rfl | assumption), (by first | omega | rfl | assumption)⟩)))) | exact Or.inr (Or.inr (Or.inr (Or.inr (Or.inr (Or.inl ⟨(by first | omega | rfl | assumption), (by first | omega | rfl | assumption), (by first | omega | rfl | assumption), (by first | omega | rfl | assumption), (by first | omega | rfl | assumption)⟩))))) | exact Or.inr (Or.inr (Or.inr (Or.inr (Or.inr (Or.inr (⟨(by first | omega | rfl | assumption), (by first | omega | rfl | assumption), (by first | omega | rfl | assumption), (by first | omega | rfl | assumption), (by first | omega | rfl | assumption)⟩)))))))
            · refine j_iload dX2_late_112 rfl ?_
              refine j_iconst dX2_late_114 ?_
              refine j_icmp_eq 192 dX2_late_115 (by decide) ⟨⟨by omega, by omega⟩, ⟨by omega, by omega⟩⟩ (fun c115 => ?_) (fun c115 => False.elim (by omega))
              refine j_iload dX2_late_192 rfl ?_
              subst hQ; exact j_iret dX2_late_194 rfl (by first | exact Or.inl ⟨(by first | omega | rfl | assumption), (by first | omega | rfl | assumption)⟩ | exact Or.inr (Or.inl ⟨(by first | omega | rfl | assumption), (by first | omega | rfl | assumption), (by first | omega | rfl | assumption)⟩) | exact Or.inr (Or.inr (Or.inl ⟨(by first | omega | rfl | assumption), (by first | omega | rfl | assumption), (by first | omega | rfl | assumption), (by first | omega | rfl | assumption)⟩)) | exact Or.inr (Or.inr (Or.inr (Or.inl ⟨(by first | omega | rfl | assumption), (by first | omega | rfl | assumption), (by first | omega | rfl | assumption), (by first | omega | rfl | assumption), (by first | omega | rfl | assumption)⟩))) | exact Or.inr (Or.inr (Or.inr (Or.inr (Or.inl ⟨(by first | omega | rfl | assumption), (by first | omega | rfl | assumption), (by first | omega | rfl | assumption), (by first | omega | rfl | assumption), (by first | omega | rfl | assumption)⟩)))) | exact Or.inr (Or.inr (Or.inr (Or.inr (Or.inr (Or.inl ⟨(by first | omega | rfl | assumption), (by first | omega | rfl | assumption), (by first | omega | rfl | assumption), (by first | omega | rfl | assumption), (by first | omega | rfl | assumption)⟩))))) | exact Or.inr (Or.inr (Or.inr (Or.inr (Or.inr (Or.inr (⟨(by first | omega | rfl | assumption), (by first | omega | rfl | assumption), (by first | omega | rfl | assumption), (by first | omega | rfl | assumption), (by first | omega | rfl | assumption)⟩)))))))
          · refine j_iload dX2_late_69 rfl ?_
            refine j_if_eq 78 dX2_late_71 (by decide) ⟨by omega, by omega⟩ (fun c71 => ?_) (fun c71 => ?_)
            · refine j_iconst dX2_late_78 ?_
              refine j_iconst dX2_late_79 ?_
              refine t_inv [(vi 0), (vi 3)] dX2_late_80 q3256 q3258 qs76 q3259 rfl (c_isThrown0 K 0 h m _ _) pdX2_isThrown ⟨Nat.le_of_ble_eq_true rfl, by decide, by omega⟩ (kk_z fun r80 h80 q80 => ?_) kx_z
              obtain ⟨rfl, rfl⟩ := q80
              refine mw_tov (b := ovr sg [(0, 0)] []) (ovr_ovr _ _ _ _ _) ?_
              refine j_if_eq 88 dX2_late_83 (by decide) ⟨by decide, by decide⟩ (fun _ => ?_) (fun c => absurd c (by decide))
              refine j_iload dX2_late_88 rfl ?_
              refine j_iconst dX2_late_90 ?_
              refine j_icmp_ne 98 dX2_late_91 (by decide) ⟨⟨by omega, by omega⟩, ⟨by omega, by omega⟩⟩ (fun c91 => False.elim (by omega)) (fun c91 => ?_)
              refine j_iconst dX2_late_94 ?_
              refine m_goto 105 dX2_late_95 (by decide) ?_
              refine j_istore [some (.ref m), some (vi y), some (vi t), some (vi c), some (vi mi), some (vi (latAt (sg.2 15) (sg.2 16) y t (sg.1 14).toNat)), some (vi 0)] dX2_late_105 (by decide) rfl rfl ?_
              refine j_iload dX2_late_107 rfl ?_
              refine j_if_ne 195 dX2_late_109 (by decide) ⟨by omega, by omega⟩ (fun c109 => False.elim (by omega)) (fun c109 => ?_)
              refine j_iload dX2_late_112 rfl ?_
              refine j_iconst dX2_late_114 ?_
              refine j_icmp_eq 192 dX2_late_115 (by decide) ⟨⟨by omega, by omega⟩, ⟨by omega, by omega⟩⟩ (fun c115 => ?_) (fun c115 => False.elim (by omega))
              refine j_iload dX2_late_192 rfl ?_
              subst hQ; exact j_iret dX2_late_194 rfl (by first | exact Or.inl ⟨(by first | omega | rfl | assumption), (by first | omega | rfl | assumption)⟩ | exact Or.inr (Or.inl ⟨(by first | omega | rfl | assumption), (by first | omega | rfl | assumption), (by first | omega | rfl | assumption)⟩) | exact Or.inr (Or.inr (Or.inl ⟨(by first | omega | rfl | assumption), (by first | omega | rfl | assumption), (by first | omega | rfl | assumption), (by first | omega | rfl | assumption)⟩)) | exact Or.inr (Or.inr (Or.inr (Or.inl ⟨(by first | omega | rfl | assumption), (by first | omega | rfl | assumption), (by first | omega | rfl | assumption), (by first | omega | rfl | assumption), (by first | omega | rfl | assumption)⟩))) | exact Or.inr (Or.inr (Or.inr (Or.inr (Or.inl ⟨(by first | omega | rfl | assumption), (by first | omega | rfl | assumption), (by first | omega | rfl | assumption), (by first | omega | rfl | assumption), (by first | omega | rfl | assumption)⟩)))) | exact Or.inr (Or.inr (Or.inr (Or.inr (Or.inr (Or.inl ⟨(by first | omega | rfl | assumption), (by first | omega | rfl | assumption), (by first | omega | rfl | assumption), (by first | omega | rfl | assumption), (by first | omega | rfl | assumption)⟩))))) | exact Or.inr (Or.inr (Or.inr (Or.inr (Or.inr (Or.inr (⟨(by first | omega | rfl | assumption), (by first | omega | rfl | assumption), (by first | omega | rfl | assumption), (by first | omega | rfl | assumption), (by first | omega | rfl | assumption)⟩)))))))
            · refine j_iconst dX2_late_74 ?_
              refine m_goto 79 dX2_late_75 (by decide) ?_
              refine j_iconst dX2_late_79 ?_
              refine t_inv [(vi 1), (vi 3)] dX2_late_80 q3256 q3258 qs76 q3259 rfl (c_isThrown1 K 0 h m _ _) pdX2_isThrown ⟨Nat.le_of_ble_eq_true rfl, by decide, by omega⟩ (kk_z fun r80 h80 q80 => ?_) kx_z
              obtain ⟨rfl, rfl⟩ := q80
              refine mw_tov (b := ovr sg [(0, 3)] []) (ovr_ovr _ _ _ _ _) ?_
              refine j_if_eq 88 dX2_late_83 (by decide) ⟨by decide, by decide⟩ (fun c => absurd c (by decide)) (fun _ => ?_)
              refine j_iconst dX2_late_86 ?_
              subst hQ; exact j_iret dX2_late_87 rfl (by first | exact Or.inl ⟨(by first | omega | rfl | assumption), (by first | omega | rfl | assumption)⟩ | exact Or.inr (Or.inl ⟨(by first | omega | rfl | assumption), (by first | omega | rfl | assumption), (by first | omega | rfl | assumption)⟩) | exact Or.inr (Or.inr (Or.inl ⟨(by first | omega | rfl | assumption), (by first | omega | rfl | assumption), (by first | omega | rfl | assumption), (by first | omega | rfl | assumption)⟩)) | exact Or.inr (Or.inr (Or.inr (Or.inl ⟨(by first | omega | rfl | assumption), (by first | omega | rfl | assumption), (by first | omega | rfl | assumption), (by first | omega | rfl | assumption), (by first | omega | rfl | assumption)⟩))) | exact Or.inr (Or.inr (Or.inr (Or.inr (Or.inl ⟨(by first | omega | rfl | assumption), (by first | omega | rfl | assumption), (by first | omega | rfl | assumption), (by first | omega | rfl | assumption), (by first | omega | rfl | assumption)⟩)))) | exact Or.inr (Or.inr (Or.inr (Or.inr (Or.inr (Or.inl ⟨(by first | omega | rfl | assumption), (by first | omega | rfl | assumption), (by first | omega | rfl | assumption), (by first | omega | rfl | assumption), (by first | omega | rfl | assumption)⟩))))) | exact Or.inr (Or.inr (Or.inr (Or.inr (Or.inr (Or.inr (⟨(by first | omega | rfl | assumption), (by first | omega | rfl | assumption), (by first | omega | rfl | assumption), (by first | omega | rfl | assumption), (by first | omega | rfl | assumption)⟩)))))))
      · refine j_iconst dX2_late_31 ?_
        refine m_goto 36 dX2_late_32 (by decide) ?_
        refine j_iconst dX2_late_36 ?_
        refine t_inv [(vi 1), (vi 2)] dX2_late_37 q3256 q3258 qs76 q3259 rfl (c_isThrown1 K 0 h m _ _) pdX2_isThrown ⟨Nat.le_of_ble_eq_true rfl, by decide, by omega⟩ (kk_z fun r37 h37 q37 => ?_) kx_z
        obtain ⟨rfl, rfl⟩ := q37
        refine mw_tov (b := ovr sg [(0, 2)] []) (ovr_ovr _ _ _ _ _) ?_
        refine j_if_eq 45 dX2_late_40 (by decide) ⟨by decide, by decide⟩ (fun c => absurd c (by decide)) (fun _ => ?_)
        refine j_iconst dX2_late_43 ?_
        subst hQ; exact j_iret dX2_late_44 rfl (by first | exact Or.inl ⟨(by first | omega | rfl | assumption), (by first | omega | rfl | assumption)⟩ | exact Or.inr (Or.inl ⟨(by first | omega | rfl | assumption), (by first | omega | rfl | assumption), (by first | omega | rfl | assumption)⟩) | exact Or.inr (Or.inr (Or.inl ⟨(by first | omega | rfl | assumption), (by first | omega | rfl | assumption), (by first | omega | rfl | assumption), (by first | omega | rfl | assumption)⟩)) | exact Or.inr (Or.inr (Or.inr (Or.inl ⟨(by first | omega | rfl | assumption), (by first | omega | rfl | assumption), (by first | omega | rfl | assumption), (by first | omega | rfl | assumption), (by first | omega | rfl | assumption)⟩))) | exact Or.inr (Or.inr (Or.inr (Or.inr (Or.inl ⟨(by first | omega | rfl | assumption), (by first | omega | rfl | assumption), (by first | omega | rfl | assumption), (by first | omega | rfl | assumption), (by first | omega | rfl | assumption)⟩)))) | exact Or.inr (Or.inr (Or.inr (Or.inr (Or.inr (Or.inl ⟨(by first | omega | rfl | assumption), (by first | omega | rfl | assumption), (by first | omega | rfl | assumption), (by first | omega | rfl | assumption), (by first | omega | rfl | assumption)⟩))))) | exact Or.inr (Or.inr (Or.inr (Or.inr (Or.inr (Or.inr (⟨(by first | omega | rfl | assumption), (by first | omega | rfl | assumption), (by first | omega | rfl | assumption), (by first | omega | rfl | assumption), (by first | omega | rfl | assumption)⟩)))))))
