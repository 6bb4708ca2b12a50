/-! the twin: labels -/
def gofB (wy : Int → Int) (f : Int → Int) (s t n : Int) : Int → Int := fun v => if 0 ≤ v ∧ v < n ∧ v ≠ s ∧ t + wy (12 * s + v) < f v then t + wy (12 * s + v) else f v
theorem gofB_0 {wy f : Int → Int} {s t : Int} : f = gofB wy f s t 0 := by
  funext v; unfold gofB; rw [if_neg (by omega)]
theorem gofB_y {wy f : Int → Int} {s t k : Int} (hk : 0 ≤ k) (hs : k ≠ s) (h : t + wy (12 * s + k) < gofB wy f s t k k) : upz (gofB wy f s t k) k (t + wy (12 * s + k)) = gofB wy f s t (k + 1) := by
  funext v
  have e : gofB wy f s t k k = f k := by unfold gofB; rw [if_neg (by omega)]
  unfold upz
  by_cases h1 : v = k
  · subst h1; rw [if_pos rfl]; unfold gofB; rw [if_pos ⟨by omega, by omega, hs, by omega⟩]
  · rw [if_neg h1]; unfold gofB
    by_cases h2 : 0 ≤ v ∧ v < k ∧ v ≠ s ∧ t + wy (12 * s + v) < f v
    · rw [if_pos h2, if_pos (by omega)]
    · rw [if_neg h2, if_neg (by omega)]
theorem gofB_n {wy f : Int → Int} {s t k : Int} (h : k = s ∨ gofB wy f s t k k ≤ t + wy (12 * s + k)) : gofB wy f s t k = gofB wy f s t (k + 1) := by
  funext v
  have e : gofB wy f s t k k = f k := by unfold gofB; rw [if_neg (by omega)]
  unfold gofB
  by_cases h2 : 0 ≤ v ∧ v < k ∧ v ≠ s ∧ t + wy (12 * s + v) < f v
  · rw [if_pos h2, if_pos (by omega)]
  · by_cases h1 : v = k
    · subst h1; rw [if_neg h2, if_neg (by omega)]
    · rw [if_neg h2, if_neg (by omega)]
theorem ok_gofB {wy f : Int → Int} {s t n : Int} (hf : okA 23 f) (hw : okA 4 wy) (hs : 0 ≤ s ∧ s < 12) (ht : -1500 ≤ t) (hn : n ≤ 12) : okA 23 (gofB wy f s t n) := by
  intro q h0 h1
  have b := hf q h0 h1
  have h1' : q < 12 := h1
  have b' : -2000 ≤ f q ∧ f q ≤ 1000000 := b
  unfold gofB
  split
  · next hc =>
    have := oa4 hw (12 * s + q) (by omega) (by omega)
    show (-2000 : Int) ≤ _ ∧ _ ≤ (1000000 : Int)
    omega
  · exact b
theorem c_getsOff (K : KT) (d : Nat) (h : MH) (m : Nat) (sg : TS) (x : Int) (f r : Int → Int) (s t : Int) (hT : TB sg) (hf : okA 23 f) (hr : okA 24 r) (hs : 0 ≤ s ∧ s < 12) (ht : -1500 ≤ t ∧ t ≤ 5000) : Mt K yiX2_getsOff d [.ref m, vi s, vi t] (tov K h m (ovr sg [(25, x)] [(23, f), (24, r)])) (Rv fun h' => ∃ x' f' r', h' = tov K h m (ovr sg [(25, x')] [(23, f'), (24, r')]) ∧ okA 23 f' ∧ okA 24 r' ∧ ((x' = x ∧ f' = f ∧ r' = r ∧ (s = sg.1 5 ∨ r s ≤ t)) ∨ (x' = 1 ∧ f' = gofF sg f s t ∧ r' = upz r s t ∧ s ≠ sg.1 5 ∧ t < r s))) := by
  have hr' : okA 24 (upz r s t) := okA_upz hr ⟨by show (-2000 : Int) ≤ t; omega, by show t ≤ (1000000 : Int); omega⟩
  refine mt_ofQ (by decide) (Nat.le_of_ble_eq_true rfl) (fun Q hQ => ?_)
  show MW K yiX2_getsOff d (tov K h m (ovr sg [(25, x)] [(23, f), (24, r)])) 0 [some (.ref m), some (vi s), some (vi t), none, none] [] Q
  have f1 := of1 (hT.1 1)
  have f5 := of5 (hT.1 5)
  refine j_iload_n dX2_getsOff_0 rfl ?_
  refine m_aload_n dX2_getsOff_1 rfl ?_
  refine t_geti 5 (by decide) (sg.1 5) dX2_getsOff_2 q3098 rfl ?_
  refine j_icmp_eq 18 dX2_getsOff_5 (by decide) ⟨⟨by omega, by omega⟩, ⟨by omega, by omega⟩⟩ (fun c5 => ?_) (fun c5 => ?_)
  · subst hQ; exact j_vret dX2_getsOff_18 rfl (⟨x, f, r, rfl, hf, hr, Or.inl ⟨rfl, rfl, rfl, by omega⟩⟩)
  · refine j_iload_n dX2_getsOff_8 rfl ?_
    refine m_aload_n dX2_getsOff_9 rfl ?_
    refine t_geta 24 16 (by decide) dX2_getsOff_10 q3117 rfl ?_
    refine j_iload_n dX2_getsOff_13 rfl ?_
    refine t_aldB 16 (by decide) (n := 12) r dX2_getsOff_14 rfl (Nat.le_of_ble_eq_true rfl) (oa24 hr) ⟨by omega, by omega⟩ (fun b14 => ?_)
    refine j_icmp_lt 19 dX2_getsOff_15 (by decide) ⟨⟨by omega, by omega⟩, ⟨by omega, by omega⟩⟩ (fun c15 => ?_) (fun c15 => ?_)
    · refine m_aload_n dX2_getsOff_19 rfl ?_
      refine t_geta 24 16 (by decide) dX2_getsOff_20 q3117 rfl ?_
      refine j_iload_n dX2_getsOff_23 rfl ?_
      refine j_iload_n dX2_getsOff_24 rfl ?_
      refine t_ast 16 (by decide) (n := 12) r [(23, f), (24, (upz r s t))] dX2_getsOff_25 rfl (Nat.le_of_ble_eq_true rfl) ⟨by omega, by omega⟩ rfl rfl ?_
      refine m_aload_n dX2_getsOff_26 rfl ?_
      refine j_iconst dX2_getsOff_27 ?_
      refine t_putz 25 (by decide) [(25, 1)] dX2_getsOff_28 q3118 rfl rfl rfl rfl (by omega) ?_
      refine j_iconst dX2_getsOff_31 ?_
      refine j_istore_n [some (.ref m), some (vi s), some (vi t), some (vi 0), none] dX2_getsOff_32 (by decide) rfl rfl ?_
      have L33 : ∀ (N : Nat) (k : Int) (g : Int → Int), (sg.1 1 - k).toNat = N → (0 ≤ k ∧ k ≤ sg.1 1) → (g = gofB (sg.2 4) f s t k) → (okA 23 g) → MW K yiX2_getsOff d (tov K h m (ovr sg [(25, 1)] [(23, g), (24, (upz r s t))])) 33 [some (.ref m), some (vi s), some (vi t), some (vi k), none] [] Q := by
        intro N
        induction N using Nat.strongRecOn with
        | _ N ih33 =>
        intro k g hN33 hk hg hgo
        refine j_iload_n dX2_getsOff_33 rfl ?_
        refine m_aload_n dX2_getsOff_34 rfl ?_
        refine t_geti 1 (by decide) (sg.1 1) dX2_getsOff_35 q3094 rfl ?_
        refine j_icmp_ge 86 dX2_getsOff_38 (by decide) ⟨⟨by omega, by omega⟩, ⟨by omega, by omega⟩⟩ (fun c38 => ?_) (fun c38 => ?_)
        · subst hQ; exact j_vret dX2_getsOff_86 rfl (⟨1, g, upz r s t, rfl, hgo, hr', Or.inr ⟨rfl, by rw [hg, show k = sg.1 1 by omega]; rfl, rfl, by omega, by omega⟩⟩)
        · refine j_iload_n dX2_getsOff_41 rfl ?_
          refine m_aload_n dX2_getsOff_42 rfl ?_
          refine t_geta 4 3 (by decide) dX2_getsOff_43 q3097 rfl ?_
          refine j_bipush dX2_getsOff_46 (by decide) ?_
          refine j_iload_n dX2_getsOff_48 rfl ?_
          refine j_imul dX2_getsOff_49 ?_
          refine j_iload_n dX2_getsOff_50 rfl ?_
          refine j_iadd dX2_getsOff_51 ?_
          refine t_aldB 3 (by decide) (n := 144) (sg.2 4) dX2_getsOff_52 rfl (Nat.le_of_ble_eq_true rfl) (oa4 (hT.2 4)) ⟨by omega, by omega⟩ (fun b52 => ?_)
          refine j_iadd dX2_getsOff_53 ?_
          refine j_istore [some (.ref m), some (vi s), some (vi t), some (vi k), some (vi (t + ((sg.2 4) ((12 * s) + k))))] dX2_getsOff_54 (by decide) rfl rfl ?_
          refine j_iload_n dX2_getsOff_56 rfl ?_
          refine j_iload_n dX2_getsOff_57 rfl ?_
          refine j_icmp_eq 80 dX2_getsOff_58 (by decide) ⟨⟨by omega, by omega⟩, ⟨by omega, by omega⟩⟩ (fun c58 => ?_) (fun c58 => ?_)
          · refine j_iinc [some (.ref m), some (vi s), some (vi t), some (vi (k + 1)), some (vi (t + ((sg.2 4) ((12 * s) + k))))] dX2_getsOff_80 rfl (by decide) rfl rfl ?_
            refine m_goto 33 dX2_getsOff_83 (by decide) ?_
            refine mw_forget 4 ?_
            exact ih33 _ (by omega) _ _ rfl (by omega) (by subst hg; first | exact gofB_y (by omega) (by omega) (by omega) | exact gofB_n (by omega)) (by first | assumption | exact okA_upz hgo ⟨by show (-2000 : Int) ≤ _; omega, by show _ ≤ (1000000 : Int); omega⟩)
          · refine j_iload dX2_getsOff_61 rfl ?_
            refine m_aload_n dX2_getsOff_63 rfl ?_
            refine t_geta 23 15 (by decide) dX2_getsOff_64 q3116 rfl ?_
            refine j_iload_n dX2_getsOff_67 rfl ?_
            refine t_aldB 15 (by decide) (n := 12) g dX2_getsOff_68 rfl (Nat.le_of_ble_eq_true rfl) (oa23 hgo) ⟨by omega, by omega⟩ (fun b68 => ?_)
            refine j_icmp_ge 80 dX2_getsOff_69 (by decide) ⟨⟨by omega, by omega⟩, ⟨by omega, by omega⟩⟩ (fun c69 => ?_) (fun c69 => ?_)
            · refine j_iinc [some (.ref m), some (vi s), some (vi t), some (vi (k + 1)), some (vi (t + ((sg.2 4) ((12 * s) + k))))] dX2_getsOff_80 rfl (by decide) rfl rfl ?_
              refine m_goto 33 dX2_getsOff_83 (by decide) ?_
              refine mw_forget 4 ?_
              exact ih33 _ (by omega) _ _ rfl (by omega) (by subst hg; first | exact gofB_y (by omega) (by omega) (by omega) | exact gofB_n (by omega)) (by first | assumption | exact okA_upz hgo ⟨by show (-2000 : Int) ≤ _; omega, by show _ ≤ (1000000 : Int); omega⟩)
            · refine m_aload_n dX2_getsOff_72 rfl ?_
              refine t_geta 23 15 (by decide) dX2_getsOff_73 q3116 rfl ?_
              refine j_iload_n dX2_getsOff_76 rfl ?_
              refine j_iload dX2_getsOff_77 rfl ?_
              refine t_ast 15 (by decide) (n := 12) g [(23, (upz g k (t + ((sg.2 4) ((12 * s) + k))))), (24, (upz r s t))] dX2_getsOff_79 rfl (Nat.le_of_ble_eq_true rfl) ⟨by omega, by omega⟩ rfl rfl ?_
              refine j_iinc [some (.ref m), some (vi s), some (vi t), some (vi (k + 1)), some (vi (t + ((sg.2 4) ((12 * s) + k))))] dX2_getsOff_80 rfl (by decide) rfl rfl ?_
              refine m_goto 33 dX2_getsOff_83 (by decide) ?_
              refine mw_forget 4 ?_
              exact ih33 _ (by omega) _ _ rfl (by omega) (by subst hg; first | exact gofB_y (by omega) (by omega) (by omega) | exact gofB_n (by omega)) (by first | assumption | exact okA_upz hgo ⟨by show (-2000 : Int) ≤ _; omega, by show _ ≤ (1000000 : Int); omega⟩)
      exact L33 _ _ _ rfl (by omega) gofB_0 hf
    · subst hQ; exact j_vret dX2_getsOff_18 rfl (⟨x, f, r, rfl, hf, hr, Or.inl ⟨rfl, rfl, rfl, by omega⟩⟩)
theorem c_getsOn (K : KT) (d : Nat) (h : MH) (m : Nat) (sg : TS) (s t : Int) (hT : TB sg) (hs : 0 ≤ s ∧ s < 12) (ht : -1500 ≤ t ∧ t ≤ 5000) : Mt K yiX2_getsOn d [.ref m, vi s, vi t] (tov K h m sg) (Rz fun v h' => h' = tov K h m sg ∧ v = bz (0 ≤ t ∧ s ≠ sg.1 5 ∧ (sg.2 23 s ≤ t ∨ sg.2 24 s + sg.2 2 s ≤ t))) := by
  refine mt_ofQ (by decide) (Nat.le_of_ble_eq_true rfl) (fun Q hQ => ?_)
  show MW K yiX2_getsOn d (tov K h m (ovr sg [] [])) 0 [some (.ref m), some (vi s), some (vi t)] [] Q
  have f5 := of5 (hT.1 5)
  refine j_iload_n dX2_getsOn_0 rfl ?_
  refine j_if_lt 43 dX2_getsOn_1 (by decide) ⟨by omega, by omega⟩ (fun c1 => ?_) (fun c1 => ?_)
  · refine j_iconst dX2_getsOn_43 ?_
    subst hQ; exact j_zret dX2_getsOn_44 rfl (by omega) (⟨rfl, by first | exact bz_t (by omega) | exact bz_f (by omega)⟩)
  · refine j_iload_n dX2_getsOn_4 rfl ?_
    refine m_aload_n dX2_getsOn_5 rfl ?_
    refine t_geti 5 (by decide) (sg.1 5) dX2_getsOn_6 q3098 rfl ?_
    refine j_icmp_eq 43 dX2_getsOn_9 (by decide) ⟨⟨by omega, by omega⟩, ⟨by omega, by omega⟩⟩ (fun c9 => ?_) (fun c9 => ?_)
    · refine j_iconst dX2_getsOn_43 ?_
      subst hQ; exact j_zret dX2_getsOn_44 rfl (by omega) (⟨rfl, by first | exact bz_t (by omega) | exact bz_f (by omega)⟩)
    · refine m_aload_n dX2_getsOn_12 rfl ?_
      refine t_geta 23 15 (by decide) dX2_getsOn_13 q3116 rfl ?_
      refine j_iload_n dX2_getsOn_16 rfl ?_
      refine t_aldB 15 (by decide) (n := 12) (sg.2 23) dX2_getsOn_17 rfl (Nat.le_of_ble_eq_true rfl) (oa23 (hT.2 23)) ⟨by omega, by omega⟩ (fun b17 => ?_)
      refine j_iload_n dX2_getsOn_18 rfl ?_
      refine j_icmp_le 39 dX2_getsOn_19 (by decide) ⟨⟨by omega, by omega⟩, ⟨by omega, by omega⟩⟩ (fun c19 => ?_) (fun c19 => ?_)
      · refine j_iconst dX2_getsOn_39 ?_
        refine m_goto 44 dX2_getsOn_40 (by decide) ?_
        subst hQ; exact j_zret dX2_getsOn_44 rfl (by omega) (⟨rfl, by first | exact bz_t (by omega) | exact bz_f (by omega)⟩)
      · refine m_aload_n dX2_getsOn_22 rfl ?_
        refine t_geta 24 16 (by decide) dX2_getsOn_23 q3117 rfl ?_
        refine j_iload_n dX2_getsOn_26 rfl ?_
        refine t_aldB 16 (by decide) (n := 12) (sg.2 24) dX2_getsOn_27 rfl (Nat.le_of_ble_eq_true rfl) (oa24 (hT.2 24)) ⟨by omega, by omega⟩ (fun b27 => ?_)
        refine m_aload_n dX2_getsOn_28 rfl ?_
        refine t_geta 2 1 (by decide) dX2_getsOn_29 q3095 rfl ?_
        refine j_iload_n dX2_getsOn_32 rfl ?_
        refine t_aldB 1 (by decide) (n := 12) (sg.2 2) dX2_getsOn_33 rfl (Nat.le_of_ble_eq_true rfl) (oa2 (hT.2 2)) ⟨by omega, by omega⟩ (fun b33 => ?_)
        refine j_iadd dX2_getsOn_34 ?_
        refine j_iload_n dX2_getsOn_35 rfl ?_
        refine j_icmp_gt 43 dX2_getsOn_36 (by decide) ⟨⟨by omega, by omega⟩, ⟨by omega, by omega⟩⟩ (fun c36 => ?_) (fun c36 => ?_)
        · refine j_iconst dX2_getsOn_43 ?_
          subst hQ; exact j_zret dX2_getsOn_44 rfl (by omega) (⟨rfl, by first | exact bz_t (by omega) | exact bz_f (by omega)⟩)
        · refine j_iconst dX2_getsOn_39 ?_
          refine m_goto 44 dX2_getsOn_40 (by decide) ?_
          subst hQ; exact j_zret dX2_getsOn_44 rfl (by omega) (⟨rfl, by first | exact bz_t (by omega) | exact bz_f (by omega)⟩)
theorem c_at (K : KT) (d : Nat) (h : MH) (m : Nat) (sg : TS) (s : Int) (hT : TB sg) (hs : 0 ≤ s ∧ s < 12) : Mt K yiX2_at d [.ref m, vi s] (tov K h m sg) (Rz fun v h' => h' = tov K h m sg ∧ v = (if sg.2 23 s < sg.2 24 s then sg.2 23 s else sg.2 24 s)) := by
  refine mt_ofQ (by decide) (Nat.le_of_ble_eq_true rfl) (fun Q hQ => ?_)
  show MW K yiX2_at d (tov K h m (ovr sg [] [])) 0 [some (.ref m), some (vi s)] [] Q
  refine m_aload_n dX2_at_0 rfl ?_
  refine t_geta 23 15 (by decide) dX2_at_1 q3116 rfl ?_
  refine j_iload_n dX2_at_4 rfl ?_
  refine t_aldB 15 (by decide) (n := 12) (sg.2 23) dX2_at_5 rfl (Nat.le_of_ble_eq_true rfl) (oa23 (hT.2 23)) ⟨by omega, by omega⟩ (fun b5 => ?_)
  refine m_aload_n dX2_at_6 rfl ?_
  refine t_geta 24 16 (by decide) dX2_at_7 q3117 rfl ?_
  refine j_iload_n dX2_at_10 rfl ?_
  refine t_aldB 16 (by decide) (n := 12) (sg.2 24) dX2_at_11 rfl (Nat.le_of_ble_eq_true rfl) (oa24 (hT.2 24)) ⟨by omega, by omega⟩ (fun b11 => ?_)
  refine j_icmp_ge 24 dX2_at_12 (by decide) ⟨⟨by omega, by omega⟩, ⟨by omega, by omega⟩⟩ (fun c12 => ?_) (fun c12 => ?_)
  · refine m_aload_n dX2_at_24 rfl ?_
    refine t_geta 24 16 (by decide) dX2_at_25 q3117 rfl ?_
    refine j_iload_n dX2_at_28 rfl ?_
    refine t_aldB 16 (by decide) (n := 12) (sg.2 24) dX2_at_29 rfl (Nat.le_of_ble_eq_true rfl) (oa24 (hT.2 24)) ⟨by omega, by omega⟩ (fun b29 => ?_)
    subst hQ; exact j_iret dX2_at_30 rfl (⟨rfl, by first | rw [if_pos (by omega)] | rw [if_neg (by omega)]⟩)
  · refine m_aload_n dX2_at_15 rfl ?_
    refine t_geta 23 15 (by decide) dX2_at_16 q3116 rfl ?_
    refine j_iload_n dX2_at_19 rfl ?_
    refine t_aldB 15 (by decide) (n := 12) (sg.2 23) dX2_at_20 rfl (Nat.le_of_ble_eq_true rfl) (oa23 (hT.2 23)) ⟨by omega, by omega⟩ (fun b20 => ?_)
    refine m_goto 30 dX2_at_21 (by decide) ?_
    subst hQ; exact j_iret dX2_at_30 rfl (⟨rfl, by first | rw [if_pos (by omega)] | rw [if_neg (by omega)]⟩)
/-- sound labels -/
def LabS (sg : TS) (f0 r0 f r : Int → Int) : Prop := okA 23 f ∧ okA 24 r ∧ (Dich f ∧ Dich r) ∧ ∃ E, EvLe E (EvI sg f0 r0) ∧ Lab sg f0 r0 E f r
theorem LabS.off {sg : TS} {f0 r0 f r f' r' : Int → Int} {s t : Int} (h : LabS sg f0 r0 f r) (hT : TB sg) (hW : wyD sg) (ht : 0 ≤ t ∧ t ≤ 5000) (hs : 0 ≤ s ∧ s < sg.1 1) (he : EvI sg f0 r0 s t) {x x' : Int} (hq : okA 23 f' ∧ okA 24 r' ∧ ((x' = x ∧ f' = f ∧ r' = r ∧ (s = sg.1 5 ∨ r s ≤ t)) ∨ (x' = 1 ∧ f' = gofF sg f s t ∧ r' = upz r s t ∧ s ≠ sg.1 5 ∧ t < r s))) : LabS sg f0 r0 f' r' := by
  obtain ⟨h1, h2, h3⟩ := hq
  rcases h3 with ⟨-, rfl, rfl, -⟩ | ⟨-, rfl, rfl, h4, h5⟩
  · exact h
  · obtain ⟨-, -, ⟨d1, d2⟩, E, hE, hL⟩ := h
    have hn := of1 (hT.1 1)
    refine ⟨h1, h2, ⟨fun v a1 a2 => ?_, fun v a1 a2 => ?_⟩, evAdd E s t, ?_, hL.add hs h5⟩
    · have b1 := d1 v a1 a2
      have b2 := hW.1 (12 * s + v) (by omega) (by omega)
      unfold gofF
      split
      · next hc => right; omega
      · exact b1
    · have b1 := d2 v a1 a2
      unfold upz
      split
      · right; omega
      · exact b1
    rintro s' t' (h6 | ⟨rfl, rfl⟩)
    · exact hE _ _ h6
    · exact he
theorem LabS.rd {sg : TS} {f0 r0 f r : Int → Int} (h : LabS sg f0 r0 f r) {s t : Int} (hT : TB sg) (hs : 0 ≤ s ∧ s < sg.1 1) (ht : t < 890000) (hg : f s ≤ t ∨ r s + sg.2 2 s ≤ t) : RdE sg f0 r0 (EvI sg f0 r0) s t := by
  obtain ⟨-, -, -, E, hE, hL⟩ := h
  exact ((hL.gon hs ht (oa2 (hT.2 2) s hs.1 (by have := of1 (hT.1 1); omega))).mp hg).mono hE
/-- what a ride of one run does -/
def RidP (sg : TS) (f0 r0 : Int → Int) (k x : Int) (f r : Int → Int) (x' : Int) (f' r' : Int → Int) : Prop := LabS sg f0 r0 f' r' ∧ ((x' = x ∧ f' = f ∧ r' = r ∧ clR sg f r k) ∨ (x' = 1 ∧ msum r' 12 < msum r 12))
/-- within the ride, at call c -/
def RidI (sg : TS) (f0 r0 : Int → Int) (k x : Int) (f r : Int → Int) (b c x' : Int) (f' r' : Int → Int) : Prop := LabS sg f0 r0 f' r' ∧ (b = 0 ∨ b = 1) ∧ (b = 1 → ∃ c', 0 ≤ c' ∧ c' < c ∧ stI sg k c' ≠ sg.1 5 ∧ 0 ≤ lvI sg k c' ∧ RdE sg f0 r0 (EvI sg f0 r0) (stI sg k c') (lvI sg k c')) ∧
  ((x' = x ∧ f' = f ∧ r' = r ∧ (b = 0 → ∀ c', 0 ≤ c' → c' < c → ¬ (stI sg k c' ≠ sg.1 5 ∧ 0 ≤ lvI sg k c' ∧ Gon sg f r (stI sg k c') (lvI sg k c'))) ∧ (∀ c' c2, 0 ≤ c' → c' < c2 → c2 < c → stI sg k c' ≠ sg.1 5 → 0 ≤ lvI sg k c' → Gon sg f r (stI sg k c') (lvI sg k c') → stI sg k c2 ≠ sg.1 5 → r (stI sg k c2) ≤ cmI sg k c2)) ∨ (x' = 1 ∧ msum r' 12 < msum r 12))
theorem RidI.on {sg : TS} {f0 r0 : Int → Int} {k x : Int} {f r : Int → Int} {c x' : Int} {f' r' : Int → Int} (h : RidI sg f0 r0 k x f r 0 c x' f' r') (hT : TB sg) (hs : 0 ≤ stI sg k c ∧ stI sg k c < sg.1 1) (hl : lvI sg k c < 890000) (hc : 0 ≤ c) (hg : 0 ≤ lvI sg k c ∧ stI sg k c ≠ sg.1 5 ∧ (f' (stI sg k c) ≤ lvI sg k c ∨ r' (stI sg k c) + sg.2 2 (stI sg k c) ≤ lvI sg k c)) : RidI sg f0 r0 k x f r 1 (c + 1) x' f' r' := by
  obtain ⟨h1, h2, h3, h4⟩ := h
  refine ⟨h1, Or.inr rfl, fun _ => ⟨c, hc, by omega, hg.2.1, hg.1, h1.rd hT hs hl hg.2.2⟩, ?_⟩
  rcases h4 with ⟨rfl, rfl, rfl, h5, h6⟩ | h4
  · refine Or.inl ⟨rfl, rfl, rfl, fun h9 => absurd h9 (by decide), fun c' c2 a1 a2 a3 a4 a5 a6 a7 => ?_⟩
    exact absurd ⟨a4, a5, a6⟩ (h5 rfl c' a1 (by omega))
  · exact Or.inr h4
theorem RidI.no {sg : TS} {f0 r0 : Int → Int} {k x : Int} {f r : Int → Int} {c x' : Int} {f' r' : Int → Int} (h : RidI sg f0 r0 k x f r 0 c x' f' r') (hg : ¬ (0 ≤ lvI sg k c ∧ stI sg k c ≠ sg.1 5 ∧ (f' (stI sg k c) ≤ lvI sg k c ∨ r' (stI sg k c) + sg.2 2 (stI sg k c) ≤ lvI sg k c))) : RidI sg f0 r0 k x f r 0 (c + 1) x' f' r' := by
  obtain ⟨h1, h2, h3, h4⟩ := h
  refine ⟨h1, Or.inl rfl, fun h9 => absurd h9 (by decide), ?_⟩
  rcases h4 with ⟨rfl, rfl, rfl, h5, h6⟩ | h4
  · refine Or.inl ⟨rfl, rfl, rfl, fun _ c' a1 a2 a3 => ?_, fun c' c2 a1 a2 a3 a4 a5 a6 a7 => absurd ⟨a4, a5, a6⟩ (h5 rfl c' a1 (by omega))⟩
    by_cases e : c' = c
    · subst e; exact hg ⟨a3.2.1, a3.1, a3.2.2⟩
    · exact h5 rfl c' a1 (by omega) a3
  · exact Or.inr h4
theorem RidI.off {sg : TS} {f0 r0 : Int → Int} {k x : Int} {f r : Int → Int} {c x' x2 : Int} {f' r' f2 r2 : Int → Int} (h : RidI sg f0 r0 k x f r 1 c x' f' r') (hF : WF sg) (hk : okR sg k) (hc : 0 ≤ c ∧ c < sg.2 10 (k % 24)) (hq : okA 23 f2 ∧ okA 24 r2 ∧ ((x2 = x' ∧ f2 = f' ∧ r2 = r' ∧ (stI sg k c = sg.1 5 ∨ r' (stI sg k c) ≤ cmI sg k c)) ∨ (x2 = 1 ∧ f2 = gofF sg f' (stI sg k c) (cmI sg k c) ∧ r2 = upz r' (stI sg k c) (cmI sg k c) ∧ stI sg k c ≠ sg.1 5 ∧ cmI sg k c < r' (stI sg k c)))) : RidI sg f0 r0 k x f r 1 (c + 1) x2 f2 r2 := by
  obtain ⟨hT, hS, hM, hW⟩ := hF
  obtain ⟨h1, h2, h3, h4⟩ := h
  have hs := hS.run hk hc
  have hn := oa10 (hT.2 10) (k % 24) (by have := hk.1; omega) (by have := hk.2.1; omega)
  have b1 := cmI_b hT (r := k) (c := c) ⟨hk.1, hk.2.1⟩ ⟨by omega, by omega⟩
  have hn1 := of1 (hT.1 1)
  obtain ⟨c', a1, a2, a3, a4, a5⟩ := h3 rfl
  have hL : LabS sg f0 r0 f2 r2 := by
    by_cases e : stI sg k c = sg.1 5
    · rcases hq.2.2 with ⟨-, rfl, rfl, -⟩ | h9
      · exact h1
      · exact absurd e h9.2.2.2.1
    · have := hM.lc hT hk a1 a2 hc.2
      exact h1.off hT hW ⟨by omega, by omega⟩ hs (EvI.alt _ _ ⟨k, c, c', hk, a1, a2, hc.2, rfl, rfl, e, a3, a4, a5⟩) hq
  refine ⟨hL, Or.inr rfl, fun _ => ⟨c', a1, by omega, a3, a4, a5⟩, ?_⟩
  rcases hq.2.2 with ⟨rfl, rfl, rfl, h9⟩ | ⟨rfl, rfl, rfl, h9, h10⟩
  · rcases h4 with ⟨rfl, rfl, rfl, h5, h6⟩ | h4
    · refine Or.inl ⟨rfl, rfl, rfl, fun h => absurd h (by decide), fun c' c2 g1 g2 g3 g4 g5 g6 g7 => ?_⟩
      by_cases e : c2 = c
      · subst e
        rcases h9 with h9 | h9
        · exact absurd h9 g7
        · exact h9
      · exact h6 c' c2 g1 g2 (by omega) g4 g5 g6 g7
    · exact Or.inr h4
  · have hm := msum_up (r := r') (s := stI sg k c) (t := cmI sg k c) 12 hs.1 h10 (by omega)
    have hm2 := hm.2 (by omega)
    refine Or.inr ⟨rfl, ?_⟩
    rcases h4 with ⟨rfl, rfl, rfl, -, -⟩ | ⟨-, h4⟩
    · exact hm2
    · omega
theorem c_rideOn (K : KT) (d : Nat) (h : MH) (m : Nat) (sg : TS) (x : Int) (f r : Int → Int) (k : Int) (f0 r0 : Int → Int) (hd : 3 ≤ d) (hF : WF sg) (hx : x = 0 ∨ x = 1) (hL : LabS sg f0 r0 f r) (hk : okR sg k) : Mt K yiX2_rideOn d [.ref m, vi k] (tov K h m (ovr sg [(25, x)] [(23, f), (24, r)])) (Rv fun h' => ∃ x' f' r', h' = tov K h m (ovr sg [(25, x')] [(23, f'), (24, r')]) ∧ (x' = 0 ∨ x' = 1) ∧ RidP sg f0 r0 k x f r x' f' r') := by
  have k1 := hk.1; have k2 := hk.2.1; have hT := hF.1; have hS := hF.2.1
  refine mt_ofQ (by decide) (Nat.le_of_ble_eq_true rfl) (fun Q hQ => ?_)
  show MW K yiX2_rideOn d (tov K h m (ovr sg [(25, x)] [(23, f), (24, r)])) 0 [some (.ref m), some (vi k), none, none] [] Q
  refine j_iconst dX2_rideOn_0 ?_
  refine j_istore_n [some (.ref m), some (vi k), some (vi 0), none] dX2_rideOn_1 (by decide) rfl rfl ?_
  refine j_iconst dX2_rideOn_2 ?_
  refine j_istore_n [some (.ref m), some (vi k), some (vi 0), some (vi 0)] dX2_rideOn_3 (by decide) rfl rfl ?_
  have L4 : ∀ (N : Nat) (b c x2 : Int) (f2 r2 : Int → Int), (8 - c).toNat = N → (0 ≤ c ∧ c ≤ 8) → (x2 = 0 ∨ x2 = 1) → (RidI sg f0 r0 k x f r b c x2 f2 r2) → MW K yiX2_rideOn d (tov K h m (ovr sg [(25, x2)] [(23, f2), (24, r2)])) 4 [some (.ref m), some (vi k), some (vi b), some (vi c)] [] Q := by
    intro N
    induction N using Nat.strongRecOn with
    | _ N ih4 =>
    intro b c x2 f2 r2 hN4 hc hx2 hI
    have hb01 := hI.2.1
    refine j_iload_n dX2_rideOn_4 rfl ?_
    refine m_aload_n dX2_rideOn_5 rfl ?_
    refine t_geta 10 6 (by decide) dX2_rideOn_6 q3103 rfl ?_
    refine j_iload_n dX2_rideOn_9 rfl ?_
    refine j_bipush dX2_rideOn_10 (by decide) ?_
    refine j_irem dX2_rideOn_12 ⟨⟨by omega, by omega⟩, ⟨by omega, by omega⟩⟩ ⟨by omega, by omega⟩ ?_
    refine t_aldB 6 (by decide) (n := 24) (sg.2 10) dX2_rideOn_13 rfl (Nat.le_of_ble_eq_true rfl) (oa10 (hT.2 10)) ⟨by omega, by omega⟩ (fun b13 => ?_)
    refine j_icmp_ge 72 dX2_rideOn_14 (by decide) ⟨⟨by omega, by omega⟩, ⟨by omega, by omega⟩⟩ (fun c14 => ?_) (fun c14 => ?_)
    · subst hQ; exact j_vret dX2_rideOn_72 rfl (⟨x2, f2, r2, rfl, hx2, hI.1, by { rcases hI.2.2.2 with ⟨e1, e2, e3, -, e5⟩ | h9; { exact Or.inl ⟨e1, e2, e3, fun c' c2 a1 a2 a3 a4 a5 a6 a7 => e5 c' c2 a1 a2 (by omega) a4 a5 a6 a7⟩ }; { exact Or.inr h9 } }⟩)
    · refine j_iload_n dX2_rideOn_17 rfl ?_
      have s45 := fun (hh : c < sg.2 10 (k % 24)) => hS.run hk (c := c) ⟨hc.1, hh⟩
      have s45 := s45 (by omega)
      have bcm := cmI_b hT (r := k) (c := c) ⟨by omega, by omega⟩ ⟨by omega, by omega⟩
      have blv := lvI_b hT (r := k) (c := c) ⟨by omega, by omega⟩ ⟨by omega, by omega⟩
      have f1 := of1 (hT.1 1)
      refine j_if_eq 37 dX2_rideOn_18 (by decide) ⟨by omega, by omega⟩ (fun c18 => ?_) (fun c18 => ?_)
      · refine j_iload_n dX2_rideOn_37 rfl ?_
        refine j_if_ne 60 dX2_rideOn_38 (by decide) ⟨by omega, by omega⟩ (fun c38 => False.elim (by omega)) (fun c38 => ?_)
        refine m_aload_n dX2_rideOn_41 rfl ?_
        refine m_aload_n dX2_rideOn_42 rfl ?_
        refine j_iload_n dX2_rideOn_43 rfl ?_
        refine j_iload_n dX2_rideOn_44 rfl ?_
        refine t_inv [(vi k), (vi c)] dX2_rideOn_45 q3441 q3443 qs98 q3444 rfl (c_stopIn K 0 h m _ _ _ (hT.ovr (fa1 (mf25 (v := x2) ⟨by first | decide | omega | (split <;> omega) | assumption, by first | decide | omega | (split <;> omega) | assumption⟩) fa0) (fa1 hI.1.1 (fa1 hI.1.2.1 fa0))) ⟨by omega, by omega⟩ ⟨by omega, by omega⟩) pdX2_stopIn ⟨Nat.le_of_ble_eq_true rfl, by decide, by omega⟩ (kk_z fun r45 h45 q45 => ?_) kx_z
        obtain ⟨rfl, rfl⟩ := q45
        refine mw_top (x' := stI sg k c) rfl ?_
        refine m_aload_n dX2_rideOn_48 rfl ?_
        refine j_iload_n dX2_rideOn_49 rfl ?_
        refine j_iload_n dX2_rideOn_50 rfl ?_
        refine t_inv [(vi k), (vi c)] dX2_rideOn_51 q3453 q3455 qs101 q3456 rfl (c_leavesAt K 2 h m _ _ _ (by omega) (hT.ovr (fa1 (mf25 (v := x2) ⟨by first | decide | omega | (split <;> omega) | assumption, by first | decide | omega | (split <;> omega) | assumption⟩) fa0) (fa1 hI.1.1 (fa1 hI.1.2.1 fa0))) ⟨by omega, by omega⟩ ⟨by omega, by omega⟩) pdX2_leavesAt ⟨Nat.le_of_ble_eq_true rfl, by decide, by omega⟩ (kk_z fun r51 h51 q51 => ?_) kx_z
        obtain ⟨rfl, rfl⟩ := q51
        refine mw_top (x' := lvI sg k c) rfl ?_
        refine t_inv [(vi (stI sg k c)), (vi (lvI sg k c))] dX2_rideOn_54 q3457 q3459 qs102 q3460 rfl (c_getsOn K 0 h m _ _ _ (hT.ovr (fa1 (mf25 (v := x2) ⟨by first | decide | omega | (split <;> omega) | assumption, by first | decide | omega | (split <;> omega) | assumption⟩) fa0) (fa1 hI.1.1 (fa1 hI.1.2.1 fa0))) ⟨by omega, by omega⟩ ⟨by omega, by omega⟩) pdX2_getsOn ⟨Nat.le_of_ble_eq_true rfl, by decide, by omega⟩ (kk_z fun r54 h54 q54 => ?_) kx_z
        obtain ⟨rfl, rfl⟩ := q54
        refine mw_top (x' := bz (0 ≤ (lvI sg k c) ∧ (stI sg k c) ≠ (sg.1 5) ∧ (f2 (stI sg k c) ≤ (lvI sg k c) ∨ r2 (stI sg k c) + (sg.2 2) (stI sg k c) ≤ (lvI sg k c)))) rfl ?_
        refine j_bz_eq 64 dX2_rideOn_57 (by decide) (fun c57 => ?_) (fun c57 => ?_)
        · refine j_iconst dX2_rideOn_64 ?_
          refine j_istore_n [some (.ref m), some (vi k), some (vi 0), some (vi c)] dX2_rideOn_65 (by decide) rfl rfl ?_
          refine j_iinc [some (.ref m), some (vi k), some (vi 0), some (vi (c + 1))] dX2_rideOn_66 rfl (by decide) rfl rfl ?_
          refine m_goto 4 dX2_rideOn_69 (by decide) ?_
          exact ih4 _ (by omega) _ _ _ _ _ rfl (by omega) (by first | assumption | (rcases q34.2.2 with h9 | h9 <;> omega)) (by first | (exfalso; omega) | exact RidI.off ((show b = 1 by omega) ▸ hI) hF hk ⟨by omega, by omega⟩ q34 | exact RidI.on ((show b = 0 by omega) ▸ hI) hT s45 (by omega) hc.1 (by assumption) | exact RidI.no ((show b = 0 by omega) ▸ hI) (by assumption))
        · refine j_iconst dX2_rideOn_60 ?_
          refine m_goto 65 dX2_rideOn_61 (by decide) ?_
          refine j_istore_n [some (.ref m), some (vi k), some (vi 1), some (vi c)] dX2_rideOn_65 (by decide) rfl rfl ?_
          refine j_iinc [some (.ref m), some (vi k), some (vi 1), some (vi (c + 1))] dX2_rideOn_66 rfl (by decide) rfl rfl ?_
          refine m_goto 4 dX2_rideOn_69 (by decide) ?_
          exact ih4 _ (by omega) _ _ _ _ _ rfl (by omega) (by first | assumption | (rcases q34.2.2 with h9 | h9 <;> omega)) (by first | (exfalso; omega) | exact RidI.off ((show b = 1 by omega) ▸ hI) hF hk ⟨by omega, by omega⟩ q34 | exact RidI.on ((show b = 0 by omega) ▸ hI) hT s45 (by omega) hc.1 (by assumption) | exact RidI.no ((show b = 0 by omega) ▸ hI) (by assumption))
      · refine m_aload_n dX2_rideOn_21 rfl ?_
        refine m_aload_n dX2_rideOn_22 rfl ?_
        refine j_iload_n dX2_rideOn_23 rfl ?_
        refine j_iload_n dX2_rideOn_24 rfl ?_
        refine t_inv [(vi k), (vi c)] dX2_rideOn_25 q3441 q3443 qs98 q3444 rfl (c_stopIn K 0 h m _ _ _ (hT.ovr (fa1 (mf25 (v := x2) ⟨by first | decide | omega | (split <;> omega) | assumption, by first | decide | omega | (split <;> omega) | assumption⟩) fa0) (fa1 hI.1.1 (fa1 hI.1.2.1 fa0))) ⟨by omega, by omega⟩ ⟨by omega, by omega⟩) pdX2_stopIn ⟨Nat.le_of_ble_eq_true rfl, by decide, by omega⟩ (kk_z fun r25 h25 q25 => ?_) kx_z
        obtain ⟨rfl, rfl⟩ := q25
        refine mw_top (x' := stI sg k c) rfl ?_
        refine m_aload_n dX2_rideOn_28 rfl ?_
        refine j_iload_n dX2_rideOn_29 rfl ?_
        refine j_iload_n dX2_rideOn_30 rfl ?_
        refine t_inv [(vi k), (vi c)] dX2_rideOn_31 q3445 q3447 qs99 q3448 rfl (c_comesAt K 2 h m _ _ _ (by omega) (hT.ovr (fa1 (mf25 (v := x2) ⟨by first | decide | omega | (split <;> omega) | assumption, by first | decide | omega | (split <;> omega) | assumption⟩) fa0) (fa1 hI.1.1 (fa1 hI.1.2.1 fa0))) ⟨by omega, by omega⟩ ⟨by omega, by omega⟩) pdX2_comesAt ⟨Nat.le_of_ble_eq_true rfl, by decide, by omega⟩ (kk_z fun r31 h31 q31 => ?_) kx_z
        obtain ⟨rfl, rfl⟩ := q31
        refine mw_top (x' := cmI sg k c) rfl ?_
        refine t_inv [(vi (stI sg k c)), (vi (cmI sg k c))] dX2_rideOn_34 q3449 q3451 qs100 q3452 rfl (c_getsOff K 0 h m sg x2 f2 r2 _ _ hT hI.1.1 hI.1.2.1 ⟨by omega, by omega⟩ ⟨by omega, by omega⟩) pdX2_getsOff ⟨Nat.le_of_ble_eq_true rfl, by decide, by omega⟩ (kk_v fun h34 q34 => ?_) kx_v
        obtain ⟨x3, f3, r3, rfl, q34⟩ := q34
        refine j_iload_n dX2_rideOn_37 rfl ?_
        refine j_if_ne 60 dX2_rideOn_38 (by decide) ⟨by omega, by omega⟩ (fun c38 => ?_) (fun c38 => False.elim (by omega))
        refine j_iconst dX2_rideOn_60 ?_
        refine m_goto 65 dX2_rideOn_61 (by decide) ?_
        refine j_istore_n [some (.ref m), some (vi k), some (vi 1), some (vi c)] dX2_rideOn_65 (by decide) rfl rfl ?_
        refine j_iinc [some (.ref m), some (vi k), some (vi 1), some (vi (c + 1))] dX2_rideOn_66 rfl (by decide) rfl rfl ?_
        refine m_goto 4 dX2_rideOn_69 (by decide) ?_
        exact ih4 _ (by omega) _ _ _ _ _ rfl (by omega) (by first | assumption | (rcases q34.2.2 with h9 | h9 <;> omega)) (by first | (exfalso; omega) | exact RidI.off ((show b = 1 by omega) ▸ hI) hF hk ⟨by omega, by omega⟩ q34 | exact RidI.on ((show b = 0 by omega) ▸ hI) hT s45 (by omega) hc.1 (by assumption) | exact RidI.no ((show b = 0 by omega) ▸ hI) (by assumption))
  exact L4 _ _ _ _ _ _ rfl (by omega) hx ⟨hL, Or.inl rfl, fun h9 => absurd h9 (by decide), Or.inl ⟨rfl, rfl, rfl, fun _ c' a1 a2 => by omega, fun c' c2 a1 a2 a3 => by omega⟩⟩
theorem stl_y {sg : TS} {f0 r0 f r f2 r2 f3 r3 : Int → Int} {k x2 x3 : Int} (hM : (x2 = 0 ∧ f2 = f ∧ r2 = r ∧ ∀ j, j < k → okR sg j → clR sg f r j) ∨ (x2 = 1 ∧ msum r2 12 < msum r 12)) (hq : RidP sg f0 r0 k x2 f2 r2 x3 f3 r3) : (x3 = 0 ∧ f3 = f ∧ r3 = r ∧ ∀ j, j < k + 1 → okR sg j → clR sg f r j) ∨ (x3 = 1 ∧ msum r3 12 < msum r 12) := by
  rcases hM with ⟨rfl, rfl, rfl, h1⟩ | ⟨rfl, h1⟩
  · rcases hq.2 with ⟨rfl, rfl, rfl, h2⟩ | h2
    · refine Or.inl ⟨rfl, rfl, rfl, fun j h3 h4 => ?_⟩
      by_cases e : j = k
      · rw [e]; exact h2
      · exact h1 j (by omega) h4
    · exact Or.inr h2
  · rcases hq.2 with ⟨rfl, rfl, rfl, h2⟩ | h2
    · exact Or.inr ⟨rfl, h1⟩
    · exact Or.inr ⟨h2.1, by omega⟩
theorem stl_n {sg : TS} {f r f2 r2 : Int → Int} {k x2 : Int} (hM : (x2 = 0 ∧ f2 = f ∧ r2 = r ∧ ∀ j, j < k → okR sg j → clR sg f r j) ∨ (x2 = 1 ∧ msum r2 12 < msum r 12)) (hn : ¬ isRunP sg k) : (x2 = 0 ∧ f2 = f ∧ r2 = r ∧ ∀ j, j < k + 1 → okR sg j → clR sg f r j) ∨ (x2 = 1 ∧ msum r2 12 < msum r 12) := by
  rcases hM with ⟨rfl, rfl, rfl, h1⟩ | h1
  · refine Or.inl ⟨rfl, rfl, rfl, fun j h3 h4 => ?_⟩
    by_cases e : j = k
    · rw [e] at h4; exact absurd h4.2.2 hn
    · exact h1 j (by omega) h4
  · exact Or.inr h1
theorem c_settle (K : KT) (d : Nat) (h : MH) (m : Nat) (sg : TS) (x : Int) (f0 r0 : Int → Int) (hd : 4 ≤ d) (hF : WF sg) (hf : okA 23 f0) (hr : okA 24 r0) (hD : Dich f0 ∧ Dich r0) (hw : WC sg f0 r0) : Mt K yiX2_settle d [.ref m] (tov K h m (ovr sg [(25, x)] [(23, f0), (24, r0)])) (Rv fun h' => ∃ f r, h' = tov K h m (ovr sg [(25, 0)] [(23, f), (24, r)]) ∧ okA 23 f ∧ okA 24 r ∧ (Dich f ∧ Dich r) ∧ Lab sg f0 r0 (EvI sg f0 r0) f r) := by
  have hT := hF.1
  have hL0 : LabS sg f0 r0 f0 r0 := ⟨hf, hr, hD, fun _ _ => False, fun _ _ h9 => h9.elim, ⟨fun s t _ _ _ => ⟨Or.inl, fun h9 => h9.elim id fun ⟨_, h8, _⟩ => h8.elim⟩, fun s t _ _ _ => ⟨Or.inl, fun h9 => h9.elim id fun ⟨_, _, _, h8, _⟩ => h8.elim⟩⟩⟩
  refine mt_ofQ (by decide) (Nat.le_of_ble_eq_true rfl) (fun Q hQ => ?_)
  show MW K yiX2_settle d (tov K h m (ovr sg [(25, x)] [(23, f0), (24, r0)])) 0 [some (.ref m), none] [] Q
  have f25 := of25 (hT.1 25)
  refine m_aload_n dX2_settle_0 rfl ?_
  refine j_iconst dX2_settle_1 ?_
  refine t_putz 25 (by decide) [(25, 1)] dX2_settle_2 q3118 rfl rfl rfl rfl (by omega) ?_
  have L5 : ∀ (N : Nat) (x1 : Int) (f r : Int → Int), 2 * msum r 12 + x1.toNat = N → (x1 = 0 ∨ x1 = 1) → (LabS sg f0 r0 f r) → (x1 = 0 → ∀ k, okR sg k → clR sg f r k) → MW K yiX2_settle d (tov K h m (ovr sg [(25, x1)] [(23, f), (24, r)])) 5 [some (.ref m), none] [] Q := by
    intro N
    induction N using Nat.strongRecOn with
    | _ N ih5 =>
    intro x1 f r hN5 hx hL hcl
    refine m_aload_n dX2_settle_5 rfl ?_
    refine t_geti 25 (by decide) x1 dX2_settle_6 q3118 rfl ?_
    refine j_if_eq 47 dX2_settle_9 (by decide) ⟨by omega, by omega⟩ (fun c9 => ?_) (fun c9 => ?_)
    · subst hQ; exact j_vret dX2_settle_47 rfl (⟨f, r, by rw [show x1 = 0 by omega], hL.1, hL.2.1, hL.2.2.1, by { obtain ⟨-, -, -, E, hE, hLE⟩ := hL; exact hLE.lim hT hF.2.1 hE hw (hcl (by omega)) }⟩)
    · refine m_aload_n dX2_settle_12 rfl ?_
      refine j_iconst dX2_settle_13 ?_
      refine t_putz 25 (by decide) [(25, 0)] dX2_settle_14 q3118 rfl rfl rfl rfl (by omega) ?_
      refine j_iconst dX2_settle_17 ?_
      refine j_istore_n [some (.ref m), some (vi 0)] dX2_settle_18 (by decide) rfl rfl ?_
      have L19 : ∀ (N : Nat) (k x2 : Int) (f2 r2 : Int → Int), (72 - k).toNat = N → (0 ≤ k ∧ k ≤ 72) → (x2 = 0 ∨ x2 = 1) → (LabS sg f0 r0 f2 r2) → ((x2 = 0 ∧ f2 = f ∧ r2 = r ∧ ∀ j, j < k → okR sg j → clR sg f r j) ∨ (x2 = 1 ∧ msum r2 12 < msum r 12)) → MW K yiX2_settle d (tov K h m (ovr sg [(25, x2)] [(23, f2), (24, r2)])) 19 [some (.ref m), some (vi k)] [] Q := by
        intro N
        induction N using Nat.strongRecOn with
        | _ N ih19 =>
        intro k x2 f2 r2 hN19 hk hx2 hL2 hM
        refine j_iload_n dX2_settle_19 rfl ?_
        refine j_bipush dX2_settle_20 (by decide) ?_
        refine j_icmp_ge 44 dX2_settle_22 (by decide) ⟨⟨by omega, by omega⟩, ⟨by omega, by omega⟩⟩ (fun c22 => ?_) (fun c22 => ?_)
        · refine m_goto 5 dX2_settle_44 (by decide) ?_
          refine mw_forget 1 ?_
          exact ih5 _ (by (rcases hM with ⟨_, _, rfl, _⟩ | ⟨_, _⟩ <;> omega)) _ _ _ rfl hx2 hL2 (fun e k hk => by { rcases hM with ⟨_, rfl, rfl, h9⟩ | ⟨h9, _⟩; { exact h9 k (by have := hk.2.1; omega) hk }; { omega } })
        · refine m_aload_n dX2_settle_25 rfl ?_
          refine j_iload_n dX2_settle_26 rfl ?_
          refine t_inv [(vi k)] dX2_settle_27 q3433 q3435 qs96 q3436 rfl (c_isRun K 1 h m _ _ (by omega) (hT.ovr (fa1 (mf25 (v := x2) ⟨by first | decide | omega | (split <;> omega) | assumption, by first | decide | omega | (split <;> omega) | assumption⟩) fa0) (fa1 hL2.1 (fa1 hL2.2.1 fa0))) ⟨by omega, by omega⟩) pdX2_isRun ⟨Nat.le_of_ble_eq_true rfl, by decide, by omega⟩ (kk_z fun r27 h27 q27 => ?_) kx_z
          obtain ⟨rfl, rfl⟩ := q27
          refine mw_top (x' := bz (isRunP sg k)) rfl ?_
          refine j_bz_eq 38 dX2_settle_30 (by decide) (fun c30 => ?_) (fun c30 => ?_)
          · refine j_iinc [some (.ref m), some (vi (k + 1))] dX2_settle_38 rfl (by decide) rfl rfl ?_
            refine m_goto 19 dX2_settle_41 (by decide) ?_
            exact ih19 _ (by omega) _ _ _ _ rfl (by omega) (by first | exact y1 | exact hx2) (by first | exact y2.1 | exact hL2) (by first | exact stl_y hM y2 | exact stl_n hM (by assumption))
          · refine m_aload_n dX2_settle_33 rfl ?_
            refine j_iload_n dX2_settle_34 rfl ?_
            refine t_inv [(vi k)] dX2_settle_35 q3437 q3439 qs97 q3440 rfl (c_rideOn K 3 h m sg x2 f2 r2 k f0 r0 (by omega) hF hx2 hL2 ⟨by omega, by omega, c30⟩) pdX2_rideOn ⟨Nat.le_of_ble_eq_true rfl, by decide, by omega⟩ (kk_v fun h35 q35 => ?_) kx_v
            obtain ⟨x3, f3, r3, rfl, y1, y2⟩ := q35
            refine j_iinc [some (.ref m), some (vi (k + 1))] dX2_settle_38 rfl (by decide) rfl rfl ?_
            refine m_goto 19 dX2_settle_41 (by decide) ?_
            exact ih19 _ (by omega) _ _ _ _ rfl (by omega) (by first | exact y1 | exact hx2) (by first | exact y2.1 | exact hL2) (by first | exact stl_y hM y2 | exact stl_n hM (by assumption))
      exact L19 _ _ _ _ _ rfl (by omega) (by omega) hL (Or.inl ⟨rfl, rfl, rfl, fun j h1 h2 => by have := h2.1; omega⟩)
  exact L5 _ _ _ _ rfl (by omega) hL0 (fun h9 => absurd h9 (by decide))
