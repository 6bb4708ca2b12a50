/-! the twin: pairs -/
/-- the minute at which a way with this boarding first leaves -/
abbrev lvE (sg : TS) (fr j c : Int) : Int := lvI sg j c - sg.2 4 (12 * fr + stI sg j c)
def lvL (sg : TS) (fr l : Int) : Prop := ∃ j c, okR sg j ∧ 0 ≤ c ∧ c + 1 < sg.2 10 (j % 24) ∧ 0 ≤ lvI sg j c ∧ 0 ≤ lvE sg fr j c ∧ l = lvE sg fr j c
def lvUp (sg : TS) (fr ah gr j m : Int) : Prop := okR sg j → ∀ c, 0 ≤ c → c < m → c + 1 < sg.2 10 (j % 24) → 0 ≤ lvI sg j c → 0 ≤ lvE sg fr j c → lvE sg fr j c < ah → lvE sg fr j c ≤ gr
theorem lvUp.up {sg : TS} {fr ah gr gr' j m : Int} (h : lvUp sg fr ah gr j m) (hg : gr ≤ gr') : lvUp sg fr ah gr' j m := fun a c b d e f g i => by have := h a c b d e f g i; omega
theorem lvUp.add {sg : TS} {fr ah gr gr' j m : Int} (h : lvUp sg fr ah gr j m) (hg : gr ≤ gr') (hn : 0 ≤ lvI sg j m → 0 ≤ lvE sg fr j m → lvE sg fr j m < ah → lvE sg fr j m ≤ gr') : lvUp sg fr ah gr' j (m + 1) := fun a c b d e f g i => by
  by_cases q : c = m
  · subst q; exact hn f g i
  · have := h a c b (by omega) e f g i; omega
def grI (sg : TS) (fr ah gr : Int) : Prop := gr = -1 ∨ (lvL sg fr gr ∧ 0 ≤ gr ∧ gr < ah ∧ gr ≤ 4500)
theorem c_leaveBefore (K : KT) (d : Nat) (h : MH) (m : Nat) (sg : TS) (fr ah : Int) (hd : 3 ≤ d) (hF : WF sg) (hf : 0 ≤ fr ∧ fr < 12) (ha : In ah) : Mt K yiX2_leaveBefore d [.ref m, vi fr, vi ah] (tov K h m sg) (Rz fun v h' => h' = tov K h m sg ∧ grI sg fr ah v ∧ ∀ l, lvL sg fr l → l < ah → l ≤ v) := by
  have hT := hF.1; have hS := hF.2.1; have := ha.1; have := ha.2; have f1n := of1 (hT.1 1)
  refine mt_ofQ (by decide) (Nat.le_of_ble_eq_true rfl) (fun Q hQ => ?_)
  show MW K yiX2_leaveBefore d (tov K h m (ovr sg [] [])) 0 [some (.ref m), some (vi fr), some (vi ah), none, none, none, none, none] [] Q
  refine j_iconst dX2_leaveBefore_0 ?_
  refine j_istore_n [some (.ref m), some (vi fr), some (vi ah), some (vi (-1)), none, none, none, none] dX2_leaveBefore_1 (by decide) rfl rfl ?_
  refine j_iconst dX2_leaveBefore_2 ?_
  refine j_istore [some (.ref m), some (vi fr), some (vi ah), some (vi (-1)), some (vi 0), none, none, none] dX2_leaveBefore_3 (by decide) rfl rfl ?_
  have L5 : ∀ (N : Nat) (gr k : Int), (72 - k).toNat = N → (0 ≤ k ∧ k ≤ 72) → (grI sg fr ah gr) → (∀ j, j < k → lvUp sg fr ah gr j 8) → MW K yiX2_leaveBefore d (tov K h m (ovr sg [] [])) 5 [some (.ref m), some (vi fr), some (vi ah), some (vi gr), some (vi k), none, none, none] [] Q := by
    intro N
    induction N using Nat.strongRecOn with
    | _ N ih5 =>
    intro gr k hN5 hk hg hu
    refine j_iload dX2_leaveBefore_5 rfl ?_
    refine j_bipush dX2_leaveBefore_7 (by decide) ?_
    refine j_icmp_ge 115 dX2_leaveBefore_9 (by decide) ⟨⟨by omega, by omega⟩, ⟨by omega, by omega⟩⟩ (fun c9 => ?_) (fun c9 => ?_)
    · refine j_iload_n dX2_leaveBefore_115 rfl ?_
      subst hQ; exact j_iret dX2_leaveBefore_116 rfl (⟨rfl, hg, fun l ⟨j, c, g1, g2, g3, g4, g5, g6⟩ g7 => by { have q := oa10 (hT.2 10) (j % 24) (by have := g1.1; omega) (by have := g1.2.1; omega); have q2 := hu j (by have := g1.2.1; omega) g1 c g2 (by omega) g3 g4 g5 (by omega); omega }⟩)
    · refine j_iconst dX2_leaveBefore_12 ?_
      refine j_istore [some (.ref m), some (vi fr), some (vi ah), some (vi gr), some (vi k), some (vi 0), none, none] dX2_leaveBefore_13 (by decide) rfl rfl ?_
      have L15 : ∀ (N : Nat) (gr2 c : Int), (8 - c).toNat = N → (0 ≤ c ∧ c ≤ 8) → (grI sg fr ah gr2) → (gr ≤ gr2) → (lvUp sg fr ah gr2 k c) → MW K yiX2_leaveBefore d (tov K h m (ovr sg [] [])) 15 [some (.ref m), some (vi fr), some (vi ah), some (vi gr2), some (vi k), some (vi c), none, none] [] Q := by
        intro N
        induction N using Nat.strongRecOn with
        | _ N ih15 =>
        intro gr2 c hN15 hc hg2 hge hu2
        have hgb : -1 ≤ gr2 ∧ gr2 ≤ 4500 := by { rcases hg2 with g | g <;> omega }
        refine m_aload_n dX2_leaveBefore_15 rfl ?_
        refine j_iload dX2_leaveBefore_16 rfl ?_
        refine t_inv [(vi k)] dX2_leaveBefore_18 q3433 q3435 qs96 q3436 rfl (c_isRun K 1 h m _ _ (by omega) hT ⟨by omega, by omega⟩) pdX2_isRun ⟨Nat.le_of_ble_eq_true rfl, by decide, by omega⟩ (kk_z fun r18 h18 q18 => ?_) kx_z
        obtain ⟨rfl, rfl⟩ := q18
        refine mw_top (x' := bz (isRunP sg k)) rfl ?_
        refine j_bz_eq 109 dX2_leaveBefore_21 (by decide) (fun c21 => ?_) (fun c21 => ?_)
        · refine j_iinc [some (.ref m), some (vi fr), some (vi ah), some (vi gr2), some (vi (k + 1)), some (vi c), none, none] dX2_leaveBefore_109 rfl (by decide) rfl rfl ?_
          refine m_goto 5 dX2_leaveBefore_112 (by decide) ?_
          refine mw_forget 5 ?_
          exact ih5 _ (by omega) _ _ rfl (by omega) hg2 (fun j a => by { by_cases e : j = k; { subst e; first | exact fun q => absurd q.2.2 (by assumption) | exact fun q c b d e f g i => hu2 q c b (by omega) e f g i }; { exact (hu j (by omega)).up hge } })
        · refine j_iload dX2_leaveBefore_24 rfl ?_
          refine j_iconst dX2_leaveBefore_26 ?_
          refine j_iadd dX2_leaveBefore_27 ?_
          refine m_aload_n dX2_leaveBefore_28 rfl ?_
          refine t_geta 10 6 (by decide) dX2_leaveBefore_29 q3103 rfl ?_
          refine j_iload dX2_leaveBefore_32 rfl ?_
          refine j_bipush dX2_leaveBefore_34 (by decide) ?_
          refine j_irem dX2_leaveBefore_36 ⟨⟨by omega, by omega⟩, ⟨by omega, by omega⟩⟩ ⟨by omega, by omega⟩ ?_
          refine t_aldB 6 (by decide) (n := 24) (sg.2 10) dX2_leaveBefore_37 rfl (Nat.le_of_ble_eq_true rfl) (oa10 (hT.2 10)) ⟨by omega, by omega⟩ (fun b37 => ?_)
          refine j_icmp_ge 109 dX2_leaveBefore_38 (by decide) ⟨⟨by omega, by omega⟩, ⟨by omega, by omega⟩⟩ (fun c38 => ?_) (fun c38 => ?_)
          · refine j_iinc [some (.ref m), some (vi fr), some (vi ah), some (vi gr2), some (vi (k + 1)), some (vi c), none, none] dX2_leaveBefore_109 rfl (by decide) rfl rfl ?_
            refine m_goto 5 dX2_leaveBefore_112 (by decide) ?_
            refine mw_forget 5 ?_
            exact ih5 _ (by omega) _ _ rfl (by omega) hg2 (fun j a => by { by_cases e : j = k; { subst e; first | exact fun q => absurd q.2.2 (by assumption) | exact fun q c b d e f g i => hu2 q c b (by omega) e f g i }; { exact (hu j (by omega)).up hge } })
          · have hj : okR sg k := ⟨by omega, by omega, by assumption⟩
            have s46 := hS.run hj (c := c) ⟨by omega, by omega⟩
            have blv := lvI_b hT (r := k) (c := c) ⟨by omega, by omega⟩ ⟨by omega, by omega⟩
            refine m_aload_n dX2_leaveBefore_41 rfl ?_
            refine j_iload dX2_leaveBefore_42 rfl ?_
            refine j_iload dX2_leaveBefore_44 rfl ?_
            refine t_inv [(vi k), (vi c)] dX2_leaveBefore_46 q3453 q3455 qs101 q3456 rfl (c_leavesAt K 2 h m _ _ _ (by omega) hT ⟨by omega, by omega⟩ ⟨by omega, by omega⟩) pdX2_leavesAt ⟨Nat.le_of_ble_eq_true rfl, by decide, by omega⟩ (kk_z fun r46 h46 q46 => ?_) kx_z
            obtain ⟨rfl, rfl⟩ := q46
            refine mw_top (x' := lvI sg k c) rfl ?_
            refine j_istore [some (.ref m), some (vi fr), some (vi ah), some (vi gr2), some (vi k), some (vi c), some (vi (lvI sg k c)), none] dX2_leaveBefore_49 (by decide) rfl rfl ?_
            refine j_iload dX2_leaveBefore_51 rfl ?_
            refine m_aload_n dX2_leaveBefore_53 rfl ?_
            refine t_geta 4 3 (by decide) dX2_leaveBefore_54 q3097 rfl ?_
            refine j_bipush dX2_leaveBefore_57 (by decide) ?_
            refine j_iload_n dX2_leaveBefore_59 rfl ?_
            refine j_imul dX2_leaveBefore_60 ?_
            refine m_aload_n dX2_leaveBefore_61 rfl ?_
            refine j_iload dX2_leaveBefore_62 rfl ?_
            refine j_iload dX2_leaveBefore_64 rfl ?_
            refine t_inv [(vi k), (vi c)] dX2_leaveBefore_66 q3441 q3443 qs98 q3444 rfl (c_stopIn K 0 h m _ _ _ hT ⟨by omega, by omega⟩ ⟨by omega, by omega⟩) pdX2_stopIn ⟨Nat.le_of_ble_eq_true rfl, by decide, by omega⟩ (kk_z fun r66 h66 q66 => ?_) kx_z
            obtain ⟨rfl, rfl⟩ := q66
            refine mw_top (x' := stI sg k c) rfl ?_
            refine j_iadd dX2_leaveBefore_69 ?_
            refine t_aldB 3 (by decide) (n := 144) (sg.2 4) dX2_leaveBefore_70 rfl (Nat.le_of_ble_eq_true rfl) (oa4 (hT.2 4)) ⟨by omega, by omega⟩ (fun b70 => ?_)
            refine j_isub dX2_leaveBefore_71 ?_
            refine j_istore [some (.ref m), some (vi fr), some (vi ah), some (vi gr2), some (vi k), some (vi c), some (vi (lvI sg k c)), some (vi ((lvI sg k c) - ((sg.2 4) ((12 * fr) + (stI sg k c)))))] dX2_leaveBefore_72 (by decide) rfl rfl ?_
            refine j_iload dX2_leaveBefore_74 rfl ?_
            refine j_if_lt 101 dX2_leaveBefore_76 (by decide) ⟨by omega, by omega⟩ (fun c76 => ?_) (fun c76 => ?_)
            · refine j_iload_n dX2_leaveBefore_101 rfl ?_
              refine j_istore_n [some (.ref m), some (vi fr), some (vi ah), some (vi gr2), some (vi k), some (vi c), some (vi (lvI sg k c)), some (vi ((lvI sg k c) - ((sg.2 4) ((12 * fr) + (stI sg k c)))))] dX2_leaveBefore_102 (by decide) rfl rfl ?_
              refine j_iinc [some (.ref m), some (vi fr), some (vi ah), some (vi gr2), some (vi k), some (vi (c + 1)), some (vi (lvI sg k c)), some (vi ((lvI sg k c) - ((sg.2 4) ((12 * fr) + (stI sg k c)))))] dX2_leaveBefore_103 rfl (by decide) rfl rfl ?_
              refine m_goto 15 dX2_leaveBefore_106 (by decide) ?_
              refine mw_forget 6 ?_
              refine mw_forget 7 ?_
              exact ih15 _ (by omega) _ _ rfl (by omega) (by first | exact hg2 | exact Or.inr ⟨⟨k, c, hj, hc.1, by omega, by omega, by unfold lvE; omega, rfl⟩, by omega, by omega, by omega⟩) (by omega) (hu2.add (by omega) (fun g1 g2 g3 => by unfold lvE at g2 g3 ⊢; omega))
            · refine j_iload dX2_leaveBefore_79 rfl ?_
              refine j_if_lt 101 dX2_leaveBefore_81 (by decide) ⟨by omega, by omega⟩ (fun c81 => ?_) (fun c81 => ?_)
              · refine j_iload_n dX2_leaveBefore_101 rfl ?_
                refine j_istore_n [some (.ref m), some (vi fr), some (vi ah), some (vi gr2), some (vi k), some (vi c), some (vi (lvI sg k c)), some (vi ((lvI sg k c) - ((sg.2 4) ((12 * fr) + (stI sg k c)))))] dX2_leaveBefore_102 (by decide) rfl rfl ?_
                refine j_iinc [some (.ref m), some (vi fr), some (vi ah), some (vi gr2), some (vi k), some (vi (c + 1)), some (vi (lvI sg k c)), some (vi ((lvI sg k c) - ((sg.2 4) ((12 * fr) + (stI sg k c)))))] dX2_leaveBefore_103 rfl (by decide) rfl rfl ?_
                refine m_goto 15 dX2_leaveBefore_106 (by decide) ?_
                refine mw_forget 6 ?_
                refine mw_forget 7 ?_
                exact ih15 _ (by omega) _ _ rfl (by omega) (by first | exact hg2 | exact Or.inr ⟨⟨k, c, hj, hc.1, by omega, by omega, by unfold lvE; omega, rfl⟩, by omega, by omega, by omega⟩) (by omega) (hu2.add (by omega) (fun g1 g2 g3 => by unfold lvE at g2 g3 ⊢; omega))
              · refine j_iload dX2_leaveBefore_84 rfl ?_
                refine j_iload_n dX2_leaveBefore_86 rfl ?_
                refine j_icmp_ge 101 dX2_leaveBefore_87 (by decide) ⟨⟨by omega, by omega⟩, ⟨by omega, by omega⟩⟩ (fun c87 => ?_) (fun c87 => ?_)
                · refine j_iload_n dX2_leaveBefore_101 rfl ?_
                  refine j_istore_n [some (.ref m), some (vi fr), some (vi ah), some (vi gr2), some (vi k), some (vi c), some (vi (lvI sg k c)), some (vi ((lvI sg k c) - ((sg.2 4) ((12 * fr) + (stI sg k c)))))] dX2_leaveBefore_102 (by decide) rfl rfl ?_
                  refine j_iinc [some (.ref m), some (vi fr), some (vi ah), some (vi gr2), some (vi k), some (vi (c + 1)), some (vi (lvI sg k c)), some (vi ((lvI sg k c) - ((sg.2 4) ((12 * fr) + (stI sg k c)))))] dX2_leaveBefore_103 rfl (by decide) rfl rfl ?_
                  refine m_goto 15 dX2_leaveBefore_106 (by decide) ?_
                  refine mw_forget 6 ?_
                  refine mw_forget 7 ?_
                  exact ih15 _ (by omega) _ _ rfl (by omega) (by first | exact hg2 | exact Or.inr ⟨⟨k, c, hj, hc.1, by omega, by omega, by unfold lvE; omega, rfl⟩, by omega, by omega, by omega⟩) (by omega) (hu2.add (by omega) (fun g1 g2 g3 => by unfold lvE at g2 g3 ⊢; omega))
                · refine j_iload dX2_leaveBefore_90 rfl ?_
                  refine j_iload_n dX2_leaveBefore_92 rfl ?_
                  refine j_icmp_le 101 dX2_leaveBefore_93 (by decide) ⟨⟨by omega, by omega⟩, ⟨by omega, by omega⟩⟩ (fun c93 => ?_) (fun c93 => ?_)
                  · refine j_iload_n dX2_leaveBefore_101 rfl ?_
                    refine j_istore_n [some (.ref m), some (vi fr), some (vi ah), some (vi gr2), some (vi k), some (vi c), some (vi (lvI sg k c)), some (vi ((lvI sg k c) - ((sg.2 4) ((12 * fr) + (stI sg k c)))))] dX2_leaveBefore_102 (by decide) rfl rfl ?_
                    refine j_iinc [some (.ref m), some (vi fr), some (vi ah), some (vi gr2), some (vi k), some (vi (c + 1)), some (vi (lvI sg k c)), some (vi ((lvI sg k c) - ((sg.2 4) ((12 * fr) + (stI sg k c)))))] dX2_leaveBefore_103 rfl (by decide) rfl rfl ?_
                    refine m_goto 15 dX2_leaveBefore_106 (by decide) ?_
                    refine mw_forget 6 ?_
                    refine mw_forget 7 ?_
                    exact ih15 _ (by omega) _ _ rfl (by omega) (by first | exact hg2 | exact Or.inr ⟨⟨k, c, hj, hc.1, by omega, by omega, by unfold lvE; omega, rfl⟩, by omega, by omega, by omega⟩) (by omega) (hu2.add (by omega) (fun g1 g2 g3 => by unfold lvE at g2 g3 ⊢; omega))
                  · refine j_iload dX2_leaveBefore_96 rfl ?_
                    refine m_goto 102 dX2_leaveBefore_98 (by decide) ?_
                    refine j_istore_n [some (.ref m), some (vi fr), some (vi ah), some (vi ((lvI sg k c) - ((sg.2 4) ((12 * fr) + (stI sg k c))))), some (vi k), some (vi c), some (vi (lvI sg k c)), some (vi ((lvI sg k c) - ((sg.2 4) ((12 * fr) + (stI sg k c)))))] dX2_leaveBefore_102 (by decide) rfl rfl ?_
                    refine j_iinc [some (.ref m), some (vi fr), some (vi ah), some (vi ((lvI sg k c) - ((sg.2 4) ((12 * fr) + (stI sg k c))))), some (vi k), some (vi (c + 1)), some (vi (lvI sg k c)), some (vi ((lvI sg k c) - ((sg.2 4) ((12 * fr) + (stI sg k c)))))] dX2_leaveBefore_103 rfl (by decide) rfl rfl ?_
                    refine m_goto 15 dX2_leaveBefore_106 (by decide) ?_
                    refine mw_forget 6 ?_
                    refine mw_forget 7 ?_
                    exact ih15 _ (by omega) _ _ rfl (by omega) (by first | exact hg2 | exact Or.inr ⟨⟨k, c, hj, hc.1, by omega, by omega, by unfold lvE; omega, rfl⟩, by omega, by omega, by omega⟩) (by omega) (hu2.add (by omega) (fun g1 g2 g3 => by unfold lvE at g2 g3 ⊢; omega))
      exact L15 _ _ _ rfl (by omega) hg (Int.le_refl _) (fun a c b d => by omega)
  exact L5 _ _ _ rfl (by omega) (Or.inl rfl) (fun j a b => by have := b.1; omega)
/-- one can be at stop s at minute t with a ride at least -/
def ArR (sg : TS) (fr mi s t : Int) : Prop := (∃ t', EvI sg (b0 (sg.2 4) fr mi) BG s t' ∧ t' ≤ t) ∨ ∃ s' t', (0 ≤ s' ∧ s' < sg.1 1) ∧ EvI sg (b0 (sg.2 4) fr mi) BG s' t' ∧ s' ≠ s ∧ t' + sg.2 4 (12 * s' + s) ≤ t
def ByR (sg : TS) (fr mi s v : Int) : Prop := (v = 1000000 ∨ (-2000 ≤ v ∧ v ≤ 600000)) ∧ ∀ t, t < 900000 → (v ≤ t ↔ ArR sg fr mi s t)
theorem ByR.uniq {sg : TS} {fr mi s v w : Int} (h1 : ByR sg fr mi s v) (h2 : ByR sg fr mi s w) : v = w := by
  have a := h1.1; have b := h2.1
  by_cases e1 : v < 900000
  · have := (h2.2 v e1).mpr ((h1.2 v e1).mp (by omega))
    have := (h1.2 w (by omega)).mpr ((h2.2 w (by omega)).mp (by omega))
    omega
  · by_cases e2 : w < 900000
    · have := (h1.2 w e2).mpr ((h2.2 w e2).mp (by omega)); omega
    · omega
theorem EvI_pos {sg : TS} (hF : WF sg) {f0 r0 : Int → Int} {s t : Int} (h : EvI sg f0 r0 s t) : 0 ≤ t := by
  obtain ⟨n, h⟩ := h
  cases n with
  | zero => exact h.elim
  | succ n =>
    obtain ⟨k, c, c', h1, h2, h3, h4, h5, h6, h7, h8, h9, h10⟩ := h
    have := hF.2.2.1.lc hF.1 h1 h2 h3 h4
    omega
theorem LabB.byR {sg : TS} {fr mi s v : Int} {f r : Int → Int} (h : LabB sg fr mi f r) (hF : WF sg) (hr : okA 24 r) (hD : Dich r) (hs : 0 ≤ s ∧ s < sg.1 1) (b1 : -2000 ≤ v ∧ v ≤ r s) (b2 : v = r s ∨ ∃ q, 0 ≤ q ∧ q < sg.1 1 ∧ v = r q + sg.2 4 (12 * q + s)) (b3 : ∀ q, 0 ≤ q → q < sg.1 1 → v ≤ r q + sg.2 4 (12 * q + s)) : ByR sg fr mi s v := by
  have hn := of1 (hF.1.1 1)
  have d2 := hD s hs.1 (by omega)
  have hW := hF.2.2.2
  have hB : ∀ s t : Int, t < 900000 → ¬ BG s ≤ t := fun s t ht => by show ¬ (1000000 : Int) ≤ t; omega
  have way : ∀ q : Int, 0 ≤ q → q < sg.1 1 → (sg.2 4 (12 * q + s) = 1000000 ∨ sg.2 4 (12 * q + s) ≤ 250000) ∧ 0 ≤ sg.2 4 (12 * q + s) := fun q a b => ⟨hW.1 _ (by omega) (by omega), (oa4 (hF.1.2 4) _ (by omega) (by omega)).1⟩
  have hpos : ∀ q, 0 ≤ q → q < sg.1 1 → 0 ≤ r q := fun q a b => by
    by_cases e : r q < 900000
    · rcases (h.1 q (r q) a b e).mp (Int.le_refl _) with g | ⟨t', g, g2⟩
      · exact absurd g (hB q _ e)
      · have := EvI_pos hF g; omega
    · omega
  refine ⟨?_, fun t ht => ⟨fun h1 => ?_, fun h1 => ?_⟩⟩
  · rcases b2 with e | ⟨q, a, b, e⟩
    · omega
    · have hp := hpos q a b
      have d := hD q a (by omega)
      have w := way q a b
      have o := oa24 hr q a (by omega)
      omega
  · rcases b2 with e | ⟨q, a, b, e⟩
    · rcases (h.1 s t hs.1 hs.2 ht).mp (by omega) with g | ⟨t', g, g2⟩
      · exact absurd g (hB s t ht)
      · exact Or.inl ⟨t', g, g2⟩
    · have w := way q a b
      rcases (h.1 q (t - sg.2 4 (12 * q + s)) a b (by omega)).mp (by omega) with g | ⟨t', g, g2⟩
      · exact absurd g (hB q _ (by omega))
      · by_cases es : q = s
        · subst es
          have := hW.2 q a b
          exact Or.inl ⟨t', g, by omega⟩
        · exact Or.inr ⟨q, t', ⟨a, b⟩, g, es, by omega⟩
  · rcases h1 with ⟨t', g, g2⟩ | ⟨q, t', ⟨a, b⟩, g, g2, g3⟩
    · have := (h.1 s t hs.1 hs.2 ht).mpr (Or.inr ⟨t', g, g2⟩); omega
    · have w := way q a b
      have := (h.1 q t' a b (by omega)).mpr (Or.inr ⟨t', g, Int.le_refl _⟩)
      have := b3 q a b
      omega
theorem ArR_te {a b : TS} (h : tt a = tt b) {fr mi s t : Int} : ArR a fr mi s t ↔ ArR b fr mi s t := by unfold ArR; rw [EvI_te h, te_1 h, te_4 h]
theorem ByR.te {a b : TS} (h : tt a = tt b) {fr mi s v : Int} (hL : ByR a fr mi s v) : ByR b fr mi s v := ⟨hL.1, fun t ht => (hL.2 t ht).trans (ArR_te h)⟩
/-- how many boardings leave ahead of a minute -/
def cntL (sg : TS) (fr ah : Int) : Nat := smN (fun q => if isRunP sg ((q : Int) / 8) ∧ (q : Int) % 8 + 1 < sg.2 10 ((q : Int) / 8 % 24) ∧ 0 ≤ lvI sg ((q : Int) / 8) ((q : Int) % 8) ∧ 0 ≤ lvE sg fr ((q : Int) / 8) ((q : Int) % 8) ∧ lvE sg fr ((q : Int) / 8) ((q : Int) % 8) < ah then 1 else 0) 576
theorem cntL_b (sg : TS) (fr ah : Int) : cntL sg fr ah ≤ 576 := by
  have h : ∀ (g : Nat → Nat) (n : Nat), (∀ k, g k ≤ 1) → smN g n ≤ n := by
    intro g n hg
    induction n with
    | zero => exact Nat.le_refl _
    | succ n ih => unfold smN; have := hg n; omega
  exact h _ _ (fun k => by split <;> omega)
theorem cntL_lt {sg : TS} {fr ah l : Int} (hT : TB sg) (hl : lvL sg fr l) (h : l < ah) : cntL sg fr l < cntL sg fr ah := by
  obtain ⟨j, c, g1, g2, g3, g4, g5, g6⟩ := hl
  have j1 := g1.1; have j2 := g1.2.1
  have q := oa10 (hT.2 10) (j % 24) (by omega) (by omega)
  have e1 : (((8 * j + c).toNat : Nat) : Int) / 8 = j := by omega
  have e2 : (((8 * j + c).toNat : Nat) : Int) % 8 = c := by omega
  refine smN_lt (j := (8 * j + c).toNat) (fun k hk => ?_) (by omega) ?_
  · split
    · next h9 => rw [if_pos ⟨h9.1, h9.2.1, h9.2.2.1, h9.2.2.2.1, by have := h9.2.2.2.2; omega⟩]; exact Nat.le_refl _
    · exact Nat.zero_le _
  · rw [e1, e2, if_neg (by omega), if_pos ⟨g1.2.2, g3, g4, g5, by omega⟩]; decide
/-- pairs from the last one back: each leaves and comes ahead of the one before; all that is best is there -/
def PrA (sg : TS) (fr to : Int) (pm : Int) (lv cm : Int → Int) : Prop := (∀ i, 0 ≤ i → i < pm → lvL sg fr (lv i) ∧ ByR sg fr (lv i) to (cm i) ∧ cm i < 1000000) ∧ ∀ i, 0 ≤ i → i + 1 < pm → lv (i + 1) < lv i ∧ cm (i + 1) < cm i
def PrC (sg : TS) (fr to : Int) (pm : Int) (lv cm : Int → Int) (ah : Int) : Prop := ∀ l, lvL sg fr l → ah ≤ l → ∀ c, ByR sg fr l to c → c < 1000000 → ∃ i, 0 ≤ i ∧ i < pm ∧ l ≤ lv i ∧ cm i ≤ c
def PrI (sg : TS) (fr to : Int) (ah be pm : Int) (lv cm : Int → Int) : Prop := (0 ≤ pm ∧ pm + cntL sg fr ah ≤ 576) ∧ (okA 34 lv ∧ okA 35 cm) ∧ PrA sg fr to pm lv cm ∧ PrC sg fr to pm lv cm ah ∧ ((pm = 0 ∧ be = 1000000) ∨ (0 < pm ∧ be = cm (pm - 1) ∧ ah ≤ lv (pm - 1) ∧ -2000 ≤ be ∧ be < 1000000))
theorem PrI.no {sg : TS} {fr to ah be pm : Int} {lv cm : Int → Int} (h : PrI sg fr to ah be pm lv cm) (hT : TB sg) {l c : Int} (hl : lvL sg fr l) (hla : l < ah) (hmax : ∀ l', lvL sg fr l' → l' < ah → l' ≤ l) (hc : ByR sg fr l to c) (hbe : be ≤ c) : PrI sg fr to l be pm lv cm := by
  obtain ⟨h1, h2, h3, h4, h5⟩ := h
  have := cntL_lt hT hl hla
  refine ⟨by omega, h2, h3, fun l' q1 q2 c' q3 q4 => ?_, ?_⟩
  · by_cases e : ah ≤ l'
    · exact h4 l' q1 e c' q3 q4
    · have := hmax l' q1 (by omega)
      have e2 : l' = l := by omega
      subst e2
      have := q3.uniq hc
      rcases h5 with h5 | h5
      · omega
      · exact ⟨pm - 1, by omega, by omega, by omega, by omega⟩
  · rcases h5 with h5 | h5
    · exact Or.inl h5
    · exact Or.inr (by omega)
theorem PrI.yes {sg : TS} {fr to ah be pm : Int} {lv cm : Int → Int} (h : PrI sg fr to ah be pm lv cm) (hT : TB sg) {l c : Int} (hl : lvL sg fr l) (hla : l < ah) (hlb : 0 ≤ l ∧ l ≤ 10000) (hmax : ∀ l', lvL sg fr l' → l' < ah → l' ≤ l) (hc : ByR sg fr l to c) (hbe : c < be) : PrI sg fr to l c (pm + 1) (upz lv pm l) (upz cm pm c) := by
  obtain ⟨h1, ⟨o1, o2⟩, h3, h4, h5⟩ := h
  have hcn := cntL_lt hT hl hla
  have hcb := hc.1
  have u : ∀ (f : Int → Int) (x q : Int), q ≠ pm → upz f pm x q = f q := fun f x q hq => by unfold upz; rw [if_neg hq]
  refine ⟨by omega, ⟨mu34 o1 hlb, mu35 o2 (by omega)⟩, ⟨fun i a b => ?_, fun i a b => ?_⟩, fun l' q1 q2 c' q3 q4 => ?_, Or.inr ⟨by omega, ?_, ?_, by omega, by rcases h5 with h5 | h5 <;> omega⟩⟩
  · by_cases e : i = pm
    · rw [e, upz_at, upz_at]; exact ⟨hl, hc, by rcases h5 with h5 | h5 <;> omega⟩
    · rw [u lv l i e, u cm c i e]; exact h3.1 i a (by omega)
  · by_cases e : i + 1 = pm
    · rw [e, upz_at, upz_at, u lv l i (by omega), u cm c i (by omega)]
      rcases h5 with h5 | h5
      · omega
      · rw [show i = pm - 1 by omega]; omega
    · rw [u lv l _ e, u cm c _ e, u lv l i (by omega), u cm c i (by omega)]; exact h3.2 i a (by omega)
  · by_cases e : ah ≤ l'
    · obtain ⟨i, a1, a2, a3, a4⟩ := h4 l' q1 e c' q3 q4
      exact ⟨i, a1, by omega, by rw [u lv l i (by omega)]; exact a3, by rw [u cm c i (by omega)]; exact a4⟩
    · have := hmax l' q1 (by omega)
      have e2 : l' = l := by omega
      subst e2
      have := q3.uniq hc
      exact ⟨pm, by omega, by omega, by rw [upz_at]; exact Int.le_refl _, by rw [upz_at]; omega⟩
  · rw [show pm + 1 - 1 = pm by omega, upz_at]
  · rw [show pm + 1 - 1 = pm by omega, upz_at]; exact Int.le_refl _
/-- all pairs -/
def PrP (sg : TS) (fr to pm : Int) (lv cm : Int → Int) : Prop := (0 ≤ pm ∧ pm ≤ 576) ∧ PrA sg fr to pm lv cm ∧ ∀ l, lvL sg fr l → ∀ c, ByR sg fr l to c → c < 1000000 → ∃ i, 0 ≤ i ∧ i < pm ∧ l ≤ lv i ∧ cm i ≤ c
theorem c_tellPairs (K : KT) (d : Nat) (h : MH) (m : Nat) (sg : TS) (fr to day : Int) (hd : 5 ≤ d) (hF : WF sg) (hf : 0 ≤ fr ∧ fr < 12) (ht : 0 ≤ to ∧ to < sg.1 1) (hy : 0 ≤ day ∧ day ≤ 27) : Mt K yiX2_tellPairs d [.ref m, vi fr, vi to, vi day] (tov K h m sg) (Rv fun h' => ∃ x pm f r lv cm, h' = tov K h m (ovr sg [(22, day), (25, x), (33, pm)] [(23, f), (24, r), (34, lv), (35, cm)]) ∧ (x = 0 ∨ x = 1) ∧ okA 23 f ∧ okA 24 r ∧ okA 34 lv ∧ okA 35 cm ∧ PrP (sd sg day) fr to pm lv cm) := by
  have hT := hF.1
  have hF1 := hF.sd hy
  have hT1 := hF1.1
  have f1n := of1 (hT.1 1)
  refine mt_ofQ (by decide) (Nat.le_of_ble_eq_true rfl) (fun Q hQ => ?_)
  show MW K yiX2_tellPairs d (tov K h m (ovr sg [] [])) 0 [some (.ref m), some (vi fr), some (vi to), some (vi day), none, none, none, none] [] Q
  have f33 := of33 (hT.1 33)
  refine m_aload_n dX2_tellPairs_0 rfl ?_
  refine j_iload_n dX2_tellPairs_1 rfl ?_
  refine t_puti 22 (by decide) [(22, day)] dX2_tellPairs_2 q3115 rfl rfl rfl rfl ?_
  refine m_aload_n dX2_tellPairs_5 rfl ?_
  refine j_iconst dX2_tellPairs_6 ?_
  refine t_puti 33 (by decide) [(22, day), (33, 0)] dX2_tellPairs_7 q3126 rfl rfl rfl rfl ?_
  refine mw_tov (b := ovr (sd sg day) [(33, 0)] []) (ovr_ovr sg [(22, day)] [(33, 0)] [] []).symm ?_
  refine j_ldc (1000000) dX2_tellPairs_10 q3264 (by decide) ?_
  refine j_istore [some (.ref m), some (vi fr), some (vi to), some (vi day), some (vi 1000000), none, none, none] dX2_tellPairs_12 (by decide) rfl rfl ?_
  refine j_ldc (1000000) dX2_tellPairs_14 q3264 (by decide) ?_
  refine j_istore [some (.ref m), some (vi fr), some (vi to), some (vi day), some (vi 1000000), some (vi 1000000), none, none] dX2_tellPairs_16 (by decide) rfl rfl ?_
  have L18 : ∀ (N : Nat) (ah be x pm : Int) (f r lv cm : Int → Int), ah.toNat = N → (PrI (sd sg day) fr to ah be pm lv cm) → (0 ≤ ah ∧ ah ≤ 1000000) → (x = 0 ∨ x = 1) → (okA 23 f ∧ okA 24 r) → MW K yiX2_tellPairs d (tov K h m (ovr (sd sg day) [(25, x), (33, pm)] [(23, f), (24, r), (34, lv), (35, cm)])) 18 [some (.ref m), some (vi fr), some (vi to), some (vi day), some (vi ah), some (vi be), none, none] [] Q := by
    intro N
    induction N using Nat.strongRecOn with
    | _ N ih18 =>
    intro ah be x pm f r lv cm hN18 hI ha hx hl
    have hpm := hI.1
    have hbe : -2000 ≤ be ∧ be ≤ 1000000 := by { rcases hI.2.2.2.2 with g | g <;> omega }
    refine m_aload_n dX2_tellPairs_18 rfl ?_
    refine j_iload_n dX2_tellPairs_19 rfl ?_
    refine j_iload dX2_tellPairs_20 rfl ?_
    refine t_inv [(vi fr), (vi ah)] dX2_tellPairs_22 q3538 q3540 qs111 q3541 rfl (c_leaveBefore K 3 h m _ _ _ (by omega) ⟨(hT1.ovr (fa1 (mf25 (v := x) ⟨by first | decide | omega | (split <;> omega) | assumption, by first | decide | omega | (split <;> omega) | assumption⟩) (fa1 (mf33 (v := pm) ⟨by first | decide | omega | (split <;> omega) | assumption, by first | decide | omega | (split <;> omega) | assumption⟩) fa0)) (fa1 hl.1 (fa1 hl.2 (fa1 hI.2.1.1 (fa1 hI.2.1.2 fa0))))), hF1.2.1, hF1.2.2.1, hF1.2.2.2⟩ ⟨by omega, by omega⟩ ⟨by omega, by omega⟩) pdX2_leaveBefore ⟨Nat.le_of_ble_eq_true rfl, by decide, by omega⟩ (kk_z fun r22 h22 q22 => ?_) kx_z
    obtain ⟨rfl, g1, g2⟩ := q22
    have hgb : -1 ≤ r22 ∧ r22 ≤ 4500 := by { rcases g1 with g | g <;> omega }
    refine j_istore [some (.ref m), some (vi fr), some (vi to), some (vi day), some (vi ah), some (vi be), some (vi r22), none] dX2_tellPairs_25 (by decide) rfl rfl ?_
    refine j_iload dX2_tellPairs_27 rfl ?_
    refine j_if_ge 35 dX2_tellPairs_29 (by decide) ⟨by omega, by omega⟩ (fun c29 => ?_) (fun c29 => ?_)
    · have hlv : lvL (sd sg day) fr r22 ∧ r22 < ah := by { rcases g1 with g | g; { omega }; { exact ⟨g.1, g.2.2.1⟩ } }
      have hla := hlv.2
      have hlv := hlv.1
      have hmx : ∀ l', lvL (sd sg day) fr l' → l' < ah → l' ≤ r22 := g2
      refine m_aload_n dX2_tellPairs_35 rfl ?_
      refine j_iload_n dX2_tellPairs_36 rfl ?_
      refine j_iload dX2_tellPairs_37 rfl ?_
      refine t_inv [(vi fr), (vi r22)] dX2_tellPairs_39 q3421 q3423 qs93 q3424 rfl (c_begin K 1 h m _ _ _ (by omega) ⟨(hT1.ovr (fa1 (mf25 (v := x) ⟨by first | decide | omega | (split <;> omega) | assumption, by first | decide | omega | (split <;> omega) | assumption⟩) (fa1 (mf33 (v := pm) ⟨by first | decide | omega | (split <;> omega) | assumption, by first | decide | omega | (split <;> omega) | assumption⟩) fa0)) (fa1 hl.1 (fa1 hl.2 (fa1 hI.2.1.1 (fa1 hI.2.1.2 fa0))))), hF1.2.1, hF1.2.2.1, hF1.2.2.2⟩ ⟨by omega, by omega⟩ ⟨by omega, by omega⟩) pdX2_begin ⟨Nat.le_of_ble_eq_true rfl, by decide, by omega⟩ (kk_v fun h39 q39 => ?_) kx_v
      obtain ⟨f1, r1, rfl, y1, y2, y3, y4⟩ := q39
      refine mw_tov (b := ovr (sd sg day) [(25, x), (33, pm)] [(23, f1), (24, r1), (34, lv), (35, cm)]) (ovr_ovr _ _ _ _ _) ?_
      refine m_aload_n dX2_tellPairs_42 rfl ?_
      refine mw_tov (b := ovr (ovr (sd sg day) [(33, pm)] [(34, lv), (35, cm)]) [(25, x)] [(23, f1), (24, r1)]) (ovr_ovr (sd sg day) [(33, pm)] [(25, x)] [(34, lv), (35, cm)] [(23, f1), (24, r1)]).symm ?_
      have hTx : TB (ovr (sd sg day) [(33, pm)] [(34, lv), (35, cm)]) := hT1.ovr (fa1 (mf33 (v := pm) ⟨by omega, by omega⟩) fa0) (fa1 hI.2.1.1 (fa1 hI.2.1.2 fa0))
      have y5 : WC (ovr (sd sg day) [(33, pm)] [(34, lv), (35, cm)]) f1 r1 := fun s v a1 a2 a3 a4 a5 a6 => by { have e := (y4 s a1 a2).2; have e2 : (1000000 : Int) = r1 s := e; omega }
      refine t_inv [] dX2_tellPairs_43 q3429 q3431 qs95 q3432 rfl (c_settle K 4 h m (ovr (sd sg day) [(33, pm)] [(34, lv), (35, cm)]) _ f1 r1 (by omega) ⟨hTx, hF1.2.1, hF1.2.2.1, hF1.2.2.2⟩ y1 y2 y3 y5) pdX2_settle ⟨Nat.le_of_ble_eq_true rfl, by decide, by omega⟩ (kk_v fun h43 q43 => ?_) kx_v
      obtain ⟨f2, r2, rfl, o1, o2, o3, o4⟩ := q43
      refine mw_tov (b := ovr (sd sg day) [(25, 0), (33, pm)] [(23, f2), (24, r2), (34, lv), (35, cm)]) (ovr_ovr (sd sg day) [(33, pm)] [(25, 0)] [(34, lv), (35, cm)] [(23, f2), (24, r2)]) ?_
      have hLB : LabB (sd sg day) fr r22 f2 r2 := LabB.te (a := ovr (sd sg day) [(33, pm)] [(34, lv), (35, cm)]) (b := sd sg day) rfl (Lab.cg (sg := ovr (sd sg day) [(33, pm)] [(34, lv), (35, cm)]) hF1.2.1 hTx (fun v a b => ⟨(y4 v a b).1, (y4 v a b).2.symm⟩) o4)
      refine m_aload_n dX2_tellPairs_46 rfl ?_
      refine j_iload_n dX2_tellPairs_47 rfl ?_
      refine t_inv [(vi to)] dX2_tellPairs_48 q3542 q3544 qs112 q3545 rfl (c_byRide K 0 h m _ _ (hT1.ovr (fa1 (mf25 (v := 0) ⟨by first | decide | omega | (split <;> omega) | assumption, by first | decide | omega | (split <;> omega) | assumption⟩) (fa1 (mf33 (v := pm) ⟨by first | decide | omega | (split <;> omega) | assumption, by first | decide | omega | (split <;> omega) | assumption⟩) fa0)) (fa1 o1 (fa1 o2 (fa1 hI.2.1.1 (fa1 hI.2.1.2 fa0))))) ⟨by omega, by show to < sg.1 1; omega⟩) pdX2_byRide ⟨Nat.le_of_ble_eq_true rfl, by decide, by omega⟩ (kk_z fun r48 h48 q48 => ?_) kx_z
      obtain ⟨rfl, p1, p2, p3⟩ := q48
      have hby : ByR (sd sg day) fr r22 to r48 := LabB.byR hLB hF1 o2 o3.2 ⟨by omega, by show to < sg.1 1; omega⟩ p1 p2 p3
      have hbb := hby.1
      refine j_istore [some (.ref m), some (vi fr), some (vi to), some (vi day), some (vi ah), some (vi be), some (vi r22), some (vi r48)] dX2_tellPairs_51 (by decide) rfl rfl ?_
      refine j_iload dX2_tellPairs_53 rfl ?_
      refine j_iload dX2_tellPairs_55 rfl ?_
      refine j_icmp_ge 96 dX2_tellPairs_57 (by decide) ⟨⟨by omega, by omega⟩, ⟨by omega, by omega⟩⟩ (fun c57 => ?_) (fun c57 => ?_)
      · refine j_iload dX2_tellPairs_96 rfl ?_
        refine j_istore [some (.ref m), some (vi fr), some (vi to), some (vi day), some (vi r22), some (vi be), some (vi r22), some (vi r48)] dX2_tellPairs_98 (by decide) rfl rfl ?_
        refine m_goto 18 dX2_tellPairs_100 (by decide) ?_
        refine mw_forget 6 ?_
        refine mw_forget 7 ?_
        exact ih18 _ (by omega) _ _ _ _ _ _ _ _ rfl (by first | exact hI.yes hT1 hlv (by omega) (by omega) hmx hby (by omega) | exact hI.no hT1 hlv (by omega) hmx hby (by omega)) (by omega) (Or.inl rfl) ⟨o1, o2⟩
      · refine j_iload dX2_tellPairs_60 rfl ?_
        refine j_istore [some (.ref m), some (vi fr), some (vi to), some (vi day), some (vi ah), some (vi r48), some (vi r22), some (vi r48)] dX2_tellPairs_62 (by decide) rfl rfl ?_
        refine m_aload_n dX2_tellPairs_64 rfl ?_
        refine t_geta 34 22 (by decide) dX2_tellPairs_65 q3127 rfl ?_
        refine m_aload_n dX2_tellPairs_68 rfl ?_
        refine t_geti 33 (by decide) pm dX2_tellPairs_69 q3126 rfl ?_
        refine j_iload dX2_tellPairs_72 rfl ?_
        refine t_ast 22 (by decide) (n := 600) lv [(23, f2), (24, r2), (34, (upz lv pm r22)), (35, cm)] dX2_tellPairs_74 rfl (Nat.le_of_ble_eq_true rfl) ⟨by omega, by omega⟩ rfl rfl ?_
        refine m_aload_n dX2_tellPairs_75 rfl ?_
        refine t_geta 35 23 (by decide) dX2_tellPairs_76 q3128 rfl ?_
        refine m_aload_n dX2_tellPairs_79 rfl ?_
        refine t_geti 33 (by decide) pm dX2_tellPairs_80 q3126 rfl ?_
        refine j_iload dX2_tellPairs_83 rfl ?_
        refine t_ast 23 (by decide) (n := 600) cm [(23, f2), (24, r2), (34, (upz lv pm r22)), (35, (upz cm pm r48))] dX2_tellPairs_85 rfl (Nat.le_of_ble_eq_true rfl) ⟨by omega, by omega⟩ rfl rfl ?_
        refine m_aload_n dX2_tellPairs_86 rfl ?_
        refine m_dup dX2_tellPairs_87 rfl ?_
        refine t_geti 33 (by decide) pm dX2_tellPairs_88 q3126 rfl ?_
        refine j_iconst dX2_tellPairs_91 ?_
        refine j_iadd dX2_tellPairs_92 ?_
        refine t_puti 33 (by decide) [(25, 0), (33, (pm + 1))] dX2_tellPairs_93 q3126 rfl rfl rfl rfl ?_
        refine j_iload dX2_tellPairs_96 rfl ?_
        refine j_istore [some (.ref m), some (vi fr), some (vi to), some (vi day), some (vi r22), some (vi r48), some (vi r22), some (vi r48)] dX2_tellPairs_98 (by decide) rfl rfl ?_
        refine m_goto 18 dX2_tellPairs_100 (by decide) ?_
        refine mw_forget 6 ?_
        refine mw_forget 7 ?_
        exact ih18 _ (by omega) _ _ _ _ _ _ _ _ rfl (by first | exact hI.yes hT1 hlv (by omega) (by omega) hmx hby (by omega) | exact hI.no hT1 hlv (by omega) hmx hby (by omega)) (by omega) (Or.inl rfl) ⟨o1, o2⟩
    · refine m_goto 103 dX2_tellPairs_32 (by decide) ?_
      subst hQ; exact j_vret dX2_tellPairs_103 rfl (⟨x, pm, f, r, lv, cm, congrArg (tov K h m) (ovr_ovr sg [(22, day)] [(25, x), (33, pm)] [] [(23, f), (24, r), (34, lv), (35, cm)]), hx, hl.1, hl.2, hI.2.1.1, hI.2.1.2, ⟨by omega, by omega⟩, hI.2.2.1, fun l q1 c q2 q3 => hI.2.2.2.1 l q1 (by { by_cases q4 : l < ah; { have := g2 l q1 q4; obtain ⟨j, c9, _, _, _, _, q5, q6⟩ := q1; omega }; { omega } }) c q2 q3⟩)
  refine mw_tov (b := ovr (sd sg day) [(33, 0)] [(23, ((sd sg day).2 23))]) (ovr_addA _ _ _ 23) ?_
  refine mw_tov (b := ovr (sd sg day) [(33, 0)] [(23, ((sd sg day).2 23)), (24, ((sd sg day).2 24))]) (ovr_addA _ _ _ 24) ?_
  refine mw_tov (b := ovr (sd sg day) [(33, 0)] [(23, ((sd sg day).2 23)), (24, ((sd sg day).2 24)), (34, ((sd sg day).2 34))]) (ovr_addA _ _ _ 34) ?_
  refine mw_tov (b := ovr (sd sg day) [(33, 0)] [(23, ((sd sg day).2 23)), (24, ((sd sg day).2 24)), (34, ((sd sg day).2 34)), (35, ((sd sg day).2 35))]) (ovr_addA _ _ _ 35) ?_
  refine mw_tov (b := ovr (sd sg day) [(25, ((sd sg day).1 25)), (33, 0)] [(23, ((sd sg day).2 23)), (24, ((sd sg day).2 24)), (34, ((sd sg day).2 34)), (35, ((sd sg day).2 35))]) (ovr_addF _ _ _ 25) ?_
  exact L18 _ _ _ _ _ _ _ _ _ rfl ⟨⟨by omega, by have := cntL_b (sd sg day) fr 1000000; omega⟩, ⟨hT.2 34, hT.2 35⟩, ⟨fun i a b => by omega, fun i a b => by omega⟩, fun l g1 g2 => by obtain ⟨j, c, q1, q2, q3, q4, q5, q6⟩ := g1; have z := lvI_b hT1 (r := j) (c := c) ⟨q1.1, q1.2.1⟩ ⟨by omega, by have := oa10 (hT1.2 10) (j % 24) (by have := q1.1; omega) (by have := q1.2.1; omega); omega⟩; have s9 := hF1.2.1.run q1 (c := c) ⟨q2, by omega⟩; have z2 := oa4 (hT1.2 4) (12 * fr + stI (sd sg day) j c) (by omega) (by have : (sd sg day).1 1 = sg.1 1 := rfl; omega); unfold lvE at q6; omega, Or.inl ⟨rfl, rfl⟩⟩ (by omega) (by have := of25 (hT.1 25); show sg.1 25 = 0 ∨ sg.1 25 = 1; omega) ⟨hT.2 23, hT.2 24⟩
