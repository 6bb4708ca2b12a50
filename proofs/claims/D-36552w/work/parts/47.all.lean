/-! the twin: all pairs of stops; cuts, shifts, shares -/
def alE (sg : TS) (mi : Int) (B : Int → Int) (a b : Int) : Prop := ∀ a' b', 0 ≤ a' → 0 ≤ b' → b' < sg.1 1 → (a' < a ∨ (a' = a ∧ b' < b)) → EA sg a' mi b' (B (12 * a' + b'))
theorem alE.add {sg : TS} {mi a b x : Int} {B : Int → Int} (h : alE sg mi B a b) (hn : sg.1 1 ≤ 12) (hb : 0 ≤ b ∧ b < sg.1 1) (hx : EA sg a mi b x) : alE sg mi (upz B (12 * a + b) x) a (b + 1) := by
  intro a' b' g1 g2 g3 g4
  unfold upz
  by_cases e : 12 * a' + b' = 12 * a + b
  · have e1 : a' = a := by omega
    have e2 : b' = b := by omega
    subst e1; subst e2
    rw [if_pos rfl]; exact hx
  · rw [if_neg e]; exact h a' b' g1 g2 g3 (by omega)
theorem alE.next {sg : TS} {mi a b : Int} {B : Int → Int} (h : alE sg mi B a b) (hb : sg.1 1 ≤ b) : alE sg mi B (a + 1) 0 := fun a' b' g1 g2 g3 g4 => h a' b' g1 g2 g3 (by omega)
theorem c_tellAll (K : KT) (d : Nat) (h : MH) (m : Nat) (sg : TS) (day mi : Int) (hd : 6 ≤ d) (hF : WF sg) (hy : 0 ≤ day ∧ day ≤ 27) (hm : 0 ≤ mi ∧ mi ≤ 5000) : Mt K yiX2_tellAll d [.ref m, vi day, vi mi] (tov K h m sg) (Rv fun h' => ∃ x y f r B, h' = tov K h m (ovr sg [(22, x), (25, y)] [(23, f), (24, r), (43, B)]) ∧ (0 ≤ x ∧ x ≤ 27) ∧ (y = 0 ∨ y = 1) ∧ okA 23 f ∧ okA 24 r ∧ okA 43 B ∧ alE (sd sg day) mi B (sg.1 1) 0) := by
  have hT := hF.1
  have f1' := of1 (hT.1 1)
  refine mt_ofQ (by decide) (Nat.le_of_ble_eq_true rfl) (fun Q hQ => ?_)
  show MW K yiX2_tellAll d (tov K h m (ovr sg [] [])) 0 [some (.ref m), some (vi day), some (vi mi), none, none, none] [] Q
  have f1 := of1 (hT.1 1)
  refine j_iconst dX2_tellAll_0 ?_
  refine j_istore_n [some (.ref m), some (vi day), some (vi mi), some (vi 0), none, none] dX2_tellAll_1 (by decide) rfl rfl ?_
  have L2 : ∀ (N : Nat) (a x y : Int) (f r B : Int → Int), (12 - a).toNat = N → (0 ≤ a ∧ a ≤ sg.1 1) → ((0 ≤ x ∧ x ≤ 27) ∧ (y = 0 ∨ y = 1)) → (okA 23 f ∧ okA 24 r ∧ okA 43 B) → (alE (sd sg day) mi B a 0) → MW K yiX2_tellAll d (tov K h m (ovr sg [(22, x), (25, y)] [(23, f), (24, r), (43, B)])) 2 [some (.ref m), some (vi day), some (vi mi), some (vi a), none, none] [] Q := by
    intro N
    induction N using Nat.strongRecOn with
    | _ N ih2 =>
    intro a x y f r B hN2 ha hx ho hB
    refine j_iload_n dX2_tellAll_2 rfl ?_
    refine m_aload_n dX2_tellAll_3 rfl ?_
    refine t_geti 1 (by decide) (sg.1 1) dX2_tellAll_4 q3094 rfl ?_
    refine j_icmp_ge 62 dX2_tellAll_7 (by decide) ⟨⟨by omega, by omega⟩, ⟨by omega, by omega⟩⟩ (fun c7 => ?_) (fun c7 => ?_)
    · subst hQ; exact j_vret dX2_tellAll_62 rfl (⟨x, y, f, r, B, rfl, hx.1, hx.2, ho.1, ho.2.1, ho.2.2, by rw [show sg.1 1 = a by omega]; exact hB⟩)
    · refine m_aload_n dX2_tellAll_10 rfl ?_
      refine j_iload_n dX2_tellAll_11 rfl ?_
      refine j_iload_n dX2_tellAll_12 rfl ?_
      refine j_iload_n dX2_tellAll_13 rfl ?_
      refine j_iload_n dX2_tellAll_14 rfl ?_
      refine t_inv [(vi a), (vi a), (vi day), (vi mi)] dX2_tellAll_15 q3417 q3419 qs92 q3420 rfl (c_earliestOf K 5 h m _ _ _ _ _ (by omega) ⟨(hT.ovr (fa1 (mf22 (v := x) ⟨by first | decide | omega | (split <;> omega) | assumption, by first | decide | omega | (split <;> omega) | assumption⟩) (fa1 (mf25 (v := y) ⟨by first | decide | omega | (split <;> omega) | assumption, by first | decide | omega | (split <;> omega) | assumption⟩) fa0)) (fa1 ho.1 (fa1 ho.2.1 (fa1 ho.2.2 fa0)))), hF.2.1, hF.2.2.1, hF.2.2.2⟩ ⟨by omega, by omega⟩ ⟨by omega, by omega⟩ ⟨by omega, by omega⟩ ⟨by omega, by omega⟩) pdX2_earliestOf ⟨Nat.le_of_ble_eq_true rfl, by decide, by omega⟩ (kk_z fun r15 h15 q15 => ?_) kx_z
      obtain ⟨f15, r15, rfl, x15, y15, z15, w15, rfl⟩ := q15
      refine mw_tov (b := ovr sg [(22, day), (25, 0)] [(23, f15), (24, r15), (43, B)]) (ovr_ovr _ _ _ _ _) ?_
      refine mw_top (x' := (if f15 a < r15 a then f15 a else r15 a)) rfl ?_
      refine j_istore [some (.ref m), some (vi day), some (vi mi), some (vi a), some (vi (if f15 a < r15 a then f15 a else r15 a)), none] dX2_tellAll_18 (by decide) rfl rfl ?_
      refine j_iconst dX2_tellAll_20 ?_
      refine j_istore [some (.ref m), some (vi day), some (vi mi), some (vi a), some (vi (if f15 a < r15 a then f15 a else r15 a)), some (vi 0)] dX2_tellAll_21 (by decide) rfl rfl ?_
      have L23 : ∀ (N : Nat) (b : Int) (B2 : Int → Int), (12 - b).toNat = N → (0 ≤ b ∧ b ≤ sg.1 1) → (okA 43 B2) → (alE (sd sg day) mi B2 a b) → MW K yiX2_tellAll d (tov K h m (ovr sg [(22, day), (25, 0)] [(23, f15), (24, r15), (43, B2)])) 23 [some (.ref m), some (vi day), some (vi mi), some (vi a), none, some (vi b)] [] Q := by
        intro N
        induction N using Nat.strongRecOn with
        | _ N ih23 =>
        intro b B2 hN23 hb ho2 hB2
        refine j_iload dX2_tellAll_23 rfl ?_
        refine m_aload_n dX2_tellAll_25 rfl ?_
        refine t_geti 1 (by decide) (sg.1 1) dX2_tellAll_26 q3094 rfl ?_
        refine j_icmp_ge 56 dX2_tellAll_29 (by decide) ⟨⟨by omega, by omega⟩, ⟨by omega, by omega⟩⟩ (fun c29 => ?_) (fun c29 => ?_)
        · refine j_iinc [some (.ref m), some (vi day), some (vi mi), some (vi (a + 1)), none, some (vi b)] dX2_tellAll_56 rfl (by decide) rfl rfl ?_
          refine m_goto 2 dX2_tellAll_59 (by decide) ?_
          refine mw_forget 5 ?_
          exact ih2 _ (by omega) _ _ _ _ _ _ rfl (by omega) ⟨⟨by omega, by omega⟩, Or.inl rfl⟩ ⟨x15, y15, ho2⟩ (hB2.next (by show sg.1 1 ≤ b; omega))
        · refine m_aload_n dX2_tellAll_32 rfl ?_
          refine t_geta 43 30 (by decide) dX2_tellAll_33 q3136 rfl ?_
          refine j_bipush dX2_tellAll_36 (by decide) ?_
          refine j_iload_n dX2_tellAll_38 rfl ?_
          refine j_imul dX2_tellAll_39 ?_
          refine j_iload dX2_tellAll_40 rfl ?_
          refine j_iadd dX2_tellAll_42 ?_
          refine m_aload_n dX2_tellAll_43 rfl ?_
          refine j_iload dX2_tellAll_44 rfl ?_
          refine t_inv [(vi b)] dX2_tellAll_46 q3461 q3463 qs103 q3464 rfl (c_at K 0 h m _ _ (hT.ovr (fa1 (mf22 (v := day) ⟨by first | decide | omega | (split <;> omega) | assumption, by first | decide | omega | (split <;> omega) | assumption⟩) (fa1 (mf25 (v := 0) ⟨by first | decide | omega | (split <;> omega) | assumption, by first | decide | omega | (split <;> omega) | assumption⟩) fa0)) (fa1 x15 (fa1 y15 (fa1 ho2 fa0)))) ⟨by omega, by omega⟩) pdX2_at ⟨Nat.le_of_ble_eq_true rfl, by decide, by omega⟩ (kk_z fun r46 h46 q46 => ?_) kx_z
          obtain ⟨rfl, rfl⟩ := q46
          refine mw_top (x' := (if f15 b < r15 b then f15 b else r15 b)) rfl ?_
          refine t_ast 30 (by decide) (n := 144) B2 [(23, f15), (24, r15), (43, (upz B2 ((12 * a) + b) (if f15 b < r15 b then f15 b else r15 b)))] dX2_tellAll_49 rfl (Nat.le_of_ble_eq_true rfl) ⟨by omega, by omega⟩ rfl rfl ?_
          refine j_iinc [some (.ref m), some (vi day), some (vi mi), some (vi a), none, some (vi (b + 1))] dX2_tellAll_50 rfl (by decide) rfl rfl ?_
          refine m_goto 23 dX2_tellAll_53 (by decide) ?_
          exact ih23 _ (by omega) _ _ rfl (by omega) (mu43 ho2 (by have q1 := oa23 x15 b (by omega) (by omega); have q2 := oa24 y15 b (by omega) (by omega); split <;> omega)) (hB2.add (by show sg.1 1 ≤ 12; omega) ⟨by omega, by show b < sg.1 1; omega⟩ (EA.te (a := sd (ovr sg [(22, x), (25, y)] [(23, f), (24, r), (43, B)]) day) (b := sd sg day) rfl (w15.ea x15 y15 z15 ⟨by omega, by show b < sg.1 1; omega⟩ (by show sg.1 1 ≤ 12; omega))))
      refine mw_forget 4 ?_
      exact L23 _ _ _ rfl (by omega) ho.2.2 hB
  refine mw_tov (b := ovr sg [] [(23, (sg.2 23))]) (ovr_addA _ _ _ 23) ?_
  refine mw_tov (b := ovr sg [] [(23, (sg.2 23)), (24, (sg.2 24))]) (ovr_addA _ _ _ 24) ?_
  refine mw_tov (b := ovr sg [] [(23, (sg.2 23)), (24, (sg.2 24)), (43, (sg.2 43))]) (ovr_addA _ _ _ 43) ?_
  refine mw_tov (b := ovr sg [(22, (sg.1 22))] [(23, (sg.2 23)), (24, (sg.2 24)), (43, (sg.2 43))]) (ovr_addF _ _ _ 22) ?_
  refine mw_tov (b := ovr sg [(22, (sg.1 22)), (25, (sg.1 25))] [(23, (sg.2 23)), (24, (sg.2 24)), (43, (sg.2 43))]) (ovr_addF _ _ _ 25) ?_
  exact L2 _ _ _ _ _ _ _ rfl (by omega) ⟨of22 (hT.1 22), by have := of25 (hT.1 25); omega⟩ ⟨hT.2 23, hT.2 24, hT.2 43⟩ (fun a' b' g1 g2 g3 g4 => by omega)
/-- counting -/
noncomputable def cB (p : Int → Prop) : Nat → Int
  | 0 => 0
  | b + 1 => cB p b + @ite Int (p (b : Int)) (Classical.propDecidable _) 1 0
noncomputable def cA (p : Int → Int → Prop) (n : Nat) : Nat → Int
  | 0 => 0
  | a + 1 => cA p n a + cB (p (a : Int)) n
theorem cB_y {p : Int → Prop} {b : Int} (hb : 0 ≤ b) (h : p b) : cB p (b + 1).toNat = cB p b.toNat + 1 := by
  have e : (b + 1).toNat = b.toNat + 1 := by omega
  have e2 : ((b.toNat : Nat) : Int) = b := by omega
  rw [e]; show cB p b.toNat + @ite Int (p (b.toNat : Int)) (Classical.propDecidable _) 1 0 = _
  rw [e2, if_pos h]
theorem cB_n {p : Int → Prop} {b : Int} (hb : 0 ≤ b) (h : ¬ p b) : cB p (b + 1).toNat = cB p b.toNat := by
  have e : (b + 1).toNat = b.toNat + 1 := by omega
  have e2 : ((b.toNat : Nat) : Int) = b := by omega
  rw [e]; show cB p b.toNat + @ite Int (p (b.toNat : Int)) (Classical.propDecidable _) 1 0 = _
  rw [e2, if_neg h, Int.add_zero]
theorem cA_s {p : Int → Int → Prop} {n : Nat} {a : Int} (ha : 0 ≤ a) : cA p n (a + 1).toNat = cA p n a.toNat + cB (p a) n := by
  have e : (a + 1).toNat = a.toNat + 1 := by omega
  have e2 : ((a.toNat : Nat) : Int) = a := by omega
  rw [e]; show cA p n a.toNat + cB (p (a.toNat : Int)) n = _
  rw [e2]
theorem cB_b (p : Int → Prop) (n : Nat) : 0 ≤ cB p n ∧ cB p n ≤ n := by
  induction n with
  | zero => exact ⟨Int.le_refl 0, Int.le_refl 0⟩
  | succ n ih =>
    unfold cB
    by_cases h : p (n : Int)
    · rw [if_pos h]; omega
    · rw [if_neg h]; omega
theorem cA_b (p : Int → Int → Prop) (n a : Nat) : 0 ≤ cA p n a ∧ cA p n a ≤ n * a := by
  induction a with
  | zero => exact ⟨Int.le_refl 0, by show (0 : Int) ≤ _; omega⟩
  | succ a ih =>
    unfold cA
    have := cB_b (p (a : Int)) n
    have e : (n : Int) * ((a + 1 : Nat) : Int) = n * a + n := by rw [show ((a + 1 : Nat) : Int) = (a : Int) + 1 by omega, Int.mul_add, Int.mul_one]
    omega
/-- there is a way at all -/
def RcB (sg : TS) (a b : Int) : Prop := ∃ t, t < 900000 ∧ ArB sg a 0 b t
theorem EA.rc {sg : TS} {a b v : Int} (h : EA sg a 0 b v) : v < 1000000 ↔ RcB sg a b := by
  have h1 := h.1
  constructor
  · intro h2; exact ⟨v, by omega, (h.2 v (by omega)).mp (Int.le_refl _)⟩
  · rintro ⟨t, h2, h3⟩; have := (h.2 t h2).mpr h3; omega
def rsP (sg : TS) (a b : Int) : Prop := a ≠ b ∧ RcB sg a b
theorem sq_b {n : Int} (h : 2 ≤ n ∧ n ≤ 12) : 0 < n * (n - 1) ∧ n * (n - 1) ≤ 144 := by
  have h2 : n = 2 ∨ n = 3 ∨ n = 4 ∨ n = 5 ∨ n = 6 ∨ n = 7 ∨ n = 8 ∨ n = 9 ∨ n = 10 ∨ n = 11 ∨ n = 12 := by omega
  rcases h2 with rfl | rfl | rfl | rfl | rfl | rfl | rfl | rfl | rfl | rfl | rfl <;> decide
theorem c_reachShare (K : KT) (d : Nat) (h : MH) (m : Nat) (sg : TS) (day : Int) (hd : 7 ≤ d) (hF : WF sg) (h1 : In day) (hne : ∀ a b : Int, 0 < b → b ≤ 144 → vf_n32 (FP.fdiv (FP.i2f (Int32.ofInt a)) (FP.i2f (Int32.ofInt b)))) : Mt K yiX2_reachShare d [.ref m, vi day] (tov K h m sg) (Rf fun v h' => ∃ sg', h' = tov K h m sg' ∧ Scr sg sg' ∧ TB sg' ∧ ((¬ (0 ≤ day ∧ day ≤ 27) ∧ sg'.1 0 = 1) ∨ ((0 ≤ day ∧ day ≤ 27) ∧ sg.1 1 < 2 ∧ sg'.1 0 = 2) ∨ ((0 ≤ day ∧ day ≤ 27) ∧ 2 ≤ sg.1 1 ∧ sg'.1 0 = 0 ∧ v = FP.fdiv (FP.i2f (Int32.ofInt (cA (rsP (sd sg day)) (sg.1 1).toNat (sg.1 1).toNat))) (FP.i2f (Int32.ofInt (sg.1 1 * (sg.1 1 - 1))))))) := by
  have hT := hF.1
  have := h1.1; have := h1.2; have f1' := of1 (hT.1 1)
  refine mt_ofQ (by decide) (Nat.le_of_ble_eq_true rfl) (fun Q hQ => ?_)
  show MW K yiX2_reachShare d (tov K h m (ovr sg [] [])) 0 [some (.ref m), some (vi day), none, none, none] [] Q
  have f1 := of1 (hT.1 1)
  refine m_aload_n dX2_reachShare_0 rfl ?_
  refine j_iload_n dX2_reachShare_1 rfl ?_
  refine j_iconst dX2_reachShare_2 ?_
  refine t_inv [(vi day), (vi 1)] dX2_reachShare_3 q3297 q3299 qs80 q3300 rfl (c_isNoDay K 1 h m _ _ _ (by omega) ⟨by omega, by omega⟩) pdX2_isNoDay ⟨Nat.le_of_ble_eq_true rfl, by decide, by omega⟩ (kk_z fun r3 h3 q3 => ?_) kx_z
  obtain ⟨rfl, rfl⟩ := q3
  refine mw_tov (b := ovr sg [(0, (if ¬ (0 ≤ day ∧ day ≤ 27) then 1 else 0))] []) (ovr_ovr _ _ _ _ _) ?_
  refine mw_top (x' := bz (¬ (0 ≤ day ∧ day ≤ 27))) rfl ?_
  refine j_bz_ne 30 dX2_reachShare_6 (by decide) (fun c6 => ?_) (fun c6 => ?_)
  · refine mw_tov (b := ovr sg [(0, 1)] []) (by rw [if_pos c6]) ?_
    refine m_fconst0 dX2_reachShare_30 ?_
    subst hQ; exact m_fret dX2_reachShare_31 rfl ⟨_, rfl, ⟨_, rfl, (Scr.ovr sg rfl rfl), (hT.ovr (fa1 (mf0 (v := 1) ⟨by first | decide | omega | (split <;> omega) | assumption, by first | decide | omega | (split <;> omega) | assumption⟩) fa0) fa0), by first | exact Or.inl ⟨by omega, rfl⟩ | exact Or.inr (Or.inl ⟨by omega, by omega, rfl⟩)⟩⟩
  · refine mw_tov (b := ovr sg [(0, 0)] []) (by rw [if_neg c6]) ?_
    refine m_aload_n dX2_reachShare_9 rfl ?_
    refine m_aload_n dX2_reachShare_10 rfl ?_
    refine t_geti 1 (by decide) (sg.1 1) dX2_reachShare_11 q3094 rfl ?_
    refine j_iconst dX2_reachShare_14 ?_
    refine j_icmp_ge 22 dX2_reachShare_15 (by decide) ⟨⟨by omega, by omega⟩, ⟨by omega, by omega⟩⟩ (fun c15 => ?_) (fun c15 => ?_)
    · refine j_iconst dX2_reachShare_22 ?_
      refine j_iconst dX2_reachShare_23 ?_
      refine t_inv [(vi 0), (vi 2)] dX2_reachShare_24 q3256 q3258 qs76 q3259 rfl (c_isThrown0 K 0 h m _ _) pdX2_isThrown ⟨Nat.le_of_ble_eq_true rfl, by decide, by omega⟩ (kk_z fun r24 h24 q24 => ?_) kx_z
      obtain ⟨rfl, rfl⟩ := q24
      refine mw_tov (b := ovr sg [(0, 0)] []) (ovr_ovr _ _ _ _ _) ?_
      refine j_if_eq 32 dX2_reachShare_27 (by decide) ⟨by decide, by decide⟩ (fun _ => ?_) (fun c => absurd c (by decide))
      refine m_aload_n dX2_reachShare_32 rfl ?_
      refine j_iload_n dX2_reachShare_33 rfl ?_
      refine j_iconst dX2_reachShare_34 ?_
      refine t_inv [(vi day), (vi 0)] dX2_reachShare_35 q3598 q3600 qs119 q3601 rfl (c_tellAll K 6 h m _ _ _ (by omega) ⟨(hT.ovr (fa1 (mf0 (v := 0) ⟨by first | decide | omega | (split <;> omega) | assumption, by first | decide | omega | (split <;> omega) | assumption⟩) fa0) fa0), hF.2.1, hF.2.2.1, hF.2.2.2⟩ ⟨by omega, by omega⟩ ⟨by omega, by omega⟩) pdX2_tellAll ⟨Nat.le_of_ble_eq_true rfl, by decide, by omega⟩ (kk_v fun h35 q35 => ?_) kx_v
      obtain ⟨x35, y35, f35, r35, B35, rfl, g35, i35, o35, p35, u35, z35⟩ := q35
      refine mw_tov (b := ovr sg [(0, 0), (22, x35), (25, y35)] [(23, f35), (24, r35), (43, B35)]) (ovr_ovr _ _ _ _ _) ?_
      have hE : ∀ a b, 0 ≤ a → a < sg.1 1 → 0 ≤ b → b < sg.1 1 → EA (sd sg day) a 0 b (B35 (12 * a + b)) := fun a b q1 q2 q3 q4 => EA.te (a := sd (ovr sg [(0, 0)] []) day) (b := sd sg day) rfl (z35 a b q1 q3 q4 (Or.inl q2))
      refine j_iconst dX2_reachShare_38 ?_
      refine j_istore_n [some (.ref m), some (vi day), some (vi 0), none, none] dX2_reachShare_39 (by decide) rfl rfl ?_
      refine j_iconst dX2_reachShare_40 ?_
      refine j_istore_n [some (.ref m), some (vi day), some (vi 0), some (vi 0), none] dX2_reachShare_41 (by decide) rfl rfl ?_
      have L42 : ∀ (N : Nat) (mn a : Int), (12 - a).toNat = N → (0 ≤ a ∧ a ≤ sg.1 1) → (mn = cA (rsP (sd sg day)) (sg.1 1).toNat a.toNat) → MW K yiX2_reachShare d (tov K h m (ovr sg [(0, 0), (22, x35), (25, y35)] [(23, f35), (24, r35), (43, B35)])) 42 [some (.ref m), some (vi day), some (vi mn), some (vi a), none] [] Q := by
        intro N
        induction N using Nat.strongRecOn with
        | _ N ih42 =>
        intro mn a hN42 ha hm
        refine j_iload_n dX2_reachShare_42 rfl ?_
        refine m_aload_n dX2_reachShare_43 rfl ?_
        refine t_geti 1 (by decide) (sg.1 1) dX2_reachShare_44 q3094 rfl ?_
        refine j_icmp_ge 105 dX2_reachShare_47 (by decide) ⟨⟨by omega, by omega⟩, ⟨by omega, by omega⟩⟩ (fun c47 => ?_) (fun c47 => ?_)
        · refine j_iload_n dX2_reachShare_105 rfl ?_
          refine m_i2f dX2_reachShare_106 ?_
          refine m_aload_n dX2_reachShare_107 rfl ?_
          refine t_geti 1 (by decide) (sg.1 1) dX2_reachShare_108 q3094 rfl ?_
          refine m_aload_n dX2_reachShare_111 rfl ?_
          refine t_geti 1 (by decide) (sg.1 1) dX2_reachShare_112 q3094 rfl ?_
          refine j_iconst dX2_reachShare_115 ?_
          refine j_isub dX2_reachShare_116 ?_
          refine j_imul dX2_reachShare_117 ?_
          refine m_i2f dX2_reachShare_118 ?_
          refine m_fdiv dX2_reachShare_119 (hne _ _ (sq_b (by omega)).1 (sq_b (by omega)).2) ?_
          subst hQ; exact m_fret dX2_reachShare_120 rfl ⟨_, rfl, ⟨_, rfl, (Scr.ovr sg rfl rfl), (hT.ovr (fa1 (mf0 (v := 0) ⟨by first | decide | omega | (split <;> omega) | assumption, by first | decide | omega | (split <;> omega) | assumption⟩) (fa1 (mf22 (v := x35) ⟨by first | decide | omega | (split <;> omega) | assumption, by first | decide | omega | (split <;> omega) | assumption⟩) (fa1 (mf25 (v := y35) ⟨by first | decide | omega | (split <;> omega) | assumption, by first | decide | omega | (split <;> omega) | assumption⟩) fa0))) (fa1 o35 (fa1 p35 (fa1 u35 fa0)))), Or.inr (Or.inr ⟨by omega, by omega, rfl, by rw [hm, show a = sg.1 1 by omega]⟩)⟩⟩
        · refine j_iconst dX2_reachShare_50 ?_
          refine j_istore [some (.ref m), some (vi day), some (vi mn), some (vi a), some (vi 0)] dX2_reachShare_51 (by decide) rfl rfl ?_
          have L53 : ∀ (N : Nat) (mn2 b : Int), (12 - b).toNat = N → (0 ≤ b ∧ b ≤ sg.1 1) → (mn2 = mn + cB (rsP (sd sg day) a) b.toNat) → MW K yiX2_reachShare d (tov K h m (ovr sg [(0, 0), (22, x35), (25, y35)] [(23, f35), (24, r35), (43, B35)])) 53 [some (.ref m), some (vi day), some (vi mn2), some (vi a), some (vi b)] [] Q := by
            intro N
            induction N using Nat.strongRecOn with
            | _ N ih53 =>
            intro mn2 b hN53 hb hm2
            refine j_iload dX2_reachShare_53 rfl ?_
            refine m_aload_n dX2_reachShare_55 rfl ?_
            refine t_geti 1 (by decide) (sg.1 1) dX2_reachShare_56 q3094 rfl ?_
            refine j_icmp_ge 99 dX2_reachShare_59 (by decide) ⟨⟨by omega, by omega⟩, ⟨by omega, by omega⟩⟩ (fun c59 => ?_) (fun c59 => ?_)
            · refine j_iinc [some (.ref m), some (vi day), some (vi mn2), some (vi (a + 1)), some (vi b)] dX2_reachShare_99 rfl (by decide) rfl rfl ?_
              refine m_goto 42 dX2_reachShare_102 (by decide) ?_
              refine mw_forget 4 ?_
              exact ih42 _ (by omega) _ _ rfl (by omega) (by rw [cA_s ha.1, ← hm, hm2, show b = sg.1 1 by omega])
            · refine j_iload_n dX2_reachShare_62 rfl ?_
              refine j_iload_n dX2_reachShare_63 rfl ?_
              refine j_iload dX2_reachShare_64 rfl ?_
              refine j_icmp_eq 90 dX2_reachShare_66 (by decide) ⟨⟨by omega, by omega⟩, ⟨by omega, by omega⟩⟩ (fun c66 => ?_) (fun c66 => ?_)
              · refine j_iconst dX2_reachShare_90 ?_
                refine j_iadd dX2_reachShare_91 ?_
                refine j_istore_n [some (.ref m), some (vi day), some (vi (mn2 + 0)), some (vi a), some (vi b)] dX2_reachShare_92 (by decide) rfl rfl ?_
                refine j_iinc [some (.ref m), some (vi day), some (vi (mn2 + 0)), some (vi a), some (vi (b + 1))] dX2_reachShare_93 rfl (by decide) rfl rfl ?_
                refine m_goto 53 dX2_reachShare_96 (by decide) ?_
                exact ih53 _ (by omega) _ _ rfl (by omega) (by first | (rw [cB_n hb.1 (fun q => by first | exact absurd q.1 (by omega) | exact absurd ((hE a b (by omega) (by omega) (by omega) (by omega)).rc.mpr q.2) (by omega)), hm2]; omega) | (rw [cB_y hb.1 ⟨by omega, (hE a b (by omega) (by omega) (by omega) (by omega)).rc.mp (by omega)⟩, hm2]; omega))
              · refine m_aload_n dX2_reachShare_69 rfl ?_
                refine t_geta 43 30 (by decide) dX2_reachShare_70 q3136 rfl ?_
                refine j_bipush dX2_reachShare_73 (by decide) ?_
                refine j_iload_n dX2_reachShare_75 rfl ?_
                refine j_imul dX2_reachShare_76 ?_
                refine j_iload dX2_reachShare_77 rfl ?_
                refine j_iadd dX2_reachShare_79 ?_
                refine t_aldB 30 (by decide) (n := 144) B35 dX2_reachShare_80 rfl (Nat.le_of_ble_eq_true rfl) (oa43 u35) ⟨by omega, by omega⟩ (fun b80 => ?_)
                refine j_ldc (1000000) dX2_reachShare_81 q3264 (by decide) ?_
                refine j_icmp_ge 90 dX2_reachShare_83 (by decide) ⟨⟨by omega, by omega⟩, ⟨by omega, by omega⟩⟩ (fun c83 => ?_) (fun c83 => ?_)
                · refine j_iconst dX2_reachShare_90 ?_
                  refine j_iadd dX2_reachShare_91 ?_
                  refine j_istore_n [some (.ref m), some (vi day), some (vi (mn2 + 0)), some (vi a), some (vi b)] dX2_reachShare_92 (by decide) rfl rfl ?_
                  refine j_iinc [some (.ref m), some (vi day), some (vi (mn2 + 0)), some (vi a), some (vi (b + 1))] dX2_reachShare_93 rfl (by decide) rfl rfl ?_
                  refine m_goto 53 dX2_reachShare_96 (by decide) ?_
                  exact ih53 _ (by omega) _ _ rfl (by omega) (by first | (rw [cB_n hb.1 (fun q => by first | exact absurd q.1 (by omega) | exact absurd ((hE a b (by omega) (by omega) (by omega) (by omega)).rc.mpr q.2) (by omega)), hm2]; omega) | (rw [cB_y hb.1 ⟨by omega, (hE a b (by omega) (by omega) (by omega) (by omega)).rc.mp (by omega)⟩, hm2]; omega))
                · refine j_iconst dX2_reachShare_86 ?_
                  refine m_goto 91 dX2_reachShare_87 (by decide) ?_
                  refine j_iadd dX2_reachShare_91 ?_
                  refine j_istore_n [some (.ref m), some (vi day), some (vi (mn2 + 1)), some (vi a), some (vi b)] dX2_reachShare_92 (by decide) rfl rfl ?_
                  refine j_iinc [some (.ref m), some (vi day), some (vi (mn2 + 1)), some (vi a), some (vi (b + 1))] dX2_reachShare_93 rfl (by decide) rfl rfl ?_
                  refine m_goto 53 dX2_reachShare_96 (by decide) ?_
                  exact ih53 _ (by omega) _ _ rfl (by omega) (by first | (rw [cB_n hb.1 (fun q => by first | exact absurd q.1 (by omega) | exact absurd ((hE a b (by omega) (by omega) (by omega) (by omega)).rc.mpr q.2) (by omega)), hm2]; omega) | (rw [cB_y hb.1 ⟨by omega, (hE a b (by omega) (by omega) (by omega) (by omega)).rc.mp (by omega)⟩, hm2]; omega))
          exact L53 _ _ _ rfl (by omega) (by show mn = mn + 0; omega)
      exact L42 _ _ _ rfl (by omega) rfl
    · refine j_iconst dX2_reachShare_18 ?_
      refine m_goto 23 dX2_reachShare_19 (by decide) ?_
      refine j_iconst dX2_reachShare_23 ?_
      refine t_inv [(vi 1), (vi 2)] dX2_reachShare_24 q3256 q3258 qs76 q3259 rfl (c_isThrown1 K 0 h m _ _) pdX2_isThrown ⟨Nat.le_of_ble_eq_true rfl, by decide, by omega⟩ (kk_z fun r24 h24 q24 => ?_) kx_z
      obtain ⟨rfl, rfl⟩ := q24
      refine mw_tov (b := ovr sg [(0, 2)] []) (ovr_ovr _ _ _ _ _) ?_
      refine j_if_eq 32 dX2_reachShare_27 (by decide) ⟨by decide, by decide⟩ (fun c => absurd c (by decide)) (fun _ => ?_)
      refine m_fconst0 dX2_reachShare_30 ?_
      subst hQ; exact m_fret dX2_reachShare_31 rfl ⟨_, rfl, ⟨_, rfl, (Scr.ovr sg rfl rfl), (hT.ovr (fa1 (mf0 (v := 2) ⟨by first | decide | omega | (split <;> omega) | assumption, by first | decide | omega | (split <;> omega) | assumption⟩) fa0) fa0), by first | exact Or.inl ⟨by omega, rfl⟩ | exact Or.inr (Or.inl ⟨by omega, by omega, rfl⟩)⟩⟩
