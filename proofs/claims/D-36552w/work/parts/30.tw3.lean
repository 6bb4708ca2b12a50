/-! the twin: earliest arrivals -/
def BG : Int → Int := fun _ => 1000000
def b0 (wy : Int → Int) (fr mi : Int) : Int → Int := fun v => if mi + wy (12 * fr + v) < 1000000 then mi + wy (12 * fr + v) else 1000000
def sd (sg : TS) (day : Int) : TS := ovr sg [(22, day)] []
theorem TB.sd {sg : TS} (h : TB sg) {day : Int} (hd : 0 ≤ day ∧ day ≤ 27) : TB (sd sg day) := h.ovr (fa1 (mf22 (v := day) hd) fa0) fa0
theorem WF.sd {sg : TS} (h : WF sg) {day : Int} (hd : 0 ≤ day ∧ day ≤ 27) : WF (sd sg day) := ⟨h.1.sd hd, h.2.1, h.2.2.1, h.2.2.2⟩
def LabB (sg : TS) (fr mi : Int) (f r : Int → Int) : Prop := Lab sg (b0 (sg.2 4) fr mi) BG (EvI sg (b0 (sg.2 4) fr mi) BG) f r
/-- only labels of stops count -/
theorem EvN.cg {sg : TS} (hS : stOk sg) (hT : TB sg) {f0 r0 f1 r1 : Int → Int} (h : ∀ v, 0 ≤ v → v < sg.1 1 → f0 v = f1 v ∧ r0 v = r1 v) (n : Nat) : EvLe (EvN sg f0 r0 n) (EvN sg f1 r1 n) := by
  induction n with
  | zero => intro s t h1; exact h1
  | succ n ih =>
    rintro s t ⟨k, c, c', h1, h2, h3, h4, h5, h6, h7, h8, h9, h10⟩
    have s2 := hS.run h1 (c := c') ⟨h2, by omega⟩
    have e := h _ s2.1 s2.2
    refine ⟨k, c, c', h1, h2, h3, h4, h5, h6, h7, h8, h9, ?_⟩
    unfold RdE
    rw [← e.1, ← e.2]
    exact h10.mono ih
theorem EvI.cg {sg : TS} (hS : stOk sg) (hT : TB sg) {f0 r0 f1 r1 : Int → Int} (h : ∀ v, 0 ≤ v → v < sg.1 1 → f0 v = f1 v ∧ r0 v = r1 v) (s t : Int) : EvI sg f0 r0 s t ↔ EvI sg f1 r1 s t :=
  ⟨fun ⟨n, h1⟩ => ⟨n, EvN.cg hS hT h n s t h1⟩, fun ⟨n, h1⟩ => ⟨n, EvN.cg hS hT (fun v a b => ⟨(h v a b).1.symm, (h v a b).2.symm⟩) n s t h1⟩⟩
theorem Lab.cg {sg : TS} (hS : stOk sg) (hT : TB sg) {f0 r0 f1 r1 f r : Int → Int} (h : ∀ v, 0 ≤ v → v < sg.1 1 → f0 v = f1 v ∧ r0 v = r1 v) (hL : Lab sg f0 r0 (EvI sg f0 r0) f r) : Lab sg f1 r1 (EvI sg f1 r1) f r := by
  have e : EvI sg f0 r0 = EvI sg f1 r1 := funext fun s => funext fun t => propext (EvI.cg hS hT h s t)
  rw [← e]
  exact ⟨fun s t a b c => by rw [← (h s a b).2]; exact hL.1 s t a b c, fun s t a b c => by rw [← (h s a b).1]; exact hL.2 s t a b c⟩
theorem c_nowhere (K : KT) (d : Nat) (h : MH) (m : Nat) (sg : TS) (hT : TB sg) : Mt K yiX2_nowhere d [.ref m] (tov K h m sg) (Rv fun h' => ∃ f r, h' = tov K h m (ovr sg [] [(23, f), (24, r)]) ∧ okA 23 f ∧ okA 24 r ∧ ∀ v, 0 ≤ v → v < 12 → f v = 1000000 ∧ r v = 1000000) := by
  refine mt_ofQ (by decide) (Nat.le_of_ble_eq_true rfl) (fun Q hQ => ?_)
  show MW K yiX2_nowhere d (tov K h m (ovr sg [] [])) 0 [some (.ref m), none] [] Q
  refine j_iconst dX2_nowhere_0 ?_
  refine j_istore_n [some (.ref m), some (vi 0)] dX2_nowhere_1 (by decide) rfl rfl ?_
  have L2 : ∀ (N : Nat) (k : Int) (f r : Int → Int), (12 - k).toNat = N → (0 ≤ k ∧ k ≤ 12) → (okA 23 f) → (okA 24 r) → (∀ v, 0 ≤ v → v < k → f v = 1000000 ∧ r v = 1000000) → MW K yiX2_nowhere d (tov K h m (ovr sg [] [(23, f), (24, r)])) 2 [some (.ref m), some (vi k)] [] Q := by
    intro N
    induction N using Nat.strongRecOn with
    | _ N ih2 =>
    intro k f r hN2 hk hf hr hv
    refine j_iload_n dX2_nowhere_2 rfl ?_
    refine j_bipush dX2_nowhere_3 (by decide) ?_
    refine j_icmp_ge 30 dX2_nowhere_5 (by decide) ⟨⟨by omega, by omega⟩, ⟨by omega, by omega⟩⟩ (fun c5 => ?_) (fun c5 => ?_)
    · subst hQ; exact j_vret dX2_nowhere_30 rfl (⟨f, r, rfl, hf, hr, fun v a b => hv v a (by omega)⟩)
    · refine m_aload_n dX2_nowhere_8 rfl ?_
      refine t_geta 23 15 (by decide) dX2_nowhere_9 q3116 rfl ?_
      refine j_iload_n dX2_nowhere_12 rfl ?_
      refine j_ldc (1000000) dX2_nowhere_13 q3264 (by decide) ?_
      refine t_ast 15 (by decide) (n := 12) f [(23, (upz f k 1000000)), (24, r)] dX2_nowhere_15 rfl (Nat.le_of_ble_eq_true rfl) ⟨by omega, by omega⟩ rfl rfl ?_
      refine m_aload_n dX2_nowhere_16 rfl ?_
      refine t_geta 24 16 (by decide) dX2_nowhere_17 q3117 rfl ?_
      refine j_iload_n dX2_nowhere_20 rfl ?_
      refine j_ldc (1000000) dX2_nowhere_21 q3264 (by decide) ?_
      refine t_ast 16 (by decide) (n := 12) r [(23, (upz f k 1000000)), (24, (upz r k 1000000))] dX2_nowhere_23 rfl (Nat.le_of_ble_eq_true rfl) ⟨by omega, by omega⟩ rfl rfl ?_
      refine j_iinc [some (.ref m), some (vi (k + 1))] dX2_nowhere_24 rfl (by decide) rfl rfl ?_
      refine m_goto 2 dX2_nowhere_27 (by decide) ?_
      exact ih2 _ (by omega) _ _ _ rfl (by omega) (mu23 hf (by omega)) (mu24 hr (by omega)) (fun v a b => by { unfold upz; by_cases e : v = k; { rw [if_pos e, if_pos e]; exact ⟨rfl, rfl⟩ }; { rw [if_neg e, if_neg e]; exact hv v a (by omega) } })
  refine mw_tov (b := ovr sg [] [(23, (sg.2 23))]) (ovr_addA _ _ _ 23) ?_
  refine mw_tov (b := ovr sg [] [(23, (sg.2 23)), (24, (sg.2 24))]) (ovr_addA _ _ _ 24) ?_
  exact L2 _ _ _ _ rfl (by omega) (hT.2 23) (hT.2 24) (fun v a b => by omega)
theorem c_begin (K : KT) (d : Nat) (h : MH) (m : Nat) (sg : TS) (fr mi : Int) (hd : 1 ≤ d) (hF : WF sg) (hf : 0 ≤ fr ∧ fr < 12) (hm : 0 ≤ mi ∧ mi ≤ 5000) : Mt K yiX2_begin d [.ref m, vi fr, vi mi] (tov K h m sg) (Rv fun h' => ∃ f r, h' = tov K h m (ovr sg [] [(23, f), (24, r)]) ∧ okA 23 f ∧ okA 24 r ∧ (Dich f ∧ Dich r) ∧ ∀ v, 0 ≤ v → v < sg.1 1 → f v = b0 (sg.2 4) fr mi v ∧ BG v = r v) := by
  have hT := hF.1
  refine mt_ofQ (by decide) (Nat.le_of_ble_eq_true rfl) (fun Q hQ => ?_)
  show MW K yiX2_begin d (tov K h m (ovr sg [] [])) 0 [some (.ref m), some (vi fr), some (vi mi), none, none] [] Q
  have f1 := of1 (hT.1 1)
  refine m_aload_n dX2_begin_0 rfl ?_
  refine t_inv [] dX2_begin_1 q3425 q3427 qs94 q3428 rfl (c_nowhere K 0 h m _ hT) pdX2_nowhere ⟨Nat.le_of_ble_eq_true rfl, by decide, by omega⟩ (kk_v fun h1 q1 => ?_) kx_v
  obtain ⟨f1, r1, rfl, y1, y2, y3⟩ := q1
  refine mw_tov (b := ovr sg [] [(23, f1), (24, r1)]) (ovr_ovr _ _ _ _ _) ?_
  refine j_iconst dX2_begin_4 ?_
  refine j_istore_n [some (.ref m), some (vi fr), some (vi mi), some (vi 0), none] dX2_begin_5 (by decide) rfl rfl ?_
  have L6 : ∀ (N : Nat) (k : Int) (f : Int → Int), (sg.1 1 - k).toNat = N → (0 ≤ k ∧ k ≤ sg.1 1) → (okA 23 f) → (Dich f) → (∀ v, 0 ≤ v → v < k → f v = b0 (sg.2 4) fr mi v) → MW K yiX2_begin d (tov K h m (ovr sg [] [(23, f), (24, r1)])) 6 [some (.ref m), some (vi fr), some (vi mi), some (vi k), none] [] Q := by
    intro N
    induction N using Nat.strongRecOn with
    | _ N ih6 =>
    intro k f hN6 hk hfo hD hv
    refine j_iload_n dX2_begin_6 rfl ?_
    refine m_aload_n dX2_begin_7 rfl ?_
    refine t_geti 1 (by decide) (sg.1 1) dX2_begin_8 q3094 rfl ?_
    refine j_icmp_ge 55 dX2_begin_11 (by decide) ⟨⟨by omega, by omega⟩, ⟨by omega, by omega⟩⟩ (fun c11 => ?_) (fun c11 => ?_)
    · subst hQ; exact j_vret dX2_begin_55 rfl (⟨f, r1, rfl, hfo, y2, ⟨hD, fun v a b => Or.inl (y3 v a b).2⟩, fun v a b => ⟨hv v a (by omega), (y3 v a (by omega)).2.symm⟩⟩)
    · refine j_iload_n dX2_begin_14 rfl ?_
      refine m_aload_n dX2_begin_15 rfl ?_
      refine t_geta 4 3 (by decide) dX2_begin_16 q3097 rfl ?_
      refine j_bipush dX2_begin_19 (by decide) ?_
      refine j_iload_n dX2_begin_21 rfl ?_
      refine j_imul dX2_begin_22 ?_
      refine j_iload_n dX2_begin_23 rfl ?_
      refine j_iadd dX2_begin_24 ?_
      refine t_aldB 3 (by decide) (n := 144) (sg.2 4) dX2_begin_25 rfl (Nat.le_of_ble_eq_true rfl) (oa4 (hT.2 4)) ⟨by omega, by omega⟩ (fun b25 => ?_)
      refine j_iadd dX2_begin_26 ?_
      refine j_istore [some (.ref m), some (vi fr), some (vi mi), some (vi k), some (vi (mi + ((sg.2 4) ((12 * fr) + k))))] dX2_begin_27 (by decide) rfl rfl ?_
      refine m_aload_n dX2_begin_29 rfl ?_
      refine t_geta 23 15 (by decide) dX2_begin_30 q3116 rfl ?_
      refine j_iload_n dX2_begin_33 rfl ?_
      refine j_iload dX2_begin_34 rfl ?_
      refine j_ldc (1000000) dX2_begin_36 q3264 (by decide) ?_
      refine j_icmp_ge 46 dX2_begin_38 (by decide) ⟨⟨by omega, by omega⟩, ⟨by omega, by omega⟩⟩ (fun c38 => ?_) (fun c38 => ?_)
      · refine j_ldc (1000000) dX2_begin_46 q3264 (by decide) ?_
        refine t_ast 15 (by decide) (n := 12) f [(23, (upz f k 1000000)), (24, r1)] dX2_begin_48 rfl (Nat.le_of_ble_eq_true rfl) ⟨by omega, by omega⟩ rfl rfl ?_
        refine j_iinc [some (.ref m), some (vi fr), some (vi mi), some (vi (k + 1)), some (vi (mi + ((sg.2 4) ((12 * fr) + k))))] dX2_begin_49 rfl (by decide) rfl rfl ?_
        refine m_goto 6 dX2_begin_52 (by decide) ?_
        refine mw_forget 4 ?_
        exact ih6 _ (by omega) _ _ rfl (by omega) (mu23 hfo (by omega)) (fun v a b => by { have hw := hF.2.2.2.1 (12 * fr + k) (by omega) (by omega); unfold upz; split; { omega }; { exact hD v a b } }) (fun v a b => by { unfold upz; by_cases e : v = k; { subst e; rw [if_pos rfl]; unfold b0; first | rw [if_pos (by omega)] | rw [if_neg (by omega)] }; { rw [if_neg e]; exact hv v a (by omega) } })
      · refine j_iload dX2_begin_41 rfl ?_
        refine m_goto 48 dX2_begin_43 (by decide) ?_
        refine t_ast 15 (by decide) (n := 12) f [(23, (upz f k (mi + ((sg.2 4) ((12 * fr) + k))))), (24, r1)] dX2_begin_48 rfl (Nat.le_of_ble_eq_true rfl) ⟨by omega, by omega⟩ rfl rfl ?_
        refine j_iinc [some (.ref m), some (vi fr), some (vi mi), some (vi (k + 1)), some (vi (mi + ((sg.2 4) ((12 * fr) + k))))] dX2_begin_49 rfl (by decide) rfl rfl ?_
        refine m_goto 6 dX2_begin_52 (by decide) ?_
        refine mw_forget 4 ?_
        exact ih6 _ (by omega) _ _ rfl (by omega) (mu23 hfo (by omega)) (fun v a b => by { have hw := hF.2.2.2.1 (12 * fr + k) (by omega) (by omega); unfold upz; split; { omega }; { exact hD v a b } }) (fun v a b => by { unfold upz; by_cases e : v = k; { subst e; rw [if_pos rfl]; unfold b0; first | rw [if_pos (by omega)] | rw [if_neg (by omega)] }; { rw [if_neg e]; exact hv v a (by omega) } })
  exact L6 _ _ _ rfl (by omega) y1 (fun v a b => Or.inl (y3 v a b).1) (fun v a b => by omega)
def brQ (sg : TS) (s l : Int) : Prop := l = sg.2 24 s ∨ ∃ q, 0 ≤ q ∧ q < sg.1 1 ∧ l = sg.2 24 q + sg.2 4 (12 * q + s)
theorem c_byRide (K : KT) (d : Nat) (h : MH) (m : Nat) (sg : TS) (s : Int) (hT : TB sg) (hs : 0 ≤ s ∧ s < sg.1 1) : Mt K yiX2_byRide d [.ref m, vi s] (tov K h m sg) (Rz fun v h' => h' = tov K h m sg ∧ (-2000 ≤ v ∧ v ≤ sg.2 24 s) ∧ brQ sg s v ∧ ∀ q, 0 ≤ q → q < sg.1 1 → v ≤ sg.2 24 q + sg.2 4 (12 * q + s)) := by
  have f1' := of1 (hT.1 1)
  refine mt_ofQ (by decide) (Nat.le_of_ble_eq_true rfl) (fun Q hQ => ?_)
  show MW K yiX2_byRide d (tov K h m (ovr sg [] [])) 0 [some (.ref m), some (vi s), none, none, none] [] Q
  have f1 := of1 (hT.1 1)
  refine m_aload_n dX2_byRide_0 rfl ?_
  refine t_geta 24 16 (by decide) dX2_byRide_1 q3117 rfl ?_
  refine j_iload_n dX2_byRide_4 rfl ?_
  refine t_aldB 16 (by decide) (n := 12) (sg.2 24) dX2_byRide_5 rfl (Nat.le_of_ble_eq_true rfl) (oa24 (hT.2 24)) ⟨by omega, by omega⟩ (fun b5 => ?_)
  refine j_istore_n [some (.ref m), some (vi s), some (vi ((sg.2 24) s)), none, none] dX2_byRide_6 (by decide) rfl rfl ?_
  refine j_iconst dX2_byRide_7 ?_
  refine j_istore_n [some (.ref m), some (vi s), some (vi ((sg.2 24) s)), some (vi 0), none] dX2_byRide_8 (by decide) rfl rfl ?_
  have L9 : ∀ (N : Nat) (l k : Int), (sg.1 1 - k).toNat = N → (0 ≤ k ∧ k ≤ sg.1 1) → (-2000 ≤ l ∧ l ≤ sg.2 24 s) → (brQ sg s l) → (∀ q, 0 ≤ q → q < k → l ≤ sg.2 24 q + sg.2 4 (12 * q + s)) → MW K yiX2_byRide d (tov K h m (ovr sg [] [])) 9 [some (.ref m), some (vi s), some (vi l), some (vi k), none] [] Q := by
    intro N
    induction N using Nat.strongRecOn with
    | _ N ih9 =>
    intro l k hN9 hk hl h1 h2
    have b5 := oa24 (hT.2 24) s (by omega) (by omega)
    refine j_iload_n dX2_byRide_9 rfl ?_
    refine m_aload_n dX2_byRide_10 rfl ?_
    refine t_geti 1 (by decide) (sg.1 1) dX2_byRide_11 q3094 rfl ?_
    refine j_icmp_ge 56 dX2_byRide_14 (by decide) ⟨⟨by omega, by omega⟩, ⟨by omega, by omega⟩⟩ (fun c14 => ?_) (fun c14 => ?_)
    · refine j_iload_n dX2_byRide_56 rfl ?_
      subst hQ; exact j_iret dX2_byRide_57 rfl (⟨rfl, hl, h1, fun q a b => h2 q a (by omega)⟩)
    · refine m_aload_n dX2_byRide_17 rfl ?_
      refine t_geta 24 16 (by decide) dX2_byRide_18 q3117 rfl ?_
      refine j_iload_n dX2_byRide_21 rfl ?_
      refine t_aldB 16 (by decide) (n := 12) (sg.2 24) dX2_byRide_22 rfl (Nat.le_of_ble_eq_true rfl) (oa24 (hT.2 24)) ⟨by omega, by omega⟩ (fun b22 => ?_)
      refine m_aload_n dX2_byRide_23 rfl ?_
      refine t_geta 4 3 (by decide) dX2_byRide_24 q3097 rfl ?_
      refine j_bipush dX2_byRide_27 (by decide) ?_
      refine j_iload_n dX2_byRide_29 rfl ?_
      refine j_imul dX2_byRide_30 ?_
      refine j_iload_n dX2_byRide_31 rfl ?_
      refine j_iadd dX2_byRide_32 ?_
      refine t_aldB 3 (by decide) (n := 144) (sg.2 4) dX2_byRide_33 rfl (Nat.le_of_ble_eq_true rfl) (oa4 (hT.2 4)) ⟨by omega, by omega⟩ (fun b33 => ?_)
      refine j_iadd dX2_byRide_34 ?_
      refine j_istore [some (.ref m), some (vi s), some (vi l), some (vi k), some (vi (((sg.2 24) k) + ((sg.2 4) ((12 * k) + s))))] dX2_byRide_35 (by decide) rfl rfl ?_
      refine j_iload dX2_byRide_37 rfl ?_
      refine j_iload_n dX2_byRide_39 rfl ?_
      refine j_icmp_ge 48 dX2_byRide_40 (by decide) ⟨⟨by omega, by omega⟩, ⟨by omega, by omega⟩⟩ (fun c40 => ?_) (fun c40 => ?_)
      · refine j_iload_n dX2_byRide_48 rfl ?_
        refine j_istore_n [some (.ref m), some (vi s), some (vi l), some (vi k), some (vi (((sg.2 24) k) + ((sg.2 4) ((12 * k) + s))))] dX2_byRide_49 (by decide) rfl rfl ?_
        refine j_iinc [some (.ref m), some (vi s), some (vi l), some (vi (k + 1)), some (vi (((sg.2 24) k) + ((sg.2 4) ((12 * k) + s))))] dX2_byRide_50 rfl (by decide) rfl rfl ?_
        refine m_goto 9 dX2_byRide_53 (by decide) ?_
        refine mw_forget 4 ?_
        exact ih9 _ (by omega) _ _ rfl (by omega) (by omega) (by first | exact h1 | exact Or.inr ⟨k, by omega, by omega, rfl⟩) (fun q a b => by { by_cases e : q = k; { subst e; omega }; { have := h2 q a (by omega); omega } })
      · refine j_iload dX2_byRide_43 rfl ?_
        refine m_goto 49 dX2_byRide_45 (by decide) ?_
        refine j_istore_n [some (.ref m), some (vi s), some (vi (((sg.2 24) k) + ((sg.2 4) ((12 * k) + s)))), some (vi k), some (vi (((sg.2 24) k) + ((sg.2 4) ((12 * k) + s))))] dX2_byRide_49 (by decide) rfl rfl ?_
        refine j_iinc [some (.ref m), some (vi s), some (vi (((sg.2 24) k) + ((sg.2 4) ((12 * k) + s)))), some (vi (k + 1)), some (vi (((sg.2 24) k) + ((sg.2 4) ((12 * k) + s))))] dX2_byRide_50 rfl (by decide) rfl rfl ?_
        refine m_goto 9 dX2_byRide_53 (by decide) ?_
        refine mw_forget 4 ?_
        exact ih9 _ (by omega) _ _ rfl (by omega) (by omega) (by first | exact h1 | exact Or.inr ⟨k, by omega, by omega, rfl⟩) (fun q a b => by { by_cases e : q = k; { subst e; omega }; { have := h2 q a (by omega); omega } })
  exact L9 _ _ _ rfl (by omega) (by omega) (Or.inl rfl) (fun q a b => by omega)
theorem c_earliestOf (K : KT) (d : Nat) (h : MH) (m : Nat) (sg : TS) (fr to day mi : Int) (hd : 5 ≤ d) (hF : WF sg) (hf : 0 ≤ fr ∧ fr < 12) (ht : 0 ≤ to ∧ to < 12) (hy : 0 ≤ day ∧ day ≤ 27) (hm : 0 ≤ mi ∧ mi ≤ 5000) : Mt K yiX2_earliestOf d [.ref m, vi fr, vi to, vi day, vi mi] (tov K h m sg) (Rz fun v h' => ∃ f r, h' = tov K h m (ovr sg [(22, day), (25, 0)] [(23, f), (24, r)]) ∧ okA 23 f ∧ okA 24 r ∧ (Dich f ∧ Dich r) ∧ LabB (sd sg day) fr mi f r ∧ v = (if f to < r to then f to else r to)) := by
  have hT := hF.1
  have hF1 := hF.sd hy
  have hT1 := hF1.1
  refine mt_ofQ (by decide) (Nat.le_of_ble_eq_true rfl) (fun Q hQ => ?_)
  show MW K yiX2_earliestOf d (tov K h m (ovr sg [] [])) 0 [some (.ref m), some (vi fr), some (vi to), some (vi day), some (vi mi)] [] Q
  refine m_aload_n dX2_earliestOf_0 rfl ?_
  refine j_iload_n dX2_earliestOf_1 rfl ?_
  refine t_puti 22 (by decide) [(22, day)] dX2_earliestOf_2 q3115 rfl rfl rfl rfl ?_
  refine m_aload_n dX2_earliestOf_5 rfl ?_
  refine j_iload_n dX2_earliestOf_6 rfl ?_
  refine j_iload dX2_earliestOf_7 rfl ?_
  refine t_inv [(vi fr), (vi mi)] dX2_earliestOf_9 q3421 q3423 qs93 q3424 rfl (c_begin K 1 h m (sd sg day) _ _ (by omega) hF1 hf hm) pdX2_begin ⟨Nat.le_of_ble_eq_true rfl, by decide, by omega⟩ (kk_v fun h9 q9 => ?_) kx_v
  obtain ⟨f1, r1, rfl, y1, y2, y3, y4⟩ := q9
  refine mw_tov (b := ovr sg [(22, day)] [(23, f1), (24, r1)]) (ovr_ovr _ _ _ _ _) ?_
  refine mw_tov (b := ovr sg [(22, day), (25, (sg.1 25))] [(23, f1), (24, r1)]) (ovr_addF _ _ _ 25) ?_
  refine mw_tov (b := ovr (sd sg day) [(25, (sg.1 25))] [(23, f1), (24, r1)]) (ovr_ovr sg [(22, day)] [(25, (sg.1 25))] [] [(23, f1), (24, r1)]).symm ?_
  have y5 : WC (sd sg day) f1 r1 := fun s v a1 a2 a3 a4 a5 a6 => by { have e := (y4 s a1 a2).2; have e2 : (1000000 : Int) = r1 s := e; omega }
  refine m_aload_n dX2_earliestOf_12 rfl ?_
  refine t_inv [] dX2_earliestOf_13 q3429 q3431 qs95 q3432 rfl (c_settle K 4 h m (sd sg day) _ f1 r1 (by omega) hF1 y1 y2 y3 y5) pdX2_settle ⟨Nat.le_of_ble_eq_true rfl, by decide, by omega⟩ (kk_v fun h13 q13 => ?_) kx_v
  obtain ⟨f2, r2, rfl, z1, z2, z3, z4⟩ := q13
  refine m_aload_n dX2_earliestOf_16 rfl ?_
  refine j_iload_n dX2_earliestOf_17 rfl ?_
  refine t_inv [(vi to)] dX2_earliestOf_18 q3461 q3463 qs103 q3464 rfl (c_at K 0 h m _ _ (hT1.ovr (fa1 (mf25 (v := 0) ⟨by first | decide | omega | (split <;> omega) | assumption, by first | decide | omega | (split <;> omega) | assumption⟩) fa0) (fa1 z1 (fa1 z2 fa0))) ⟨by omega, by omega⟩) pdX2_at ⟨Nat.le_of_ble_eq_true rfl, by decide, by omega⟩ (kk_z fun r18 h18 q18 => ?_) kx_z
  obtain ⟨rfl, rfl⟩ := q18
  refine mw_top (x' := (if f2 to < r2 to then f2 to else r2 to)) rfl ?_
  subst hQ; exact j_iret dX2_earliestOf_21 rfl (⟨f2, r2, congrArg (tov K h m) (ovr_ovr sg [(22, day)] [(25, 0)] [] [(23, f2), (24, r2)]), z1, z2, z3, z4.cg hF1.2.1 hT1 (fun v a b => ⟨(y4 v a b).1, (y4 v a b).2.symm⟩), rfl⟩)
def askT (n fr to day mi : Int) : Int := if ¬ (0 ≤ fr ∧ fr ≤ n - 1) then 1 else if ¬ (0 ≤ to ∧ to ≤ n - 1) then 1 else if ¬ (0 ≤ day ∧ day ≤ 27) ∨ ¬ (0 ≤ mi ∧ mi ≤ 1439) then 2 else 0
theorem c_isAskedWrong (K : KT) (d : Nat) (h : MH) (m : Nat) (sg : TS) (fr to day mi : Int) (hd : 2 ≤ d) (hT : TB sg) (h1 : In fr) (h2 : In to) (h3 : In day) (h4 : In mi) : Mt K yiX2_isAskedWrong d [.ref m, vi fr, vi to, vi day, vi mi] (tov K h m sg) (Rz fun v h' => h' = tov K h m (ovr sg [(0, askT (sg.1 1) fr to day mi)] []) ∧ v = bz (askT (sg.1 1) fr to day mi ≠ 0)) := by
  have := h1.1; have := h1.2; have := h2.1; have := h2.2; have := h3.1; have := h3.2; have := h4.1; have := h4.2; have f1 := of1 (hT.1 1)
  refine mt_ofQ (by decide) (Nat.le_of_ble_eq_true rfl) (fun Q hQ => ?_)
  show MW K yiX2_isAskedWrong d (tov K h m (ovr sg [] [])) 0 [some (.ref m), some (vi fr), some (vi to), some (vi day), some (vi mi)] [] Q
  refine m_aload_n dX2_isAskedWrong_0 rfl ?_
  refine j_iload_n dX2_isAskedWrong_1 rfl ?_
  refine t_inv [(vi fr)] dX2_isAskedWrong_2 q3269 q3271 qs78 q3272 rfl (c_isNoStop K 1 h m _ _ (by omega) (hT.1 1) ⟨by omega, by omega⟩) pdX2_isNoStop ⟨Nat.le_of_ble_eq_true rfl, by decide, by omega⟩ (kk_z fun r2 h2 q2 => ?_) kx_z
  obtain ⟨rfl, rfl⟩ := q2
  refine mw_tov (b := ovr sg [(0, (if ¬ (0 ≤ fr ∧ fr ≤ (sg.1 1) - 1) then 1 else 0))] []) (ovr_ovr _ _ _ _ _) ?_
  refine mw_top (x' := bz (¬ (0 ≤ fr ∧ fr ≤ (sg.1 1) - 1))) rfl ?_
  refine j_bz_ne 51 dX2_isAskedWrong_5 (by decide) (fun c5 => ?_) (fun c5 => ?_)
  · refine mw_tov (b := ovr sg [(0, 1)] []) (by rw [if_pos c5]) ?_
    refine j_iconst dX2_isAskedWrong_51 ?_
    refine m_goto 56 dX2_isAskedWrong_52 (by decide) ?_
    subst hQ; exact j_zret dX2_isAskedWrong_56 rfl (by omega) (by { have e : askT (sg.1 1) fr to day mi = 1 := by { unfold askT; (repeat' split) <;> omega }; rw [e]; exact ⟨rfl, by first | rfl | decide⟩ })
  · refine mw_tov (b := ovr sg [(0, 0)] []) (by rw [if_neg c5]) ?_
    refine m_aload_n dX2_isAskedWrong_8 rfl ?_
    refine j_iload_n dX2_isAskedWrong_9 rfl ?_
    refine t_inv [(vi to)] dX2_isAskedWrong_10 q3269 q3271 qs78 q3272 rfl (c_isNoStop K 1 h m _ _ (by omega) (hT.1 1) ⟨by omega, by omega⟩) pdX2_isNoStop ⟨Nat.le_of_ble_eq_true rfl, by decide, by omega⟩ (kk_z fun r10 h10 q10 => ?_) kx_z
    obtain ⟨rfl, rfl⟩ := q10
    refine mw_tov (b := ovr sg [(0, (if ¬ (0 ≤ to ∧ to ≤ (sg.1 1) - 1) then 1 else 0))] []) (ovr_ovr _ _ _ _ _) ?_
    refine mw_top (x' := bz (¬ (0 ≤ to ∧ to ≤ (sg.1 1) - 1))) rfl ?_
    refine j_bz_ne 51 dX2_isAskedWrong_13 (by decide) (fun c13 => ?_) (fun c13 => ?_)
    · refine mw_tov (b := ovr sg [(0, 1)] []) (by rw [if_pos c13]) ?_
      refine j_iconst dX2_isAskedWrong_51 ?_
      refine m_goto 56 dX2_isAskedWrong_52 (by decide) ?_
      subst hQ; exact j_zret dX2_isAskedWrong_56 rfl (by omega) (by { have e : askT (sg.1 1) fr to day mi = 1 := by { unfold askT; (repeat' split) <;> omega }; rw [e]; exact ⟨rfl, by first | rfl | decide⟩ })
    · refine mw_tov (b := ovr sg [(0, 0)] []) (by rw [if_neg c13]) ?_
      refine m_aload_n dX2_isAskedWrong_16 rfl ?_
      refine j_iload_n dX2_isAskedWrong_17 rfl ?_
      refine j_iconst dX2_isAskedWrong_18 ?_
      refine j_bipush dX2_isAskedWrong_19 (by decide) ?_
      refine m_invS [(vi day), (vi 0), (vi 27)] dX2_isAskedWrong_21 q3253 q3254 q133 q3255 (c_isIn K 0 _ _ _ _ ⟨by omega, by omega⟩ ⟨by omega, by omega⟩ ⟨by omega, by omega⟩) pdX2_isIn ⟨Nat.le_of_ble_eq_true rfl, by decide, by omega⟩ (kk_z fun r21 h21 q21 => ?_) kx_z
      obtain ⟨rfl, rfl⟩ := q21
      refine mw_top (x' := bz (0 ≤ day ∧ day ≤ 27)) rfl ?_
      refine j_bz_eq 39 dX2_isAskedWrong_24 (by decide) (fun c24 => ?_) (fun c24 => ?_)
      · refine j_iconst dX2_isAskedWrong_39 ?_
        refine m_goto 44 dX2_isAskedWrong_40 (by decide) ?_
        refine j_iconst dX2_isAskedWrong_44 ?_
        refine t_inv [(vi 1), (vi 2)] dX2_isAskedWrong_45 q3256 q3258 qs76 q3259 rfl (c_isThrown1 K 0 h m _ _) pdX2_isThrown ⟨Nat.le_of_ble_eq_true rfl, by decide, by omega⟩ (kk_z fun r45 h45 q45 => ?_) kx_z
        obtain ⟨rfl, rfl⟩ := q45
        refine mw_tov (b := ovr sg [(0, 2)] []) (ovr_ovr _ _ _ _ _) ?_
        refine j_if_eq 55 dX2_isAskedWrong_48 (by decide) ⟨by decide, by decide⟩ (fun c => absurd c (by decide)) (fun _ => ?_)
        refine j_iconst dX2_isAskedWrong_51 ?_
        refine m_goto 56 dX2_isAskedWrong_52 (by decide) ?_
        subst hQ; exact j_zret dX2_isAskedWrong_56 rfl (by omega) (by { have e : askT (sg.1 1) fr to day mi = 2 := by { unfold askT; (repeat' split) <;> omega }; rw [e]; exact ⟨rfl, by first | rfl | decide⟩ })
      · refine j_iload dX2_isAskedWrong_27 rfl ?_
        refine j_iconst dX2_isAskedWrong_29 ?_
        refine j_sipush dX2_isAskedWrong_30 (by decide) ?_
        refine m_invS [(vi mi), (vi 0), (vi 1439)] dX2_isAskedWrong_33 q3253 q3254 q133 q3255 (c_isIn K 0 _ _ _ _ ⟨by omega, by omega⟩ ⟨by omega, by omega⟩ ⟨by omega, by omega⟩) pdX2_isIn ⟨Nat.le_of_ble_eq_true rfl, by decide, by omega⟩ (kk_z fun r33 h33 q33 => ?_) kx_z
        obtain ⟨rfl, rfl⟩ := q33
        refine mw_top (x' := bz (0 ≤ mi ∧ mi ≤ 1439)) rfl ?_
        refine j_bz_ne 43 dX2_isAskedWrong_36 (by decide) (fun c36 => ?_) (fun c36 => ?_)
        · refine j_iconst dX2_isAskedWrong_43 ?_
          refine j_iconst dX2_isAskedWrong_44 ?_
          refine t_inv [(vi 0), (vi 2)] dX2_isAskedWrong_45 q3256 q3258 qs76 q3259 rfl (c_isThrown0 K 0 h m _ _) pdX2_isThrown ⟨Nat.le_of_ble_eq_true rfl, by decide, by omega⟩ (kk_z fun r45 h45 q45 => ?_) kx_z
          obtain ⟨rfl, rfl⟩ := q45
          refine mw_tov (b := ovr sg [(0, 0)] []) (ovr_ovr _ _ _ _ _) ?_
          refine j_if_eq 55 dX2_isAskedWrong_48 (by decide) ⟨by decide, by decide⟩ (fun _ => ?_) (fun c => absurd c (by decide))
          refine j_iconst dX2_isAskedWrong_55 ?_
          subst hQ; exact j_zret dX2_isAskedWrong_56 rfl (by omega) (by { have e : askT (sg.1 1) fr to day mi = 0 := by { unfold askT; (repeat' split) <;> omega }; rw [e]; exact ⟨rfl, by first | rfl | decide⟩ })
        · refine j_iconst dX2_isAskedWrong_39 ?_
          refine m_goto 44 dX2_isAskedWrong_40 (by decide) ?_
          refine j_iconst dX2_isAskedWrong_44 ?_
          refine t_inv [(vi 1), (vi 2)] dX2_isAskedWrong_45 q3256 q3258 qs76 q3259 rfl (c_isThrown1 K 0 h m _ _) pdX2_isThrown ⟨Nat.le_of_ble_eq_true rfl, by decide, by omega⟩ (kk_z fun r45 h45 q45 => ?_) kx_z
          obtain ⟨rfl, rfl⟩ := q45
          refine mw_tov (b := ovr sg [(0, 2)] []) (ovr_ovr _ _ _ _ _) ?_
          refine j_if_eq 55 dX2_isAskedWrong_48 (by decide) ⟨by decide, by decide⟩ (fun c => absurd c (by decide)) (fun _ => ?_)
          refine j_iconst dX2_isAskedWrong_51 ?_
          refine m_goto 56 dX2_isAskedWrong_52 (by decide) ?_
          subst hQ; exact j_zret dX2_isAskedWrong_56 rfl (by omega) (by { have e : askT (sg.1 1) fr to day mi = 2 := by { unfold askT; (repeat' split) <;> omega }; rw [e]; exact ⟨rfl, by first | rfl | decide⟩ })
