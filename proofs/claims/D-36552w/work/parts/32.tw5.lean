/-! the twin: aliases of earliest; last; all pairs; cuts -/
def earP (sg : TS) (fr to day mi : Int) (th v : Int) : Prop := (askT (sg.1 1) fr to day mi ≠ 0 ∧ th = askT (sg.1 1) fr to day mi) ∨ (askT (sg.1 1) fr to day mi = 0 ∧ ∃ a, EA (sd sg day) fr mi to a ∧ th = (if 1000000 ≤ a then 3 else 0) ∧ (a < 1000000 → v = a))
/-- a query's end -/
def Qy (K : KT) (h : MH) (m : Nat) (sg : TS) (P : Int → Int → Prop) : Int → MH → Prop := fun v h' => ∃ sg', h' = tov K h m sg' ∧ Scr sg sg' ∧ TB sg' ∧ P (sg'.1 0) v
theorem c_earliestByQueue (K : KT) (d : Nat) (h : MH) (m : Nat) (sg : TS) (fr to day mi : Int) (hd : 7 ≤ d) (hF : WF sg) (h1 : In fr) (h2 : In to) (h3 : In day) (h4 : In mi) : Mt K yiX2_earliestByQueue d [.ref m, vi fr, vi to, vi day, vi mi] (tov K h m sg) (Rz (Qy K h m sg (earP sg fr to day mi))) := by
  have hT := hF.1
  refine mt_ofQ (by decide) (Nat.le_of_ble_eq_true rfl) (fun Q hQ => ?_)
  show MW K yiX2_earliestByQueue d (tov K h m (ovr sg [] [])) 0 [some (.ref m), some (vi fr), some (vi to), some (vi day), some (vi mi)] [] Q
  refine m_aload_n dX2_earliestByQueue_0 rfl ?_
  refine j_iload_n dX2_earliestByQueue_1 rfl ?_
  refine j_iload_n dX2_earliestByQueue_2 rfl ?_
  refine j_iload_n dX2_earliestByQueue_3 rfl ?_
  refine j_iload dX2_earliestByQueue_4 rfl ?_
  refine t_inv [(vi fr), (vi to), (vi day), (vi mi)] dX2_earliestByQueue_6 q3469 q3410 q3411 q3412 rfl (c_earliest K 6 h m sg _ _ _ _ (by omega) hF h1 h2 h3 h4) pdX2_earliest ⟨Nat.le_of_ble_eq_true rfl, by decide, by omega⟩ (kk_z fun r6 h6 q6 => ?_) kx_z
  obtain q6 := q6
  subst hQ; exact j_iret dX2_earliestByQueue_9 rfl q6
theorem c_earliestByRounds (K : KT) (d : Nat) (h : MH) (m : Nat) (sg : TS) (fr to day mi : Int) (hd : 7 ≤ d) (hF : WF sg) (h1 : In fr) (h2 : In to) (h3 : In day) (h4 : In mi) : Mt K yiX2_earliestByRounds d [.ref m, vi fr, vi to, vi day, vi mi] (tov K h m sg) (Rz (Qy K h m sg (earP sg fr to day mi))) := by
  have hT := hF.1
  refine mt_ofQ (by decide) (Nat.le_of_ble_eq_true rfl) (fun Q hQ => ?_)
  show MW K yiX2_earliestByRounds d (tov K h m (ovr sg [] [])) 0 [some (.ref m), some (vi fr), some (vi to), some (vi day), some (vi mi)] [] Q
  refine m_aload_n dX2_earliestByRounds_0 rfl ?_
  refine j_iload_n dX2_earliestByRounds_1 rfl ?_
  refine j_iload_n dX2_earliestByRounds_2 rfl ?_
  refine j_iload_n dX2_earliestByRounds_3 rfl ?_
  refine j_iload dX2_earliestByRounds_4 rfl ?_
  refine t_inv [(vi fr), (vi to), (vi day), (vi mi)] dX2_earliestByRounds_6 q3469 q3410 q3411 q3412 rfl (c_earliest K 6 h m sg _ _ _ _ (by omega) hF h1 h2 h3 h4) pdX2_earliest ⟨Nat.le_of_ble_eq_true rfl, by decide, by omega⟩ (kk_z fun r6 h6 q6 => ?_) kx_z
  obtain q6 := q6
  subst hQ; exact j_iret dX2_earliestByRounds_9 rfl q6
theorem c_byPairs (K : KT) (d : Nat) (h : MH) (m : Nat) (sg : TS) (fr to day mi : Int) (hd : 7 ≤ d) (hF : WF sg) (h1 : In fr) (h2 : In to) (h3 : In day) (h4 : In mi) : Mt K yiX2_byPairs d [.ref m, vi fr, vi to, vi day, vi mi] (tov K h m sg) (Rz (Qy K h m sg (earP sg fr to day mi))) := by
  have hT := hF.1
  refine mt_ofQ (by decide) (Nat.le_of_ble_eq_true rfl) (fun Q hQ => ?_)
  show MW K yiX2_byPairs d (tov K h m (ovr sg [] [])) 0 [some (.ref m), some (vi fr), some (vi to), some (vi day), some (vi mi)] [] Q
  refine m_aload_n dX2_byPairs_0 rfl ?_
  refine j_iload_n dX2_byPairs_1 rfl ?_
  refine j_iload_n dX2_byPairs_2 rfl ?_
  refine j_iload_n dX2_byPairs_3 rfl ?_
  refine j_iload dX2_byPairs_4 rfl ?_
  refine t_inv [(vi fr), (vi to), (vi day), (vi mi)] dX2_byPairs_6 q3469 q3410 q3411 q3412 rfl (c_earliest K 6 h m sg _ _ _ _ (by omega) hF h1 h2 h3 h4) pdX2_earliest ⟨Nat.le_of_ble_eq_true rfl, by decide, by omega⟩ (kk_z fun r6 h6 q6 => ?_) kx_z
  obtain q6 := q6
  subst hQ; exact j_iret dX2_byPairs_9 rfl q6
theorem b0_mono {wy : Int → Int} {fr a b v : Int} (h : a ≤ b) : b0 wy fr a v ≤ b0 wy fr b v := by
  unfold b0; split <;> split <;> omega
theorem EvN.fmono {sg : TS} {f0 f1 r0 : Int → Int} (h : ∀ v, f1 v ≤ f0 v) (n : Nat) : EvLe (EvN sg f0 r0 n) (EvN sg f1 r0 n) := by
  induction n with
  | zero => intro s t h1; exact h1
  | succ n ih =>
    rintro s t ⟨k, c, c', h1, h2, h3, h4, h5, h6, h7, h8, h9, h10⟩
    refine ⟨k, c, c', h1, h2, h3, h4, h5, h6, h7, h8, h9, ?_⟩
    rcases h10.mono ih with g | g | g | g
    · exact Or.inl (by have := h (stI sg k c'); omega)
    · exact Or.inr (Or.inl g)
    · exact Or.inr (Or.inr (Or.inl g))
    · exact Or.inr (Or.inr (Or.inr g))
theorem EvI.fmono {sg : TS} {f0 f1 r0 : Int → Int} (h : ∀ v, f1 v ≤ f0 v) : EvLe (EvI sg f0 r0) (EvI sg f1 r0) := fun s t ⟨n, h1⟩ => ⟨n, EvN.fmono h n s t h1⟩
theorem ArB.mono {sg : TS} {fr a b s t : Int} (h : a ≤ b) (hA : ArB sg fr b s t) : ArB sg fr a s t := by
  rcases hA with g | ⟨t', g1, g2⟩ | ⟨s', t', g1, g2, g3⟩
  · exact Or.inl (by have := b0_mono (wy := sg.2 4) (fr := fr) (v := s) h; omega)
  · exact Or.inr (Or.inl ⟨t', EvI.fmono (fun v => b0_mono h) _ _ g1, g2⟩)
  · exact Or.inr (Or.inr ⟨s', t', g1, EvI.fmono (fun v => b0_mono h) _ _ g2, g3⟩)
theorem c_last (K : KT) (d : Nat) (h : MH) (m : Nat) (sg : TS) (fr to day mi : Int) (hd : 6 ≤ d) (hF : WF sg) (h1 : In fr) (h2 : In to) (h3 : In day) (h4 : In mi) : Mt K yiX2_last d [.ref m, vi fr, vi to, vi day, vi mi] (tov K h m sg) (Rz (Qy K h m sg (fun th v => (¬ (0 ≤ fr ∧ fr ≤ sg.1 1 - 1) ∧ th = 1) ∨ ((0 ≤ fr ∧ fr ≤ sg.1 1 - 1) ∧ ¬ (0 ≤ to ∧ to ≤ sg.1 1 - 1) ∧ th = 1) ∨ ((0 ≤ fr ∧ fr ≤ sg.1 1 - 1) ∧ (0 ≤ to ∧ to ≤ sg.1 1 - 1) ∧ ¬ ((0 ≤ day ∧ day ≤ 27) ∧ 0 ≤ mi ∧ mi ≤ 2879) ∧ th = 2) ∨ ((0 ≤ fr ∧ fr ≤ sg.1 1 - 1) ∧ (0 ≤ to ∧ to ≤ sg.1 1 - 1) ∧ ((0 ≤ day ∧ day ≤ 27) ∧ 0 ≤ mi ∧ mi ≤ 2879) ∧ ((¬ ArB (sd sg day) fr 0 to mi ∧ th = 3) ∨ (ArB (sd sg day) fr 0 to mi ∧ th = 0 ∧ (0 ≤ v ∧ v ≤ mi) ∧ ArB (sd sg day) fr v to mi ∧ ¬ (v < mi ∧ ArB (sd sg day) fr (v + 1) to mi))))))) := by
  have hT := hF.1
  have := h1.1; have := h1.2; have := h2.1; have := h2.2; have := h3.1; have := h3.2; have := h4.1; have := h4.2; have f1 := of1 (hT.1 1)
  refine mt_ofQ (by decide) (Nat.le_of_ble_eq_true rfl) (fun Q hQ => ?_)
  show MW K yiX2_last d (tov K h m (ovr sg [] [])) 0 [some (.ref m), some (vi fr), some (vi to), some (vi day), some (vi mi), none, none, none] [] Q
  refine m_aload_n dX2_last_0 rfl ?_
  refine j_iload_n dX2_last_1 rfl ?_
  refine t_inv [(vi fr)] dX2_last_2 q3269 q3271 qs78 q3272 rfl (c_isNoStop K 1 h m _ _ (by omega) (hT.1 1) ⟨by omega, by omega⟩) pdX2_isNoStop ⟨Nat.le_of_ble_eq_true rfl, by decide, by omega⟩ (kk_z fun r2 h2 q2 => ?_) kx_z
  obtain ⟨rfl, rfl⟩ := q2
  refine mw_tov (b := ovr sg [(0, (if ¬ (0 ≤ fr ∧ fr ≤ (sg.1 1) - 1) then 1 else 0))] []) (ovr_ovr _ _ _ _ _) ?_
  refine mw_top (x' := bz (¬ (0 ≤ fr ∧ fr ≤ (sg.1 1) - 1))) rfl ?_
  refine j_bz_ne 51 dX2_last_5 (by decide) (fun c5 => ?_) (fun c5 => ?_)
  · refine mw_tov (b := ovr sg [(0, 1)] []) (by rw [if_pos c5]) ?_
    refine j_iconst dX2_last_51 ?_
    subst hQ; exact j_iret dX2_last_52 rfl (⟨_, rfl, (Scr.ovr sg rfl rfl), (hT.ovr (fa1 (mf0 (v := 1) ⟨by first | decide | omega | (split <;> omega) | assumption, by first | decide | omega | (split <;> omega) | assumption⟩) fa0) fa0), by first | exact Or.inl ⟨by omega, rfl⟩ | exact Or.inr (Or.inl ⟨by omega, by omega, rfl⟩) | exact Or.inr (Or.inr (Or.inl ⟨by omega, by omega, by omega, rfl⟩))⟩)
  · refine mw_tov (b := ovr sg [(0, 0)] []) (by rw [if_neg c5]) ?_
    refine m_aload_n dX2_last_8 rfl ?_
    refine j_iload_n dX2_last_9 rfl ?_
    refine t_inv [(vi to)] dX2_last_10 q3269 q3271 qs78 q3272 rfl (c_isNoStop K 1 h m _ _ (by omega) (hT.1 1) ⟨by omega, by omega⟩) pdX2_isNoStop ⟨Nat.le_of_ble_eq_true rfl, by decide, by omega⟩ (kk_z fun r10 h10 q10 => ?_) kx_z
    obtain ⟨rfl, rfl⟩ := q10
    refine mw_tov (b := ovr sg [(0, (if ¬ (0 ≤ to ∧ to ≤ (sg.1 1) - 1) then 1 else 0))] []) (ovr_ovr _ _ _ _ _) ?_
    refine mw_top (x' := bz (¬ (0 ≤ to ∧ to ≤ (sg.1 1) - 1))) rfl ?_
    refine j_bz_ne 51 dX2_last_13 (by decide) (fun c13 => ?_) (fun c13 => ?_)
    · refine mw_tov (b := ovr sg [(0, 1)] []) (by rw [if_pos c13]) ?_
      refine j_iconst dX2_last_51 ?_
      subst hQ; exact j_iret dX2_last_52 rfl (⟨_, rfl, (Scr.ovr sg rfl rfl), (hT.ovr (fa1 (mf0 (v := 1) ⟨by first | decide | omega | (split <;> omega) | assumption, by first | decide | omega | (split <;> omega) | assumption⟩) fa0) fa0), by first | exact Or.inl ⟨by omega, rfl⟩ | exact Or.inr (Or.inl ⟨by omega, by omega, rfl⟩) | exact Or.inr (Or.inr (Or.inl ⟨by omega, by omega, by omega, rfl⟩))⟩)
    · refine mw_tov (b := ovr sg [(0, 0)] []) (by rw [if_neg c13]) ?_
      refine m_aload_n dX2_last_16 rfl ?_
      refine j_iload_n dX2_last_17 rfl ?_
      refine j_iconst dX2_last_18 ?_
      refine j_bipush dX2_last_19 (by decide) ?_
      refine m_invS [(vi day), (vi 0), (vi 27)] dX2_last_21 q3253 q3254 q133 q3255 (c_isIn K 0 _ _ _ _ ⟨by omega, by omega⟩ ⟨by omega, by omega⟩ ⟨by omega, by omega⟩) pdX2_isIn ⟨Nat.le_of_ble_eq_true rfl, by decide, by omega⟩ (kk_z fun r21 h21 q21 => ?_) kx_z
      obtain ⟨rfl, rfl⟩ := q21
      refine mw_top (x' := bz (0 ≤ day ∧ day ≤ 27)) rfl ?_
      refine j_bz_eq 39 dX2_last_24 (by decide) (fun c24 => ?_) (fun c24 => ?_)
      · refine j_iconst dX2_last_39 ?_
        refine m_goto 44 dX2_last_40 (by decide) ?_
        refine j_iconst dX2_last_44 ?_
        refine t_inv [(vi 1), (vi 2)] dX2_last_45 q3256 q3258 qs76 q3259 rfl (c_isThrown1 K 0 h m _ _) pdX2_isThrown ⟨Nat.le_of_ble_eq_true rfl, by decide, by omega⟩ (kk_z fun r45 h45 q45 => ?_) kx_z
        obtain ⟨rfl, rfl⟩ := q45
        refine mw_tov (b := ovr sg [(0, 2)] []) (ovr_ovr _ _ _ _ _) ?_
        refine j_if_eq 53 dX2_last_48 (by decide) ⟨by decide, by decide⟩ (fun c => absurd c (by decide)) (fun _ => ?_)
        refine j_iconst dX2_last_51 ?_
        subst hQ; exact j_iret dX2_last_52 rfl (⟨_, rfl, (Scr.ovr sg rfl rfl), (hT.ovr (fa1 (mf0 (v := 2) ⟨by first | decide | omega | (split <;> omega) | assumption, by first | decide | omega | (split <;> omega) | assumption⟩) fa0) fa0), by first | exact Or.inl ⟨by omega, rfl⟩ | exact Or.inr (Or.inl ⟨by omega, by omega, rfl⟩) | exact Or.inr (Or.inr (Or.inl ⟨by omega, by omega, by omega, rfl⟩))⟩)
      · refine j_iload dX2_last_27 rfl ?_
        refine j_iconst dX2_last_29 ?_
        refine j_sipush dX2_last_30 (by decide) ?_
        refine m_invS [(vi mi), (vi 0), (vi 2879)] dX2_last_33 q3253 q3254 q133 q3255 (c_isIn K 0 _ _ _ _ ⟨by omega, by omega⟩ ⟨by omega, by omega⟩ ⟨by omega, by omega⟩) pdX2_isIn ⟨Nat.le_of_ble_eq_true rfl, by decide, by omega⟩ (kk_z fun r33 h33 q33 => ?_) kx_z
        obtain ⟨rfl, rfl⟩ := q33
        refine mw_top (x' := bz (0 ≤ mi ∧ mi ≤ 2879)) rfl ?_
        refine j_bz_ne 43 dX2_last_36 (by decide) (fun c36 => ?_) (fun c36 => ?_)
        · refine j_iconst dX2_last_43 ?_
          refine j_iconst dX2_last_44 ?_
          refine t_inv [(vi 0), (vi 2)] dX2_last_45 q3256 q3258 qs76 q3259 rfl (c_isThrown0 K 0 h m _ _) pdX2_isThrown ⟨Nat.le_of_ble_eq_true rfl, by decide, by omega⟩ (kk_z fun r45 h45 q45 => ?_) kx_z
          obtain ⟨rfl, rfl⟩ := q45
          refine mw_tov (b := ovr sg [(0, 0)] []) (ovr_ovr _ _ _ _ _) ?_
          refine j_if_eq 53 dX2_last_48 (by decide) ⟨by decide, by decide⟩ (fun _ => ?_) (fun c => absurd c (by decide))
          refine m_aload_n dX2_last_53 rfl ?_
          refine m_aload_n dX2_last_54 rfl ?_
          refine j_iload_n dX2_last_55 rfl ?_
          refine j_iload_n dX2_last_56 rfl ?_
          refine j_iload_n dX2_last_57 rfl ?_
          refine j_iconst dX2_last_58 ?_
          refine t_inv [(vi fr), (vi to), (vi day), (vi 0)] dX2_last_59 q3417 q3419 qs92 q3420 rfl (c_earliestOf K 5 h m _ _ _ _ _ (by omega) ⟨(hT.ovr (fa1 (mf0 (v := 0) ⟨by first | decide | omega | (split <;> omega) | assumption, by first | decide | omega | (split <;> omega) | assumption⟩) fa0) fa0), hF.2.1, hF.2.2.1, hF.2.2.2⟩ ⟨by omega, by omega⟩ ⟨by omega, by omega⟩ ⟨by omega, by omega⟩ ⟨by omega, by omega⟩) pdX2_earliestOf ⟨Nat.le_of_ble_eq_true rfl, by decide, by omega⟩ (kk_z fun r59 h59 q59 => ?_) kx_z
          obtain ⟨f59, r59, rfl, x59, y59, z59, w59, rfl⟩ := q59
          refine mw_tov (b := ovr sg [(0, 0), (22, day), (25, 0)] [(23, f59), (24, r59)]) (ovr_ovr _ _ _ _ _) ?_
          refine mw_top (x' := (if f59 to < r59 to then f59 to else r59 to)) rfl ?_
          have e62 := fun (g1 : 0 ≤ to ∧ to < sg.1 1) => EA.te (a := sd (ovr sg [(0, 0)] []) day) (b := sd sg day) rfl (w59.ea (s := to) x59 y59 z59 g1 (by show sg.1 1 ≤ 12; omega))
          have e62 := (e62 ⟨by omega, by omega⟩).2 mi (by omega)
          have b1 := oa23 x59 to (by omega) (by omega)
          have b2 := oa24 y59 to (by omega) (by omega)
          refine j_iload dX2_last_62 rfl ?_
          refine j_icmp_le 71 dX2_last_64 (by decide) ⟨⟨by omega, by omega⟩, ⟨by omega, by omega⟩⟩ (fun c64 => ?_) (fun c64 => ?_)
          · refine j_iconst dX2_last_71 ?_
            refine j_iconst dX2_last_72 ?_
            refine t_inv [(vi 0), (vi 3)] dX2_last_73 q3256 q3258 qs76 q3259 rfl (c_isThrown0 K 0 h m _ _) pdX2_isThrown ⟨Nat.le_of_ble_eq_true rfl, by decide, by omega⟩ (kk_z fun r73 h73 q73 => ?_) kx_z
            obtain ⟨rfl, rfl⟩ := q73
            refine mw_tov (b := ovr sg [(0, 0), (22, day), (25, 0)] [(23, f59), (24, r59)]) (ovr_ovr _ _ _ _ _) ?_
            refine j_if_eq 81 dX2_last_76 (by decide) ⟨by decide, by decide⟩ (fun _ => ?_) (fun c => absurd c (by decide))
            refine j_iconst dX2_last_81 ?_
            refine j_istore [some (.ref m), some (vi fr), some (vi to), some (vi day), some (vi mi), some (vi 0), none, none] dX2_last_82 (by decide) rfl rfl ?_
            refine j_iload dX2_last_84 rfl ?_
            refine j_istore [some (.ref m), some (vi fr), some (vi to), some (vi day), some (vi mi), some (vi 0), some (vi mi), none] dX2_last_86 (by decide) rfl rfl ?_
            have L88 : ∀ (N : Nat) (lo hi : Int) (f r : Int → Int), (hi - lo).toNat = N → (0 ≤ lo ∧ lo ≤ hi ∧ hi ≤ mi) → (okA 23 f) → (okA 24 r) → (ArB (sd sg day) fr lo to mi) → (hi < mi → ¬ ArB (sd sg day) fr (hi + 1) to mi) → MW K yiX2_last d (tov K h m (ovr sg [(0, 0), (22, day), (25, 0)] [(23, f), (24, r)])) 88 [some (.ref m), some (vi fr), some (vi to), some (vi day), some (vi mi), some (vi lo), some (vi hi), none] [] Q := by
              intro N
              induction N using Nat.strongRecOn with
              | _ N ih88 =>
              intro lo hi f r hN88 hlo hf hr hl hh
              refine j_iload dX2_last_88 rfl ?_
              refine j_iload dX2_last_90 rfl ?_
              refine j_icmp_ge 136 dX2_last_92 (by decide) ⟨⟨by omega, by omega⟩, ⟨by omega, by omega⟩⟩ (fun c92 => ?_) (fun c92 => ?_)
              · refine j_iload dX2_last_136 rfl ?_
                subst hQ; exact j_iret dX2_last_138 rfl (⟨_, rfl, (Scr.ovr sg rfl rfl), (hT.ovr (fa1 (mf0 (v := 0) ⟨by first | decide | omega | (split <;> omega) | assumption, by first | decide | omega | (split <;> omega) | assumption⟩) (fa1 (mf22 (v := day) ⟨by first | decide | omega | (split <;> omega) | assumption, by first | decide | omega | (split <;> omega) | assumption⟩) (fa1 (mf25 (v := 0) ⟨by first | decide | omega | (split <;> omega) | assumption, by first | decide | omega | (split <;> omega) | assumption⟩) fa0))) (fa1 hf (fa1 hr fa0))), Or.inr (Or.inr (Or.inr ⟨by omega, by omega, by omega, Or.inr ⟨hl.mono (by omega), rfl, by omega, hl, fun h9 => hh (by omega) (by rw [show hi = lo by omega]; exact h9.2)⟩⟩))⟩)
              · refine j_iload dX2_last_95 rfl ?_
                refine j_iload dX2_last_97 rfl ?_
                refine j_iadd dX2_last_99 ?_
                refine j_iconst dX2_last_100 ?_
                refine j_iadd dX2_last_101 ?_
                refine j_iconst dX2_last_102 ?_
                refine j_idiv dX2_last_103 ⟨⟨by omega, by omega⟩, ⟨by omega, by omega⟩⟩ ⟨by omega, by omega⟩ ?_
                refine j_istore [some (.ref m), some (vi fr), some (vi to), some (vi day), some (vi mi), some (vi lo), some (vi hi), some (vi (((lo + hi) + 1) / 2))] dX2_last_104 (by decide) rfl rfl ?_
                refine m_aload_n dX2_last_106 rfl ?_
                refine j_iload_n dX2_last_107 rfl ?_
                refine j_iload_n dX2_last_108 rfl ?_
                refine j_iload_n dX2_last_109 rfl ?_
                refine j_iload dX2_last_110 rfl ?_
                refine t_inv [(vi fr), (vi to), (vi day), (vi (((lo + hi) + 1) / 2))] dX2_last_112 q3417 q3419 qs92 q3420 rfl (c_earliestOf K 5 h m _ _ _ _ _ (by omega) ⟨(hT.ovr (fa1 (mf0 (v := 0) ⟨by first | decide | omega | (split <;> omega) | assumption, by first | decide | omega | (split <;> omega) | assumption⟩) (fa1 (mf22 (v := day) ⟨by first | decide | omega | (split <;> omega) | assumption, by first | decide | omega | (split <;> omega) | assumption⟩) (fa1 (mf25 (v := 0) ⟨by first | decide | omega | (split <;> omega) | assumption, by first | decide | omega | (split <;> omega) | assumption⟩) fa0))) (fa1 hf (fa1 hr fa0))), hF.2.1, hF.2.2.1, hF.2.2.2⟩ ⟨by omega, by omega⟩ ⟨by omega, by omega⟩ ⟨by omega, by omega⟩ ⟨by omega, by omega⟩) pdX2_earliestOf ⟨Nat.le_of_ble_eq_true rfl, by decide, by omega⟩ (kk_z fun r112 h112 q112 => ?_) kx_z
                obtain ⟨f112, r112, rfl, x112, y112, z112, w112, rfl⟩ := q112
                refine mw_tov (b := ovr sg [(0, 0), (22, day), (25, 0)] [(23, f112), (24, r112)]) (ovr_ovr _ _ _ _ _) ?_
                refine mw_top (x' := (if f112 to < r112 to then f112 to else r112 to)) rfl ?_
                have e115 := (EA.te (a := sd (ovr sg [(0, 0), (22, day), (25, 0)] [(23, f), (24, r)]) day) (b := sd sg day) rfl (w112.ea (s := to) x112 y112 z112 ⟨by omega, by show to < sg.1 1; omega⟩ (by show sg.1 1 ≤ 12; omega))).2 mi (by omega)
                have b3 := oa23 x112 to (by omega) (by omega)
                have b4 := oa24 y112 to (by omega) (by omega)
                refine j_iload dX2_last_115 rfl ?_
                refine j_icmp_gt 127 dX2_last_117 (by decide) ⟨⟨by omega, by omega⟩, ⟨by omega, by omega⟩⟩ (fun c117 => ?_) (fun c117 => ?_)
                · refine j_iload dX2_last_127 rfl ?_
                  refine j_iconst dX2_last_129 ?_
                  refine j_isub dX2_last_130 ?_
                  refine j_istore [some (.ref m), some (vi fr), some (vi to), some (vi day), some (vi mi), some (vi lo), some (vi ((((lo + hi) + 1) / 2) - 1)), some (vi (((lo + hi) + 1) / 2))] dX2_last_131 (by decide) rfl rfl ?_
                  refine m_goto 88 dX2_last_133 (by decide) ?_
                  refine mw_forget 7 ?_
                  exact ih88 _ (by omega) _ _ _ _ rfl (by omega) x112 y112 (by first | exact e115.mp (by omega) | exact hl) (by first | exact hh | exact (fun _ h9 => by { have e9 : (lo + hi + 1) / 2 - 1 + 1 = (lo + hi + 1) / 2 := (by omega); rw [e9] at h9; have := e115.mpr h9; omega }))
                · refine j_iload dX2_last_120 rfl ?_
                  refine j_istore [some (.ref m), some (vi fr), some (vi to), some (vi day), some (vi mi), some (vi (((lo + hi) + 1) / 2)), some (vi hi), some (vi (((lo + hi) + 1) / 2))] dX2_last_122 (by decide) rfl rfl ?_
                  refine m_goto 133 dX2_last_124 (by decide) ?_
                  refine m_goto 88 dX2_last_133 (by decide) ?_
                  refine mw_forget 7 ?_
                  exact ih88 _ (by omega) _ _ _ _ rfl (by omega) x112 y112 (by first | exact e115.mp (by omega) | exact hl) (by first | exact hh | exact (fun _ h9 => by { have e9 : (lo + hi + 1) / 2 - 1 + 1 = (lo + hi + 1) / 2 := (by omega); rw [e9] at h9; have := e115.mpr h9; omega }))
            exact L88 _ _ _ _ _ rfl (by omega) x59 y59 (e62.mp (by omega)) (fun h9 => by omega)
          · refine j_iconst dX2_last_67 ?_
            refine m_goto 72 dX2_last_68 (by decide) ?_
            refine j_iconst dX2_last_72 ?_
            refine t_inv [(vi 1), (vi 3)] dX2_last_73 q3256 q3258 qs76 q3259 rfl (c_isThrown1 K 0 h m _ _) pdX2_isThrown ⟨Nat.le_of_ble_eq_true rfl, by decide, by omega⟩ (kk_z fun r73 h73 q73 => ?_) kx_z
            obtain ⟨rfl, rfl⟩ := q73
            refine mw_tov (b := ovr sg [(0, 3), (22, day), (25, 0)] [(23, f59), (24, r59)]) (ovr_ovr _ _ _ _ _) ?_
            refine j_if_eq 81 dX2_last_76 (by decide) ⟨by decide, by decide⟩ (fun c => absurd c (by decide)) (fun _ => ?_)
            refine j_iconst dX2_last_79 ?_
            subst hQ; exact j_iret dX2_last_80 rfl (⟨_, rfl, (Scr.ovr sg rfl rfl), (hT.ovr (fa1 (mf0 (v := 3) ⟨by first | decide | omega | (split <;> omega) | assumption, by first | decide | omega | (split <;> omega) | assumption⟩) (fa1 (mf22 (v := day) ⟨by first | decide | omega | (split <;> omega) | assumption, by first | decide | omega | (split <;> omega) | assumption⟩) (fa1 (mf25 (v := 0) ⟨by first | decide | omega | (split <;> omega) | assumption, by first | decide | omega | (split <;> omega) | assumption⟩) fa0))) (fa1 x59 (fa1 y59 fa0))), Or.inr (Or.inr (Or.inr ⟨by omega, by omega, by omega, Or.inl ⟨fun h9 => by { have := e62.mpr h9; omega }, rfl⟩⟩))⟩)
        · refine j_iconst dX2_last_39 ?_
          refine m_goto 44 dX2_last_40 (by decide) ?_
          refine j_iconst dX2_last_44 ?_
          refine t_inv [(vi 1), (vi 2)] dX2_last_45 q3256 q3258 qs76 q3259 rfl (c_isThrown1 K 0 h m _ _) pdX2_isThrown ⟨Nat.le_of_ble_eq_true rfl, by decide, by omega⟩ (kk_z fun r45 h45 q45 => ?_) kx_z
          obtain ⟨rfl, rfl⟩ := q45
          refine mw_tov (b := ovr sg [(0, 2)] []) (ovr_ovr _ _ _ _ _) ?_
          refine j_if_eq 53 dX2_last_48 (by decide) ⟨by decide, by decide⟩ (fun c => absurd c (by decide)) (fun _ => ?_)
          refine j_iconst dX2_last_51 ?_
          subst hQ; exact j_iret dX2_last_52 rfl (⟨_, rfl, (Scr.ovr sg rfl rfl), (hT.ovr (fa1 (mf0 (v := 2) ⟨by first | decide | omega | (split <;> omega) | assumption, by first | decide | omega | (split <;> omega) | assumption⟩) fa0) fa0), by first | exact Or.inl ⟨by omega, rfl⟩ | exact Or.inr (Or.inl ⟨by omega, by omega, rfl⟩) | exact Or.inr (Or.inr (Or.inl ⟨by omega, by omega, by omega, rfl⟩))⟩)
