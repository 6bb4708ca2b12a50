/-! the twin: tellRounds and choices -/
/-- a row of n rides at most boards what one of fewer boards -/
theorem bd_mono {sg : TS} {b fo ro fp rp : Int → Int} {n : Nat} (hF : WF sg) (h1 : Lab sg b BG (EvN sg b BG n) fo ro) (h2 : Lab sg b BG (EvN sg b BG (n + 1)) fp rp) {j c : Int} (hj : okR sg j) (h0 : 0 ≤ c) (hc : c < sg.2 10 (j % 24)) (hb : bdB sg fo ro j c) : bdB sg fp rp j c := by
  obtain ⟨hT, hS, hM, hW⟩ := hF
  have hn := oa10 (hT.2 10) (j % 24) (by have := hj.1; omega) (by have := hj.2.1; omega)
  have s2 := hS.run hj (c := c) ⟨h0, hc⟩
  have b2 := lvI_b hT (r := j) (c := c) ⟨hj.1, hj.2.1⟩ ⟨by omega, by omega⟩
  have hch := oa2 (hT.2 2) (stI sg j c) (by omega) (by have := of1 (hT.1 1); omega)
  exact ⟨hb.1, (h2.gon s2 (by omega) hch).mpr (((h1.gon s2 (by omega) hch).mp hb.2).mono (EvN.mono n))⟩
/-- the outer loop's state -/
def TrI (sg : TS) (b : Int → Int) (x N : Int) (f r fA rA : Int → Int) : Prop := (x = 0 ∨ x = 1) ∧ (1 ≤ N ∧ N ≤ 74) ∧ (okA 23 f ∧ okA 24 r ∧ Dich f ∧ Dich r) ∧ (same f (rwF fA (N - 1)) ∧ same r (rwF rA (N - 1))) ∧ (okA 26 fA ∧ okA 27 rA) ∧ RowOk sg b N fA rA ∧
  (x = 0 → 2 ≤ N ∧ ∀ n : Nat, N - 1 ≤ n → Lab sg b BG (EvN sg b BG n) (rwF fA (N - 1)) (rwF rA (N - 1))) ∧
  (2 ≤ N → ∀ j, okR sg j → RnC sg (rwF fA (N - 2)) (rwF rA (N - 2)) (rwF rA (N - 1)) j (sg.2 10 (j % 24))) ∧
  (x = 1 → N ≤ 71 ∧ (N = 1 ∨ (pot sg (rwF fA (N - 2)) (rwF rA (N - 2)) : Int) + N ≤ 71))
theorem same.symm {f g : Int → Int} (h : same f g) : same g f := fun v a b => (h v a b).symm
theorem same.trans {f g k : Int → Int} (h : same f g) (h2 : same g k) : same f k := fun v a b => (h v a b).trans (h2 v a b)
theorem bdB_sm {sg : TS} (hS : stOk sg) (hn : sg.1 1 ≤ 12) {fo ro fp rp : Int → Int} (e1 : same fo fp) (e2 : same ro rp) {j c : Int} (hj : okR sg j) (h0 : 0 ≤ c) (hc : c < sg.2 10 (j % 24)) (h : bdB sg fo ro j c) : bdB sg fp rp j c := by
  have s := hS.run hj (c := c) ⟨h0, hc⟩
  unfold bdB at h ⊢
  rw [← e1 _ s.1 (by omega), ← e2 _ s.1 (by omega)]; exact h
theorem fbc_sm {sg : TS} {fo ro fp rp : Int → Int} {j : Int} (m : Nat) (h : ∀ c : Nat, c < m → (bdB sg fo ro j (c : Int) ↔ bdB sg fp rp j (c : Int))) : fbc sg fo ro j m = fbc sg fp rp j m := by
  induction m with
  | zero => rfl
  | succ m ih =>
    unfold fbc
    rw [ih (fun c hc => h c (by omega))]
    have := h m (by omega)
    by_cases e : bdB sg fp rp j (m : Int)
    · rw [if_pos e, if_pos (this.mpr e)]
    · rw [if_neg e, if_neg (fun h9 => e (this.mp h9))]
theorem pot_sm {sg : TS} (hS : stOk sg) (hn : sg.1 1 ≤ 12) {fo ro fp rp : Int → Int} (e1 : same fo fp) (e2 : same ro rp) : pot sg fo ro = pot sg fp rp := by
  unfold pot
  have : ∀ n, n ≤ 72 → smN (fun j : Nat => if isRunP sg (j : Int) then fbc sg fo ro (j : Int) (sg.2 10 ((j : Int) % 24) - 1).toNat else 0) n = smN (fun j : Nat => if isRunP sg (j : Int) then fbc sg fp rp (j : Int) (sg.2 10 ((j : Int) % 24) - 1).toNat else 0) n := by
    intro n hn2
    induction n with
    | zero => rfl
    | succ n ih =>
      unfold smN
      rw [ih (by omega)]
      congr 1
      by_cases e : isRunP sg (n : Int)
      · rw [if_pos e, if_pos e]
        refine fbc_sm _ (fun c hc => ⟨bdB_sm hS hn e1 e2 ⟨by omega, by omega, e⟩ (by omega) (by omega), bdB_sm hS hn e1.symm e2.symm ⟨by omega, by omega, e⟩ (by omega) (by omega)⟩)
      · rw [if_neg e, if_neg e]
  exact this 72 (Nat.le_refl _)
theorem wit.sm {sg : TS} (hS : stOk sg) (hn : sg.1 1 ≤ 12) {fo ro fp rp : Int → Int} (e1 : same fo fp) (e2 : same ro rp) (h : wit sg fo ro) : wit sg fp rp := by
  obtain ⟨j, c', c, h1, h2, h3, h4, h5, h6⟩ := h
  have s := hS.run h1 (c := c) ⟨by omega, h4⟩
  exact ⟨j, c', c, h1, h2, h3, h4, bdB_sm hS hn e1 e2 h1 h2 (by omega) h5, by rw [← e2 _ s.1 (by omega)]; exact h6⟩
theorem RnC.sm {sg : TS} (hS : stOk sg) (hn : sg.1 1 ≤ 12) {fo ro fp rp r r' : Int → Int} (e1 : same fo fp) (e2 : same ro rp) (e3 : same r r') {j : Int} (hj : okR sg j) (h : RnC sg fo ro r j (sg.2 10 (j % 24))) : RnC sg fp rp r' j (sg.2 10 (j % 24)) := by
  intro c' c a1 a2 a3 a4
  have s := hS.run hj (c := c) ⟨by omega, a3⟩
  rw [← e3 _ s.1 (by omega)]
  exact h c' c a1 a2 a3 (bdB_sm hS hn e1.symm e2.symm hj a1 (by omega) a4)
/-- one round more -/
theorem TrI.next {sg : TS} {b : Int → Int} {N : Int} {f r fA rA : Int → Int} (h : TrI sg b 1 N f r fA rA) (hF : WF sg) (hcl : clS sg ≤ 23) {x2 : Int} {f2 r2 : Int → Int} (hQ : RnQ sg b (N - 1).toNat (rwF fA (N - 1)) (rwF rA (N - 1)) x2 f2 r2) (hC : ∀ j, okR sg j → RnC sg (rwF fA (N - 1)) (rwF rA (N - 1)) r2 j (sg.2 10 (j % 24))) : TrI sg b x2 (N + 1) f2 r2 (kpR fA (12 * N) 12 f2) (kpR rA (12 * N) 12 r2) := by
  obtain ⟨-, hN, -, -, ⟨o1, o2⟩, hrow, -, hclo, hpot⟩ := h
  have hp := hpot rfl
  have hn1 := of1 (hF.1.1 1)
  have eN : (((N - 1).toNat : Nat) : Int) = N - 1 := by omega
  have hr := hrow (N - 1).toNat (by omega)
  rw [eN] at hr
  have hfin := hQ.fin hr.2.2.2 hF hC
  have eN1 : (N - 1).toNat + 1 = N.toNat := by omega
  rw [eN1] at hfin
  obtain ⟨q1, q2, q3, q4, q5⟩ := hQ
  have k1 : same (rwF fA (N - 1)) (rwF (kpR fA (12 * N) 12 f2) (N - 1)) := by have := rw_kp2 (g := fA) (f := f2) (N := N) (k := (N - 1).toNat) (by omega); rw [eN] at this; exact this
  have k2 : same (rwF rA (N - 1)) (rwF (kpR rA (12 * N) 12 r2) (N - 1)) := by have := rw_kp2 (g := rA) (f := r2) (N := N) (k := (N - 1).toNat) (by omega); rw [eN] at this; exact this
  have m1 : N + 1 - 1 = N := by omega
  have m2 : N + 1 - 2 = N - 1 := by omega
  unfold TrI
  rw [m1, m2]
  refine ⟨by rcases q5 with q | q <;> omega, by omega, ⟨q1, q2, q3.1, q3.2⟩, ⟨rw_kp, rw_kp⟩, ⟨ok26_kp o1 q1, ok27_kp o2 q2⟩, hrow.add (by omega) (by omega) q1 q2 q3 hfin, fun e => ⟨by omega, fun n hn => ?_⟩, fun _ j hj => (hC j hj).sm hF.2.1 (by omega) k1 k2 rw_kp hj, fun e => ?_⟩
  · rcases q5 with ⟨-, s1, s2⟩ | ⟨e2, -⟩
    · have g1 : Lab sg b BG (EvN sg b BG (N - 1).toNat) f2 r2 := hr.2.2.2.sm (by omega) s1.symm s2.symm
      rw [← eN1] at hfin
      have g2 := Lab.stab hF g1 hfin (n - (N - 1).toNat)
      rw [show (N - 1).toNat + (n - (N - 1).toNat) = n by omega] at g2
      exact g2.sm (by omega) rw_kp rw_kp
    · omega
  · have hw : wit sg (rwF fA (N - 1)) (rwF rA (N - 1)) := by
      rcases q5 with ⟨e2, -⟩ | ⟨-, hw⟩
      · omega
      · exact hw
    rw [← pot_sm hF.2.1 (by omega) k1 k2]
    have hb := pot_b sg (rwF fA (N - 1)) (rwF rA (N - 1))
    by_cases e1 : N = 1
    · omega
    · have hpp : (pot sg (rwF fA (N - 2)) (rwF rA (N - 2)) : Int) + N ≤ 71 := by omega
      have eM : (((N - 2).toNat : Nat) : Int) = N - 2 := by omega
      have hr2 := hrow (N - 2).toNat (by omega)
      rw [eM] at hr2
      have hr3 := hr.2.2.2
      rw [show (N - 1).toNat = (N - 2).toNat + 1 by omega] at hr3
      have hl := pot_lt hF.1 (fun j c hj h0 hc hb => bd_mono hF hr2.2.2.2 hr3 hj h0 hc hb) (hclo (by omega)) hw
      omega
theorem trI_0 {sg : TS} {fr mi : Int} {f1 r1 gA hA : Int → Int} (hF : WF sg) (y1 : okA 23 f1) (y2 : okA 24 r1) (y3 : Dich f1 ∧ Dich r1) (g1 : okA 26 gA) (g2 : okA 27 hA) (y4 : ∀ v, 0 ≤ v → v < sg.1 1 → f1 v = b0 (sg.2 4) fr mi v ∧ BG v = r1 v) : TrI sg (b0 (sg.2 4) fr mi) 1 1 f1 r1 (kpR gA (12 * 0) 12 f1) (kpR hA (12 * 0) 12 r1) := by
  have hn := of1 (hF.1.1 1)
  have hL : Lab sg (b0 (sg.2 4) fr mi) BG (EvN sg (b0 (sg.2 4) fr mi) BG (0 : Int).toNat) f1 r1 := ⟨fun s t a b c => by rw [← (y4 s a b).2]; exact ⟨Or.inl, fun h9 => h9.elim id fun ⟨_, h8, _⟩ => h8.elim⟩, fun s t a b c => by rw [(y4 s a b).1]; exact ⟨Or.inl, fun h9 => h9.elim id fun ⟨_, _, _, h8, _⟩ => h8.elim⟩⟩
  have h0 : RowOk sg (b0 (sg.2 4) fr mi) 0 gA hA := fun k hk => by omega
  have h1 := h0.add (by omega) (by omega) y1 y2 y3 hL
  exact ⟨Or.inr rfl, by omega, ⟨y1, y2, y3.1, y3.2⟩, ⟨rw_kp, rw_kp⟩, ⟨ok26_kp g1 y1, ok27_kp g2 y2⟩, h1, fun e => absurd e (by decide), fun e => by omega, fun _ => ⟨by omega, Or.inl rfl⟩⟩
theorem RnC.le {sg : TS} {fp rp r r' : Int → Int} {j m : Int} (h : RnC sg fp rp r j m) (hr : ∀ v, r' v ≤ r v) : RnC sg fp rp r' j m := fun c' c a1 a2 a3 a4 => by have := h c' c a1 a2 a3 a4; have := hr (stI sg j c); omega
/-- within a run, at call c -/
def RnI (sg : TS) (b : Int → Int) (n : Nat) (fp rp : Int → Int) (j bb c x : Int) (f r : Int → Int) : Prop := RnQ sg b n fp rp x f r ∧ (bb = 0 ∨ bb = 1) ∧ (bb = 1 → ∃ c', 0 ≤ c' ∧ c' < c ∧ bdB sg fp rp j c') ∧ (bb = 0 → ∀ c', 0 ≤ c' → c' < c → ¬ bdB sg fp rp j c') ∧ RnC sg fp rp r j c
theorem RnI.on {sg : TS} {b : Int → Int} {n : Nat} {fp rp : Int → Int} {j c x : Int} {f r : Int → Int} (h : RnI sg b n fp rp j 0 c x f r) (hc : 0 ≤ c) (hb : bdB sg fp rp j c) : RnI sg b n fp rp j 1 (c + 1) x f r := by
  obtain ⟨h1, h2, h3, h4, h5⟩ := h
  refine ⟨h1, Or.inr rfl, fun _ => ⟨c, hc, by omega, hb⟩, fun e => absurd e (by decide), fun c' c2 a1 a2 a3 a4 => ?_⟩
  exact absurd a4 (h4 rfl c' a1 (by omega))
theorem RnI.no {sg : TS} {b : Int → Int} {n : Nat} {fp rp : Int → Int} {j c x : Int} {f r : Int → Int} (h : RnI sg b n fp rp j 0 c x f r) (hb : ¬ bdB sg fp rp j c) : RnI sg b n fp rp j 0 (c + 1) x f r := by
  obtain ⟨h1, h2, h3, h4, h5⟩ := h
  refine ⟨h1, Or.inl rfl, fun e => absurd e (by decide), fun _ c' a1 a2 => ?_, fun c' c2 a1 a2 a3 a4 => absurd a4 (h4 rfl c' a1 (by omega))⟩
  by_cases e : c' = c
  · rw [e]; exact hb
  · exact h4 rfl c' a1 (by omega)
theorem RnI.off {sg : TS} {b : Int → Int} {n : Nat} {fp rp : Int → Int} {j c x : Int} {f r : Int → Int} (h : RnI sg b n fp rp j 1 c x f r) (hrow : Lab sg b BG (EvN sg b BG n) fp rp) (hF : WF sg) (hcut : sg.1 5 = -1) (hj : okR sg j) (hc : 0 ≤ c ∧ c < sg.2 10 (j % 24)) {x2 : Int} {f2 r2 : Int → Int} (hq : okA 23 f2 ∧ okA 24 r2 ∧ ((x2 = x ∧ f2 = f ∧ r2 = r ∧ (stI sg j c = sg.1 5 ∨ r (stI sg j c) ≤ cmI sg j c)) ∨ (x2 = 1 ∧ f2 = gofF sg f (stI sg j c) (cmI sg j c) ∧ r2 = upz r (stI sg j c) (cmI sg j c) ∧ stI sg j c ≠ sg.1 5 ∧ cmI sg j c < r (stI sg j c)))) : RnI sg b n fp rp j 1 (c + 1) x2 f2 r2 ∧ ∀ v, r2 v ≤ r v := by
  obtain ⟨h1, h2, h3, h4, h5⟩ := h
  obtain ⟨c', a1, a2, a3⟩ := h3 rfl
  obtain ⟨g1, g2, g3⟩ := h1.off hrow hF hcut hj a1 a2 hc.2 a3 hq
  refine ⟨⟨g1, Or.inr rfl, fun _ => ⟨c', a1, by omega, a3⟩, fun e => absurd e (by decide), fun c' c2 e1 e2 e3 e4 => ?_⟩, g3⟩
  by_cases e : c2 = c
  · rw [e]; exact g2
  · have := h5 c' c2 e1 e2 (by omega) e4
    have := g3 (stI sg j c2)
    omega
theorem c_tellRounds (K : KT) (d : Nat) (h : MH) (m : Nat) (sg : TS) (fr day mi : Int) (hd : 3 ≤ d) (hF : WF sg) (hcut : sg.1 5 = -1) (hcl : clS sg ≤ 23) (hf : 0 ≤ fr ∧ fr < 12) (hy : 0 ≤ day ∧ day ≤ 27) (hm : 0 ≤ mi ∧ mi ≤ 5000) : Mt K yiX2_tellRounds d [.ref m, vi fr, vi day, vi mi] (tov K h m sg) (Rv fun h' => ∃ N f r fA rA, h' = tov K h m (ovr sg [(22, day), (25, 0), (28, N)] [(23, f), (24, r), (26, fA), (27, rA)]) ∧ okA 23 f ∧ okA 24 r ∧ okA 26 fA ∧ okA 27 rA ∧ (2 ≤ N ∧ N ≤ 74) ∧ RowOk (sd sg day) (b0 (sg.2 4) fr mi) N fA rA ∧ ∀ n : Nat, N - 1 ≤ n → Lab (sd sg day) (b0 (sg.2 4) fr mi) BG (EvN (sd sg day) (b0 (sg.2 4) fr mi) BG n) (rwF fA (N - 1)) (rwF rA (N - 1))) := by
  have hT := hF.1
  have hF1 := hF.sd hy
  have hT1 := hF1.1
  have hS1 := hF1.2.1
  have hcl1 : clS (sd sg day) ≤ 23 := hcl
  refine mt_ofQ (by decide) (Nat.le_of_ble_eq_true rfl) (fun Q hQ => ?_)
  show MW K yiX2_tellRounds d (tov K h m (ovr sg [] [])) 0 [some (.ref m), some (vi fr), some (vi day), some (vi mi), none, none, none] [] Q
  have f25 := of25 (hT.1 25)
  have f28 := of28 (hT.1 28)
  refine m_aload_n dX2_tellRounds_0 rfl ?_
  refine j_iload_n dX2_tellRounds_1 rfl ?_
  refine t_puti 22 (by decide) [(22, day)] dX2_tellRounds_2 q3115 rfl rfl rfl rfl ?_
  refine m_aload_n dX2_tellRounds_5 rfl ?_
  refine j_iload_n dX2_tellRounds_6 rfl ?_
  refine j_iload_n dX2_tellRounds_7 rfl ?_
  refine t_inv [(vi fr), (vi mi)] dX2_tellRounds_8 q3421 q3423 qs93 q3424 rfl (c_begin K 1 h m (sd sg day) _ _ (by omega) hF1 hf hm) pdX2_begin ⟨Nat.le_of_ble_eq_true rfl, by decide, by omega⟩ (kk_v fun h8 q8 => ?_) kx_v
  obtain ⟨f1, r1, rfl, y1, y2, y3, y4⟩ := q8
  refine mw_tov (b := ovr sg [(22, day)] [(23, f1), (24, r1)]) (ovr_ovr _ _ _ _ _) ?_
  refine mw_tov (b := ovr (sd sg day) [] [(23, f1), (24, r1)]) (ovr_ovr sg [(22, day)] [] [] [(23, f1), (24, r1)]).symm ?_
  refine m_aload_n dX2_tellRounds_11 rfl ?_
  refine j_iconst dX2_tellRounds_12 ?_
  refine t_puti 28 (by decide) [(28, 0)] dX2_tellRounds_13 q3121 rfl rfl rfl rfl ?_
  refine m_aload_n dX2_tellRounds_16 rfl ?_
  refine t_inv [] dX2_tellRounds_17 q3498 q3500 qs105 q3501 rfl (c_keepRound K 0 h m _ (by omega) (hT1.ovr (fa1 (mf28 (v := 0) ⟨by first | decide | omega | (split <;> omega) | assumption, by first | decide | omega | (split <;> omega) | assumption⟩) fa0) (fa1 y1 (fa1 y2 fa0))) (show 0 < (74 : Int) by omega)) pdX2_keepRound ⟨Nat.le_of_ble_eq_true rfl, by decide, by omega⟩ (kk_v fun h17 q17 => ?_) kx_v
  obtain rfl := q17
  refine mw_tov (b := ovr (sd sg day) [(28, (0 + 1))] [(23, f1), (24, r1), (26, (kpR ((sd sg day).2 26) (12 * 0) 12 f1)), (27, (kpR ((sd sg day).2 27) (12 * 0) 12 r1))]) (ovr_ovr _ _ _ _ _) ?_
  have hT0 : TrI (sd sg day) (b0 (sg.2 4) fr mi) 1 1 f1 r1 (kpR (sg.2 26) (12 * 0) 12 f1) (kpR (sg.2 27) (12 * 0) 12 r1) := trI_0 hF1 y1 y2 y3 (hT.2 26) (hT.2 27) (fun v a b => ⟨(y4 v a b).1, (y4 v a b).2⟩)
  refine m_aload_n dX2_tellRounds_20 rfl ?_
  refine j_iconst dX2_tellRounds_21 ?_
  refine t_putz 25 (by decide) [(25, 1), (28, (0 + 1))] dX2_tellRounds_22 q3118 rfl rfl rfl rfl (by omega) ?_
  have L25 : ∀ (N : Nat) (x NN : Int) (f r fA rA : Int → Int), (80 - NN).toNat = N → (TrI (sd sg day) (b0 (sg.2 4) fr mi) x NN f r fA rA) → MW K yiX2_tellRounds d (tov K h m (ovr (sd sg day) [(25, x), (28, NN)] [(23, f), (24, r), (26, fA), (27, rA)])) 25 [some (.ref m), some (vi fr), some (vi day), some (vi mi), none, none, none] [] Q := by
    intro N
    induction N using Nat.strongRecOn with
    | _ N ih25 =>
    intro x NN f r fA rA hN25 hI
    have hx01 := hI.1
    have hN74 := hI.2.1
    have hpot := hI.2.2.2.2.2.2.2.2
    have hpot1 := fun e => (hpot e).1
    refine m_aload_n dX2_tellRounds_25 rfl ?_
    refine t_geti 25 (by decide) x dX2_tellRounds_26 q3118 rfl ?_
    refine j_if_eq 171 dX2_tellRounds_29 (by decide) ⟨by omega, by omega⟩ (fun c29 => ?_) (fun c29 => ?_)
    · subst hQ; exact j_vret dX2_tellRounds_171 rfl (by { have e0 : x = 0 := by { rcases hx01 with e | e; { exact e }; { have := hpot1 e; omega } }; subst e0; exact ⟨NN, f, r, fA, rA, congrArg (tov K h m) (ovr_ovr sg [(22, day)] [(25, 0), (28, NN)] [] [(23, f), (24, r), (26, fA), (27, rA)]), hI.2.2.1.1, hI.2.2.1.2.1, hI.2.2.2.2.1.1, hI.2.2.2.2.1.2, ⟨(hI.2.2.2.2.2.2.1 rfl).1, by omega⟩, hI.2.2.2.2.2.1, (hI.2.2.2.2.2.2.1 rfl).2⟩ })
    · refine m_aload_n dX2_tellRounds_32 rfl ?_
      refine t_geti 28 (by decide) NN dX2_tellRounds_33 q3121 rfl ?_
      refine j_bipush dX2_tellRounds_36 (by decide) ?_
      refine j_icmp_ge 171 dX2_tellRounds_38 (by decide) ⟨⟨by omega, by omega⟩, ⟨by omega, by omega⟩⟩ (fun c38 => ?_) (fun c38 => ?_)
      · subst hQ; exact j_vret dX2_tellRounds_171 rfl (by { have e0 : x = 0 := by { rcases hx01 with e | e; { exact e }; { have := hpot1 e; omega } }; subst e0; exact ⟨NN, f, r, fA, rA, congrArg (tov K h m) (ovr_ovr sg [(22, day)] [(25, 0), (28, NN)] [] [(23, f), (24, r), (26, fA), (27, rA)]), hI.2.2.1.1, hI.2.2.1.2.1, hI.2.2.2.2.1.1, hI.2.2.2.2.1.2, ⟨(hI.2.2.2.2.2.2.1 rfl).1, by omega⟩, hI.2.2.2.2.2.1, (hI.2.2.2.2.2.2.1 rfl).2⟩ })
      · have hn12 : (sd sg day).1 1 ≤ 12 := (of1 (hT1.1 1)).2
        have hrow := (hI.2.2.2.2.2.1 (NN - 1).toNat (by omega)).2.2.2
        rw [show (((NN - 1).toNat : Nat) : Int) = NN - 1 by omega] at hrow
        refine m_aload_n dX2_tellRounds_41 rfl ?_
        refine j_iconst dX2_tellRounds_42 ?_
        refine t_putz 25 (by decide) [(25, 0), (28, NN)] dX2_tellRounds_43 q3118 rfl rfl rfl rfl (by omega) ?_
        refine j_iconst dX2_tellRounds_46 ?_
        refine j_istore [some (.ref m), some (vi fr), some (vi day), some (vi mi), some (vi 0), none, none] dX2_tellRounds_47 (by decide) rfl rfl ?_
        have L49 : ∀ (N : Nat) (x2 k : Int) (f2 r2 : Int → Int), (72 - k).toNat = N → (0 ≤ k ∧ k ≤ 72) → (RnQ (sd sg day) (b0 (sg.2 4) fr mi) (NN - 1).toNat (rwF fA (NN - 1)) (rwF rA (NN - 1)) x2 f2 r2) → (∀ j, j < k → okR (sd sg day) j → RnC (sd sg day) (rwF fA (NN - 1)) (rwF rA (NN - 1)) r2 j ((sd sg day).2 10 (j % 24))) → MW K yiX2_tellRounds d (tov K h m (ovr (sd sg day) [(25, x2), (28, NN)] [(23, f2), (24, r2), (26, fA), (27, rA)])) 49 [some (.ref m), some (vi fr), some (vi day), some (vi mi), some (vi k), none, none] [] Q := by
          intro N
          induction N using Nat.strongRecOn with
          | _ N ih49 =>
          intro x2 k f2 r2 hN49 hk hQ hC
          have hx2 : x2 = 0 ∨ x2 = 1 := by { rcases hQ.2.2.2.2 with q | q <;> omega }
          refine j_iload dX2_tellRounds_49 rfl ?_
          refine j_bipush dX2_tellRounds_51 (by decide) ?_
          refine j_icmp_ge 164 dX2_tellRounds_53 (by decide) ⟨⟨by omega, by omega⟩, ⟨by omega, by omega⟩⟩ (fun c53 => ?_) (fun c53 => ?_)
          · refine m_aload_n dX2_tellRounds_164 rfl ?_
            refine t_inv [] dX2_tellRounds_165 q3498 q3500 qs105 q3501 rfl (c_keepRound K 0 h m _ (by omega) (hT1.ovr (fa1 (mf25 (v := x2) ⟨by first | decide | omega | (split <;> omega) | assumption, by first | decide | omega | (split <;> omega) | assumption⟩) (fa1 (mf28 (v := NN) ⟨by first | decide | omega | (split <;> omega) | assumption, by first | decide | omega | (split <;> omega) | assumption⟩) fa0)) (fa1 hQ.1 (fa1 hQ.2.1 (fa1 hI.2.2.2.2.1.1 (fa1 hI.2.2.2.2.1.2 fa0))))) (show NN < (74 : Int) by omega)) pdX2_keepRound ⟨Nat.le_of_ble_eq_true rfl, by decide, by omega⟩ (kk_v fun h165 q165 => ?_) kx_v
            obtain rfl := q165
            refine mw_tov (b := ovr (sd sg day) [(25, x2), (28, (NN + 1))] [(23, f2), (24, r2), (26, (kpR fA (12 * NN) 12 f2)), (27, (kpR rA (12 * NN) 12 r2))]) (ovr_ovr _ _ _ _ _) ?_
            refine m_goto 25 dX2_tellRounds_168 (by decide) ?_
            refine mw_forget 4 ?_
            exact ih25 _ (by omega) _ _ _ _ _ _ rfl (by have e1 : x = 1 := by { omega }; subst e1; exact hI.next hF1 hcl1 hQ (fun j hj => hC j (by have := hj.2.1; omega) hj))
          · refine j_iconst dX2_tellRounds_56 ?_
            refine j_istore [some (.ref m), some (vi fr), some (vi day), some (vi mi), some (vi k), some (vi 0), none] dX2_tellRounds_57 (by decide) rfl rfl ?_
            refine j_iconst dX2_tellRounds_59 ?_
            refine j_istore [some (.ref m), some (vi fr), some (vi day), some (vi mi), some (vi k), some (vi 0), some (vi 0)] dX2_tellRounds_60 (by decide) rfl rfl ?_
            have L62 : ∀ (N : Nat) (bb c x3 : Int) (f3 r3 : Int → Int), (8 - c).toNat = N → (0 ≤ c ∧ c ≤ 8 ∧ (isRunP (sd sg day) k → c ≤ (sd sg day).2 10 (k % 24))) → (RnI (sd sg day) (b0 (sg.2 4) fr mi) (NN - 1).toNat (rwF fA (NN - 1)) (rwF rA (NN - 1)) k bb c x3 f3 r3) → (∀ v, r3 v ≤ r2 v) → MW K yiX2_tellRounds d (tov K h m (ovr (sd sg day) [(25, x3), (28, NN)] [(23, f3), (24, r3), (26, fA), (27, rA)])) 62 [some (.ref m), some (vi fr), some (vi day), some (vi mi), some (vi k), some (vi bb), some (vi c)] [] Q := by
              intro N
              induction N using Nat.strongRecOn with
              | _ N ih62 =>
              intro bb c x3 f3 r3 hN62 hc hI3 hle
              have hx3 : x3 = 0 ∨ x3 = 1 := by { rcases hI3.1.2.2.2.2 with q | q <;> omega }
              have hb01 := hI3.2.1
              refine m_aload_n dX2_tellRounds_62 rfl ?_
              refine j_iload dX2_tellRounds_63 rfl ?_
              refine t_inv [(vi k)] dX2_tellRounds_65 q3433 q3435 qs96 q3436 rfl (c_isRun K 1 h m _ _ (by omega) (hT1.ovr (fa1 (mf25 (v := x3) ⟨by first | decide | omega | (split <;> omega) | assumption, by first | decide | omega | (split <;> omega) | assumption⟩) (fa1 (mf28 (v := NN) ⟨by first | decide | omega | (split <;> omega) | assumption, by first | decide | omega | (split <;> omega) | assumption⟩) fa0)) (fa1 hI3.1.1 (fa1 hI3.1.2.1 (fa1 hI.2.2.2.2.1.1 (fa1 hI.2.2.2.2.1.2 fa0))))) ⟨by omega, by omega⟩) pdX2_isRun ⟨Nat.le_of_ble_eq_true rfl, by decide, by omega⟩ (kk_z fun r65 h65 q65 => ?_) kx_z
              obtain ⟨rfl, rfl⟩ := q65
              refine mw_top (x' := bz (isRunP (sd sg day) k)) rfl ?_
              refine j_bz_eq 158 dX2_tellRounds_68 (by decide) (fun c68 => ?_) (fun c68 => ?_)
              · refine j_iinc [some (.ref m), some (vi fr), some (vi day), some (vi mi), some (vi (k + 1)), some (vi bb), some (vi c)] dX2_tellRounds_158 rfl (by decide) rfl rfl ?_
                refine m_goto 49 dX2_tellRounds_161 (by decide) ?_
                refine mw_forget 5 ?_
                refine mw_forget 6 ?_
                exact ih49 _ (by omega) _ _ _ _ rfl (by omega) hI3.1 (fun j a b => by { by_cases e : j = k; { subst e; first | exact absurd b.2.2 (by assumption) | (have e9 : c = (sd sg day).2 10 (j % 24) := (by omega); rw [← e9]; exact hI3.2.2.2.2) }; { exact (hC j (by omega) b).le hle } })
              · refine j_iload dX2_tellRounds_71 rfl ?_
                refine m_aload_n dX2_tellRounds_73 rfl ?_
                refine t_geta 10 6 (by decide) dX2_tellRounds_74 q3103 rfl ?_
                refine j_iload dX2_tellRounds_77 rfl ?_
                refine j_bipush dX2_tellRounds_79 (by decide) ?_
                refine j_irem dX2_tellRounds_81 ⟨⟨by omega, by omega⟩, ⟨by omega, by omega⟩⟩ ⟨by omega, by omega⟩ ?_
                refine t_aldB 6 (by decide) (n := 24) ((sd sg day).2 10) dX2_tellRounds_82 rfl (Nat.le_of_ble_eq_true rfl) (oa10 (hT1.2 10)) ⟨by omega, by omega⟩ (fun b82 => ?_)
                refine j_icmp_ge 158 dX2_tellRounds_83 (by decide) ⟨⟨by omega, by omega⟩, ⟨by omega, by omega⟩⟩ (fun c83 => ?_) (fun c83 => ?_)
                · refine j_iinc [some (.ref m), some (vi fr), some (vi day), some (vi mi), some (vi (k + 1)), some (vi bb), some (vi c)] dX2_tellRounds_158 rfl (by decide) rfl rfl ?_
                  refine m_goto 49 dX2_tellRounds_161 (by decide) ?_
                  refine mw_forget 5 ?_
                  refine mw_forget 6 ?_
                  exact ih49 _ (by omega) _ _ _ _ rfl (by omega) hI3.1 (fun j a b => by { by_cases e : j = k; { subst e; first | exact absurd b.2.2 (by assumption) | (have e9 : c = (sd sg day).2 10 (j % 24) := (by omega); rw [← e9]; exact hI3.2.2.2.2) }; { exact (hC j (by omega) b).le hle } })
                · have hj : okR (sd sg day) k := ⟨by omega, by omega, by assumption⟩
                  have s45 := hS1.run hj (c := c) ⟨hc.1, by omega⟩
                  have bcm := cmI_b hT1 (r := k) (c := c) ⟨by omega, by omega⟩ ⟨by omega, by omega⟩
                  have blv := lvI_b hT1 (r := k) (c := c) ⟨by omega, by omega⟩ ⟨by omega, by omega⟩
                  have f1n := of1 (hT1.1 1)
                  have hTx : TB (ovr (sd sg day) [(28, NN)] [(26, fA), (27, rA)]) := hT1.ovr (fa1 (mf28 (v := NN) ⟨by omega, by omega⟩) fa0) (fa1 hI.2.2.2.2.1.1 (fa1 hI.2.2.2.2.1.2 fa0))
                  refine j_iload dX2_tellRounds_86 rfl ?_
                  refine j_if_eq 111 dX2_tellRounds_88 (by decide) ⟨by omega, by omega⟩ (fun c88 => ?_) (fun c88 => ?_)
                  · refine j_iload dX2_tellRounds_111 rfl ?_
                    refine j_if_ne 145 dX2_tellRounds_113 (by decide) ⟨by omega, by omega⟩ (fun c113 => False.elim (by omega)) (fun c113 => ?_)
                    refine m_aload_n dX2_tellRounds_116 rfl ?_
                    refine m_aload_n dX2_tellRounds_117 rfl ?_
                    refine t_geti 28 (by decide) NN dX2_tellRounds_118 q3121 rfl ?_
                    refine j_iconst dX2_tellRounds_121 ?_
                    refine j_isub dX2_tellRounds_122 ?_
                    refine m_aload_n dX2_tellRounds_123 rfl ?_
                    refine j_iload dX2_tellRounds_124 rfl ?_
                    refine j_iload dX2_tellRounds_126 rfl ?_
                    refine t_inv [(vi k), (vi c)] dX2_tellRounds_128 q3441 q3443 qs98 q3444 rfl (c_stopIn K 0 h m _ _ _ (hT1.ovr (fa1 (mf25 (v := x3) ⟨by first | decide | omega | (split <;> omega) | assumption, by first | decide | omega | (split <;> omega) | assumption⟩) (fa1 (mf28 (v := NN) ⟨by first | decide | omega | (split <;> omega) | assumption, by first | decide | omega | (split <;> omega) | assumption⟩) fa0)) (fa1 hI3.1.1 (fa1 hI3.1.2.1 (fa1 hI.2.2.2.2.1.1 (fa1 hI.2.2.2.2.1.2 fa0))))) ⟨by omega, by omega⟩ ⟨by omega, by omega⟩) pdX2_stopIn ⟨Nat.le_of_ble_eq_true rfl, by decide, by omega⟩ (kk_z fun r128 h128 q128 => ?_) kx_z
                    obtain ⟨rfl, rfl⟩ := q128
                    refine mw_top (x' := stI (sd sg day) k c) rfl ?_
                    refine m_aload_n dX2_tellRounds_131 rfl ?_
                    refine j_iload dX2_tellRounds_132 rfl ?_
                    refine j_iload dX2_tellRounds_134 rfl ?_
                    refine t_inv [(vi k), (vi c)] dX2_tellRounds_136 q3453 q3455 qs101 q3456 rfl (c_leavesAt K 2 h m _ _ _ (by omega) (hT1.ovr (fa1 (mf25 (v := x3) ⟨by first | decide | omega | (split <;> omega) | assumption, by first | decide | omega | (split <;> omega) | assumption⟩) (fa1 (mf28 (v := NN) ⟨by first | decide | omega | (split <;> omega) | assumption, by first | decide | omega | (split <;> omega) | assumption⟩) fa0)) (fa1 hI3.1.1 (fa1 hI3.1.2.1 (fa1 hI.2.2.2.2.1.1 (fa1 hI.2.2.2.2.1.2 fa0))))) ⟨by omega, by omega⟩ ⟨by omega, by omega⟩) pdX2_leavesAt ⟨Nat.le_of_ble_eq_true rfl, by decide, by omega⟩ (kk_z fun r136 h136 q136 => ?_) kx_z
                    obtain ⟨rfl, rfl⟩ := q136
                    refine mw_top (x' := lvI (sd sg day) k c) rfl ?_
                    refine t_inv [(vi (NN - 1)), (vi (stI (sd sg day) k c)), (vi (lvI (sd sg day) k c))] dX2_tellRounds_139 q3502 q3504 qs106 q3505 rfl (c_getsOnBy K 0 h m _ _ _ _ (by omega) (hT1.ovr (fa1 (mf25 (v := x3) ⟨by first | decide | omega | (split <;> omega) | assumption, by first | decide | omega | (split <;> omega) | assumption⟩) (fa1 (mf28 (v := NN) ⟨by first | decide | omega | (split <;> omega) | assumption, by first | decide | omega | (split <;> omega) | assumption⟩) fa0)) (fa1 hI3.1.1 (fa1 hI3.1.2.1 (fa1 hI.2.2.2.2.1.1 (fa1 hI.2.2.2.2.1.2 fa0))))) ⟨by omega, by omega⟩ ⟨by omega, by omega⟩ ⟨by omega, by omega⟩ ⟨by omega, by omega⟩ ⟨by omega, by omega⟩ ⟨by omega, by omega⟩) pdX2_getsOnBy ⟨Nat.le_of_ble_eq_true rfl, by decide, by omega⟩ (kk_z fun r139 h139 q139 => ?_) kx_z
                    obtain ⟨rfl, rfl⟩ := q139
                    refine mw_top (x' := bz (0 ≤ (lvI (sd sg day) k c) ∧ (fA (12 * (NN - 1) + (stI (sd sg day) k c)) ≤ (lvI (sd sg day) k c) ∨ rA (12 * (NN - 1) + (stI (sd sg day) k c)) + ((sd sg day).2 2) (stI (sd sg day) k c) ≤ (lvI (sd sg day) k c)))) rfl ?_
                    refine j_bz_eq 149 dX2_tellRounds_142 (by decide) (fun c142 => ?_) (fun c142 => ?_)
                    · refine j_iconst dX2_tellRounds_149 ?_
                      refine j_istore [some (.ref m), some (vi fr), some (vi day), some (vi mi), some (vi k), some (vi 0), some (vi c)] dX2_tellRounds_150 (by decide) rfl rfl ?_
                      refine j_iinc [some (.ref m), some (vi fr), some (vi day), some (vi mi), some (vi k), some (vi 0), some (vi (c + 1))] dX2_tellRounds_152 rfl (by decide) rfl rfl ?_
                      refine m_goto 62 dX2_tellRounds_155 (by decide) ?_
                      exact ih62 _ (by omega) _ _ _ _ _ rfl ⟨by omega, by omega, fun _ => by omega⟩ (by first | exact ho3.1 | exact RnI.on ((show bb = 0 by omega) ▸ hI3) hc.1 (by assumption) | exact RnI.no ((show bb = 0 by omega) ▸ hI3) (by assumption)) (by first | exact hle | exact (fun v => by { have := ho3.2 v; have := hle v; omega }))
                    · refine j_iconst dX2_tellRounds_145 ?_
                      refine m_goto 150 dX2_tellRounds_146 (by decide) ?_
                      refine j_istore [some (.ref m), some (vi fr), some (vi day), some (vi mi), some (vi k), some (vi 1), some (vi c)] dX2_tellRounds_150 (by decide) rfl rfl ?_
                      refine j_iinc [some (.ref m), some (vi fr), some (vi day), some (vi mi), some (vi k), some (vi 1), some (vi (c + 1))] dX2_tellRounds_152 rfl (by decide) rfl rfl ?_
                      refine m_goto 62 dX2_tellRounds_155 (by decide) ?_
                      exact ih62 _ (by omega) _ _ _ _ _ rfl ⟨by omega, by omega, fun _ => by omega⟩ (by first | exact ho3.1 | exact RnI.on ((show bb = 0 by omega) ▸ hI3) hc.1 (by assumption) | exact RnI.no ((show bb = 0 by omega) ▸ hI3) (by assumption)) (by first | exact hle | exact (fun v => by { have := ho3.2 v; have := hle v; omega }))
                  · refine m_aload_n dX2_tellRounds_91 rfl ?_
                    refine m_aload_n dX2_tellRounds_92 rfl ?_
                    refine j_iload dX2_tellRounds_93 rfl ?_
                    refine j_iload dX2_tellRounds_95 rfl ?_
                    refine t_inv [(vi k), (vi c)] dX2_tellRounds_97 q3441 q3443 qs98 q3444 rfl (c_stopIn K 0 h m _ _ _ (hT1.ovr (fa1 (mf25 (v := x3) ⟨by first | decide | omega | (split <;> omega) | assumption, by first | decide | omega | (split <;> omega) | assumption⟩) (fa1 (mf28 (v := NN) ⟨by first | decide | omega | (split <;> omega) | assumption, by first | decide | omega | (split <;> omega) | assumption⟩) fa0)) (fa1 hI3.1.1 (fa1 hI3.1.2.1 (fa1 hI.2.2.2.2.1.1 (fa1 hI.2.2.2.2.1.2 fa0))))) ⟨by omega, by omega⟩ ⟨by omega, by omega⟩) pdX2_stopIn ⟨Nat.le_of_ble_eq_true rfl, by decide, by omega⟩ (kk_z fun r97 h97 q97 => ?_) kx_z
                    obtain ⟨rfl, rfl⟩ := q97
                    refine mw_top (x' := stI (sd sg day) k c) rfl ?_
                    refine m_aload_n dX2_tellRounds_100 rfl ?_
                    refine j_iload dX2_tellRounds_101 rfl ?_
                    refine j_iload dX2_tellRounds_103 rfl ?_
                    refine t_inv [(vi k), (vi c)] dX2_tellRounds_105 q3445 q3447 qs99 q3448 rfl (c_comesAt K 2 h m _ _ _ (by omega) (hT1.ovr (fa1 (mf25 (v := x3) ⟨by first | decide | omega | (split <;> omega) | assumption, by first | decide | omega | (split <;> omega) | assumption⟩) (fa1 (mf28 (v := NN) ⟨by first | decide | omega | (split <;> omega) | assumption, by first | decide | omega | (split <;> omega) | assumption⟩) fa0)) (fa1 hI3.1.1 (fa1 hI3.1.2.1 (fa1 hI.2.2.2.2.1.1 (fa1 hI.2.2.2.2.1.2 fa0))))) ⟨by omega, by omega⟩ ⟨by omega, by omega⟩) pdX2_comesAt ⟨Nat.le_of_ble_eq_true rfl, by decide, by omega⟩ (kk_z fun r105 h105 q105 => ?_) kx_z
                    obtain ⟨rfl, rfl⟩ := q105
                    refine mw_top (x' := cmI (sd sg day) k c) rfl ?_
                    refine mw_tov (b := ovr (ovr (sd sg day) [(28, NN)] [(26, fA), (27, rA)]) [(25, x3)] [(23, f3), (24, r3)]) (ovr_ovr (sd sg day) [(28, NN)] [(25, x3)] [(26, fA), (27, rA)] [(23, f3), (24, r3)]).symm ?_
                    refine t_inv [(vi (stI (sd sg day) k c)), (vi (cmI (sd sg day) k c))] dX2_tellRounds_108 q3449 q3451 qs100 q3452 rfl (c_getsOff K 0 h m (ovr (sd sg day) [(28, NN)] [(26, fA), (27, rA)]) x3 f3 r3 _ _ hTx hI3.1.1 hI3.1.2.1 ⟨by omega, by omega⟩ ⟨by omega, by omega⟩) pdX2_getsOff ⟨Nat.le_of_ble_eq_true rfl, by decide, by omega⟩ (kk_v fun h108 q108 => ?_) kx_v
                    obtain ⟨x4, f4, r4, rfl, q108⟩ := q108
                    have ho3 := RnI.off ((show bb = 1 by omega) ▸ hI3) hrow hF1 hcut hj ⟨hc.1, by omega⟩ q108
                    refine mw_tov (b := ovr (sd sg day) [(25, x4), (28, NN)] [(23, f4), (24, r4), (26, fA), (27, rA)]) (ovr_ovr (sd sg day) [(28, NN)] [(25, x4)] [(26, fA), (27, rA)] [(23, f4), (24, r4)]) ?_
                    refine j_iload dX2_tellRounds_111 rfl ?_
                    refine j_if_ne 145 dX2_tellRounds_113 (by decide) ⟨by omega, by omega⟩ (fun c113 => ?_) (fun c113 => False.elim (by omega))
                    refine j_iconst dX2_tellRounds_145 ?_
                    refine m_goto 150 dX2_tellRounds_146 (by decide) ?_
                    refine j_istore [some (.ref m), some (vi fr), some (vi day), some (vi mi), some (vi k), some (vi 1), some (vi c)] dX2_tellRounds_150 (by decide) rfl rfl ?_
                    refine j_iinc [some (.ref m), some (vi fr), some (vi day), some (vi mi), some (vi k), some (vi 1), some (vi (c + 1))] dX2_tellRounds_152 rfl (by decide) rfl rfl ?_
                    refine m_goto 62 dX2_tellRounds_155 (by decide) ?_
                    exact ih62 _ (by omega) _ _ _ _ _ rfl ⟨by omega, by omega, fun _ => by omega⟩ (by first | exact ho3.1 | exact RnI.on ((show bb = 0 by omega) ▸ hI3) hc.1 (by assumption) | exact RnI.no ((show bb = 0 by omega) ▸ hI3) (by assumption)) (by first | exact hle | exact (fun v => by { have := ho3.2 v; have := hle v; omega }))
            exact L62 _ _ _ _ _ _ rfl ⟨by omega, by omega, fun _ => (oa10 (hT1.2 10) (k % 24) (by omega) (by omega)).1⟩ ⟨hQ, Or.inl rfl, fun e => absurd e (by decide), fun _ c' a1 a2 => by omega, fun c' c2 a1 a2 a3 => by omega⟩ (fun v => Int.le_refl _)
        exact L49 _ _ _ _ _ rfl (by omega) ⟨hI.2.2.1.1, hI.2.2.1.2.1, hI.2.2.1.2.2, ⟨_, EvN.mono _, hrow.sm hn12 hI.2.2.2.1.1.symm hI.2.2.2.1.2.symm⟩, Or.inl ⟨rfl, hI.2.2.2.1.1, hI.2.2.2.1.2⟩⟩ (fun j a b => by have := b.1; omega)
  exact L25 _ _ _ _ _ _ _ rfl hT0
