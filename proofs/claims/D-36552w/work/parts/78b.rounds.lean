/-! Lastbus.rounds -/
def RoM (v Nr : Int) : Nat := (2 * (70 - Nr) + v).toNat
set_option maxHeartbeats 4000000 in
theorem ro_out (K : KT) (d : Nat) (Q : OT → MH → Prop) (h gI : MH) (x ra re ch wk sv tr lt ws tx it q9 wy e0 e2 : Nat) (s9 : Nat) (capr : Nat) (wr : Bool) (frr : Int → Option Nat) (fr mi n mcr v Nr : Int) (kp : Option Nat) (sg0 : TS) (day : Int) (bb : Int → Int) (p2 : Int → Nat) (AR BY RD : Int → Int → Int) (ga gb gd : Int → Int) (W : Int → Int → Int)
    (hd : 8 ≤ d) (hF : WF (sd sg0 day)) (hn12 : 0 ≤ sg0.1 1 ∧ sg0.1 1 ≤ 12) (k0 : kV K 0 = .ref e0) (hwf : ∀ b e, h.2.2 b = some e → b < h.1) (hIwf : ∀ b e, gI.2.2 b = some e → b < gI.1) (hit : it = gI.1 + 4) (hs9 : s9 = gI.2.1 + 43)
    (hx0 : h.2.2 x = some (true, .inr (0, [.ref ch, .ref wk, vi (sg0.1 1), .ref sv, .ref tr, .ref lt, .ref ws, .ref tx, vi (sg0.1 21), va_rf kp]))) (hch0 : h.2.2 ch = some (true, ia K 12 (sg0.2 2))) (hE20 : h.2.2 e0 = some (false, oaE K 0 (fun _ => none))) (hro0 : h.2.2 ra = some (true, .inr (14, [vi mcr, .ref re, vi n]))) (hre0 : h.2.2 re = some (wr, oaE K capr frr))
    (hbb : bb = b0 (sg0.2 4) fr mi) (hv : v = 1) (hN1 : 1 ≤ Nr) (hN65 : Nr ≤ 65) (hRo : RoI K gI x wy (sd sg0 day) bb e0 h.1 e2 Nr p2 AR BY RD) (hWy : WyC K (exc h.1 e2 gI) wy W ∧ wy < gI.1) (hne : ∀ k : Nat, (k : Int) + 1 < Nr → ¬ EvEq (EvN (sd sg0 day) bb BG k) (EvN (sd sg0 day) bb BG (k + 1)))
    (hgi : ∀ i, 0 ≤ i → i < 12 → ga i = AR (Nr - 1) i ∧ gb i = BY (Nr - 1) i ∧ gd i = RD (Nr - 1) i) (hCLg : CLab (sd sg0 day) bb (EvN (sd sg0 day) bb BG (Nr - 1).toNat) ga gb gd) (hRgg : Rng ga ∧ Rng gb ∧ Rng gd) (hg : (h.1 + 18 ≤ gI.1 ∧ (gI.1 : Int) ≤ h.1 + 20 + 6 * (Nr - v)) ∧ h.2.1 ≤ gI.2.1 ∧ (gI.2.1 : Int) ≤ h.2.1 + 220 + 160 * (Nr - v)) (hz : h.1 + 460 ≤ kC K ∧ h.2.1 + 11100 ≤ kS K) (J43 : (∀ (v3 N3 : Int) (e3 : Nat) (p3 : Int → Nat) (AR3 BY3 RD3 : Int → Int → Int) (gJ : MH), (gJ.2.2 x = some (true, .inr (0, [(.ref ch), (.ref wk), (vi (sg0.1 1)), (.ref sv), (.ref tr), (.ref lt), (.ref ws), (.ref tx), (vi (sg0.1 21)), (va_rf kp)]))) → (gJ.2.2 ch = some (true, ia K 12 (sg0.2 2))) → (gJ.2.2 e0 = some (false, oaE K 0 (fun _ => none))) → (gJ.2.2 ra = some (true, .inr (14, [(vi mcr), (.ref re), (vi n)]))) → (gJ.2.2 re = some (wr, oaE K capr frr)) → (∀ b, (b < h.1) → gJ.2.2 b = h.2.2 b) → (0 ≤ v3 ∧ v3 ≤ 1) → (RoI K gJ x wy (sd sg0 day) bb e0 h.1 e3 N3 p3 AR3 BY3 RD3) → (WyC K (exc h.1 e3 gJ) wy W ∧ wy < gJ.1) → (∀ k : Nat, (k : Int) + 1 < N3 → ¬ EvEq (EvN (sd sg0 day) bb BG k) (EvN (sd sg0 day) bb BG (k + 1))) → (Imp (v3 = 0) (∀ k : Nat, N3 - 1 ≤ k → ∀ s, 0 ≤ s → s < sg0.1 1 → EAn (sd sg0 day) fr mi k s (AR3 (N3 - 1) s))) → ((h.1 + 18 ≤ gJ.1 ∧ (gJ.1 : Int) ≤ h.1 + 20 + 6 * (N3 - v3)) ∧ h.2.1 ≤ gJ.2.1 ∧ (gJ.2.1 : Int) ≤ h.2.1 + 220 + 160 * (N3 - v3)) → (RoM v3 N3 < RoM v Nr) → MW K yiX1_rounds d gJ 43 [some (.ref x), some (.ref ra), some (vi fr), some (vi mi), some (.ref h.1), none, some (vi v3), none, none, none, none, none, none] [] Q)) : (∀ (chg : Int) (fa fb fd : Int → Int) (gr : MH), (gr.2.2 gI.1 = some (true, .inr (9, [(vi (-1)), (.ref wy), (.ref (gI.1 + 1)), (.ref (gI.1 + 2)), (.ref (gI.1 + 3)), (vi chg), (.ref x)]))) → (gr.2.2 (gI.1 + 1) = some (true, ia K 12 fa)) → (gr.2.2 (gI.1 + 2) = some (true, ia K 12 fb)) → (gr.2.2 (gI.1 + 3) = some (true, ia K 12 fd)) → (∀ b, (b < h.1) → gr.2.2 b = h.2.2 b) → (∀ b, (b < gI.1) → gr.2.2 b = gI.2.2 b) → (CLab (sd sg0 day) bb (EvN (sd sg0 day) bb BG ((Nr - 1).toNat + 1)) fa fb fd) → (Rng fa ∧ Rng fb ∧ Rng fd) → (0 ≤ chg ∧ chg ≤ 1) → (Imp (chg = 1) (¬ EvEq (EvN (sd sg0 day) bb BG (Nr - 1).toNat) (EvN (sd sg0 day) bb BG ((Nr - 1).toNat + 1)))) → (Imp (chg = 0) (fa = ga ∧ fd = gd)) → (gr.1 = it + 1 ∧ gr.2.1 = s9 + 4) → MW K yiX1_rounds d gr 155 [some (.ref x), some (.ref ra), some (vi fr), some (vi mi), some (.ref h.1), none, none, some (.ref q9), some (.ref gI.1), some (.ref it), none, none, none] [] Q) := by
  obtain ⟨w2, cap2, mc2, fx2, ho2, he2, hae2, -, -, hcap2, hf2, -⟩ := id hRo.1
  have l_he2 := hIwf _ _ he2
  have l_ho2 := hIwf _ _ ho2
  have ho20 := ho2
  intro chg fa fb fd gr l1 l2 l3 l4 fR fI hCLf hRg hc hc1 hc0 hgr
  refine mw_wf (fun hwf155 => ?_)
  have l_l1155 := hwf155 _ _ l1
  have l_l2155 := hwf155 _ _ l2
  have l_l3155 := hwf155 _ _ l3
  have l_l4155 := hwf155 _ _ l4
  refine m_aload (y := yiX1_rounds) dX1_rounds_155 rfl ?_
  have eN : (((Nr - 1).toNat : Nat) : Int) = Nr - 1 := by omega
  have hgwf := hwf155
  have l0_hx0 := hwf _ _ hx0
  have l0_hch0 := hwf _ _ hch0
  have l0_hE20 := hwf _ _ hE20
  have l0_hro0 := hwf _ _ hro0
  have l0_hre0 := hwf _ _ hre0
  have eN2 : (Nr - 1).toNat + 1 = Nr.toNat := by omega
  have hRoB : RoI K gr x wy (sd sg0 day) bb e0 h.1 e2 Nr p2 AR BY RD := ⟨hRo.1.up (fun b c e9 => (fI b (hIwf _ _ e9)).trans e9), hRo.2.1, fun k hk => (hRo.2.2.1 k hk).up (fun b c e9 => by { have u9 := exc_at e9; exact exc_mk ((fI b (hIwf _ _ u9.1)).trans u9.1) u9.2.1 u9.2.2 }), hRo.2.2.2⟩
  have hWyB : WyC K (exc h.1 e2 gr) wy W := hWy.1.up (fun b c e9 => by { have u9 := exc_at e9; exact exc_mk ((fI b (hIwf _ _ u9.1)).trans u9.1) u9.2.1 u9.2.2 })
  refine m_getfN (y := yiX1_rounds) kc_9 5 (by decide) dX1_rounds_157 q2118 l1 rfl ?_
  have hx : gr.2.2 x = some (true, .inr (0, [(.ref ch), (.ref wk), (vi (sg0.1 1)), (.ref sv), (.ref tr), (.ref lt), (.ref ws), (.ref tx), (vi (sg0.1 21)), (va_rf kp)])) := (fR _ (hwf _ _ hx0)).trans hx0
  have l_hx := hwf155 _ _ hx
  have hch : gr.2.2 ch = some (true, ia K 12 (sg0.2 2)) := (fR _ (hwf _ _ hch0)).trans hch0
  have l_hch := hwf155 _ _ hch
  have hE2 : gr.2.2 e0 = some (false, oaE K 0 (fun _ => none)) := (fR _ (hwf _ _ hE20)).trans hE20
  have l_hE2 := hwf155 _ _ hE2
  have hro : gr.2.2 ra = some (true, .inr (14, [(vi mcr), (.ref re), (vi n)])) := (fR _ (hwf _ _ hro0)).trans hro0
  have l_hro := hwf155 _ _ hro
  have hre : gr.2.2 re = some (wr, oaE K capr frr) := (fR _ (hwf _ _ hre0)).trans hre0
  have l_hre := hwf155 _ _ hre
  refine j_istore (y := yiX1_rounds) [some (.ref x), some (.ref ra), some (vi fr), some (vi mi), some (.ref h.1), none, some (vi chg), some (.ref q9), some (.ref gI.1), some (.ref it), none, none, none] dX1_rounds_160 (by decide) rfl rfl ?_
  refine j_iload (y := yiX1_rounds) dX1_rounds_162 rfl ?_
  refine j_if_eq (y := yiX1_rounds) 175 dX1_rounds_164 (by decide) ⟨by omega, by omega⟩ (fun c164 => ?_) (fun c164 => ?_)
  · have hmB : Imp (chg = 0) (RoM chg Nr < RoM v Nr) := fun h9 => by { unfold RoM; omega }
    have hfinB : Imp (chg = 0) (∀ k : Nat, Nr - 1 ≤ k → ∀ s, 0 ≤ s → s < sg0.1 1 → EAn (sd sg0 day) fr mi k s (AR (Nr - 1) s)) := fun h9 k hk s s0 s1 => by { obtain ⟨r1, r2⟩ := hc0 h9; rw [r1, r2] at hCLf; rw [← (hgi s s0 (by omega)).1]; rw [hbb] at hCLg hCLf; exact EAn.all hF (by show sg0.1 1 ≤ 12; omega) hCLg hCLf hRgg.1 k (by omega) s s0 s1 }
    refine m_goto (y := yiX1_rounds) 43 dX1_rounds_175 (by decide) ?_
    refine mw_forget 7 ?_
    refine mw_forget 8 ?_
    refine mw_forget 9 ?_
    exact J43 _ _ _ _ _ _ _ _ hx hch hE2 hro hre fR (by omega) (by first | exact hRoA | exact hRoB) (by first | exact ⟨hWyA, by omega⟩ | exact ⟨hWyB, by omega⟩) (by first | exact hneA | exact hne) (by first | exact fun h9 => absurd h9 (by omega) | exact hfinB) (by omega) (by first | exact hmA | exact hmB (by omega))
  · have he2d := hRo.2.1
    have l1g := l1
    have l2g := l2
    have l3g := l3
    have l4g := l4
    have gr9 : (grC Nr).toNat ≤ 110 := by { unfold grC; (repeat' split) <;> omega }
    have ho9 : gr.2.2 h.1 = some (true, .inr (14, [(vi mc2), (.ref e2), (vi Nr)])) := (fI _ (by omega)).trans ho20
    have l_ho9 := hwf155 _ _ ho9
    refine m_aload (y := yiX1_rounds) dX1_rounds_167 rfl ?_
    refine m_aload (y := yiX1_rounds) dX1_rounds_169 rfl ?_
    refine m_invV (y := yiX1_rounds) (rB := (RJ2, TJ2, 3)) [(.ref gI.1)] dX1_rounds_171 ho9 rfl q953 q954 q955 q126 q956 rfl (c_Ladd K 6 gr e0 h.1 e2 gI.1 Nr p2 9 (r := _) (by omega) ⟨k0, hE2⟩ hRoB.1 (by omega) rfl (by decide) ⟨_, _, l1⟩ (fun i a b => by { obtain ⟨A', B', R', cg', hLb', -⟩ := hRoB.2.2.1 i.toNat (by omega); have u9 := exc_at hLb'.1; rw [show ((i.toNat : Nat) : Int) = i by omega] at u9; exact ⟨_, _, u9.1⟩ }) ⟨by omega, by omega⟩) pdJ2_add ⟨Nat.le_of_ble_eq_true rfl, by decide, by omega⟩ (kk_z fun r171 h171 q171 => ?_) kx_z
    obtain ⟨rfl, e5, p1, p3, p3', p4, p5⟩ := q171
    have l1 : h171.2.2 gI.1 = some (true, .inr (9, [(vi (-1)), (.ref wy), (.ref (gI.1 + 1)), (.ref (gI.1 + 2)), (.ref (gI.1 + 3)), (vi chg), (.ref x)])) := (p5 _ (by (repeat' apply And.intro) <;> omega)).trans l1
    have l2 : h171.2.2 (gI.1 + 1) = some (true, ia K 12 fa) := (p5 _ (by (repeat' apply And.intro) <;> omega)).trans l2
    have l3 : h171.2.2 (gI.1 + 2) = some (true, ia K 12 fb) := (p5 _ (by (repeat' apply And.intro) <;> omega)).trans l3
    have l4 : h171.2.2 (gI.1 + 3) = some (true, ia K 12 fd) := (p5 _ (by (repeat' apply And.intro) <;> omega)).trans l4
    have hx : h171.2.2 x = some (true, .inr (0, [(.ref ch), (.ref wk), (vi (sg0.1 1)), (.ref sv), (.ref tr), (.ref lt), (.ref ws), (.ref tx), (vi (sg0.1 21)), (va_rf kp)])) := (p5 _ (by (repeat' apply And.intro) <;> omega)).trans hx
    have hch : h171.2.2 ch = some (true, ia K 12 (sg0.2 2)) := (p5 _ (by (repeat' apply And.intro) <;> omega)).trans hch
    have hE2 : h171.2.2 e0 = some (false, oaE K 0 (fun _ => none)) := (p5 _ (by (repeat' apply And.intro) <;> omega)).trans hE2
    have hro : h171.2.2 ra = some (true, .inr (14, [(vi mcr), (.ref re), (vi n)])) := (p5 _ (by (repeat' apply And.intro) <;> omega)).trans hro
    have hre : h171.2.2 re = some (wr, oaE K capr frr) := (p5 _ (by (repeat' apply And.intro) <;> omega)).trans hre
    have fR : ∀ b, (b < h.1) → h171.2.2 b = h.2.2 b := fun b hb => (p5 b (by (repeat' apply And.intro) <;> omega)).trans (fR b hb)
    refine mw_wf (fun hwf171 => ?_)
    have hxc : ∀ b c, gr.2.2 b = some c → b ≠ h.1 → b ≠ e2 → b ≠ e5 → (exc h.1 e5 h171).2.2 b = some c := fun b c e9 n1 n2 n3 => exc_mk ((p5 b ⟨hgwf _ _ e9, n1, Or.inl n2⟩).trans e9) n1 n3
    have l_l1 := hgwf _ _ l1g
    have hRoA : RoI K h171 x wy (sd sg0 day) bb e0 h.1 e5 (Nr + 1) (upn p2 Nr gI.1) (upf AR Nr fa) (upf BY Nr fb) (upf RD Nr fd) := hRoB.add p4 (by omega) (fun b c e9 => by { have u9 := exc_at e9; have v9 := hgwf _ _ u9.1; exact hxc b c u9.1 u9.2.1 u9.2.2 (by omega) }) ⟨gI.1 + 1, gI.1 + 2, gI.1 + 3, chg, ⟨hxc _ _ l1g (by omega) (by omega) (by omega), hxc _ _ l2g (by omega) (by omega) (by omega), hxc _ _ l3g (by omega) (by omega) (by omega), hxc _ _ l4g (by omega) (by omega) (by omega)⟩, by rw [← eN2]; exact hCLf, hRg⟩
    have hWyA : WyC K (exc h.1 e5 h171) wy W := hWyB.up (fun b c e9 => by { have u9 := exc_at e9; have v9 := hgwf _ _ u9.1; exact hxc b c u9.1 u9.2.1 u9.2.2 (by omega) })
    have hmA : RoM chg (Nr + 1) < RoM v Nr := by { unfold RoM; omega }
    have hneA : ∀ k : Nat, (k : Int) + 1 < Nr + 1 → ¬ EvEq (EvN (sd sg0 day) bb BG k) (EvN (sd sg0 day) bb BG (k + 1)) := fun k hk => by { by_cases e9 : (k : Int) + 1 < Nr; { exact hne k e9 }; { have e8 : k = (Nr - 1).toNat := (by omega); rw [e8]; exact hc1 (by omega) } }
    refine m_pop (y := yiX1_rounds) dX1_rounds_174 rfl ?_
    have hmB : Imp (chg = 0) (RoM chg Nr < RoM v Nr) := fun h9 => by { unfold RoM; omega }
    have hfinB : Imp (chg = 0) (∀ k : Nat, Nr - 1 ≤ k → ∀ s, 0 ≤ s → s < sg0.1 1 → EAn (sd sg0 day) fr mi k s (AR (Nr - 1) s)) := fun h9 k hk s s0 s1 => by { obtain ⟨r1, r2⟩ := hc0 h9; rw [r1, r2] at hCLf; rw [← (hgi s s0 (by omega)).1]; rw [hbb] at hCLg hCLf; exact EAn.all hF (by show sg0.1 1 ≤ 12; omega) hCLg hCLf hRgg.1 k (by omega) s s0 s1 }
    refine m_goto (y := yiX1_rounds) 43 dX1_rounds_175 (by decide) ?_
    refine mw_forget 7 ?_
    refine mw_forget 8 ?_
    refine mw_forget 9 ?_
    exact J43 _ _ _ _ _ _ _ _ hx hch hE2 hro hre fR (by omega) (by first | exact hRoA | exact hRoB) (by first | exact ⟨hWyA, by omega⟩ | exact ⟨hWyB, by omega⟩) (by first | exact hneA | exact hne) (by first | exact fun h9 => absurd h9 (by omega) | exact hfinB) (by omega) (by first | exact hmA | exact hmB (by omega))
set_option maxHeartbeats 4000000 in
theorem c_rounds (K : KT) (d : Nat) (h : MH) (z x : Nat) (sg0 : TS) (day : Int) (e0r ra re : Nat) (n : Int) (rix : Int → Int) (p : Int → Nat) (fr mi : Int) (hd : 8 ≤ d) (hIv : Iv sg0) (hW : World K h z x sg0) (hz1 : z ≤ h.1) (hy : 0 ≤ day ∧ day ≤ 27) (hRu : RunsA K h e0r ra re n (sd sg0 day) rix p) (hf : 0 ≤ fr ∧ fr < sg0.1 1) (hmi : 0 ≤ mi ∧ mi ≤ 5000) (hz : h.1 + 460 ≤ kC K ∧ h.2.1 + 11100 ≤ kS K) : Mt K yiX1_rounds d [.ref x, .ref ra, vi fr, vi mi] h (Rr fun r h' => RodQ K h h' x (sd sg0 day) fr mi r) := by
  have hcls := hIv.cls
  obtain ⟨hF0, hCl, hO, hWy0, hcut0, -, -, -⟩ := hIv
  have hF := hF0.sd hy
  have f1b := of1 (hF0.1.1 1)
  have hn72 := hRu.num
  have hRP := hRu.rp
  have hD := hF.2.2.2
  have hchb := fun j a b => oa2 (hF0.1.2 2) j a b
  have hRu0 := hRu
  obtain ⟨kst, hkst, hEst⟩ := ev_stab (sg := sd sg0 day) (f0 := b0 (sg0.2 4) fr mi) hF.1
  have hkst2 : kst ≤ 64 := by have : clS (sd sg0 day) = clS sg0 := rfl; omega
  have hW0 := hW
  obtain ⟨own, e0, cc, ch, wk, sv, tr, lt, ws, tx, se, te, we, kp, sp, tp, wp, T, hK, hE, hI, hx, hch, hwk, hsv, htr, hlt, hws, htx, hkp, hR0⟩ := hW
  obtain ⟨hx, hxz, -⟩ := tg_at hx
  obtain ⟨hch, hchz, -⟩ := tg_at hch
  have hE1 := hE.1
  obtain ⟨hE2, hE2z, -⟩ := tg_at hE.2
  obtain ⟨k0, k1, k3, k4, k5, k8, k9, k10, k11, k12⟩ := hK
  have hwk := And.intro hwk.1.C hwk.2
  obtain ⟨wr, capr, mcr, frr, hro, hre, hae, -, -, hcap, hrf, -⟩ := hRu.1
  have hx0 := hx
  have hch0 := hch
  have hE20 := hE2
  have hro0 := hro
  have hre0 := hre
  refine mt_ofQ (by decide) (Nat.le_of_ble_eq_true rfl) (fun Q hQ => ?_)
  show MW K yiX1_rounds d h 0 [some (.ref x), some (.ref ra), some (vi fr), some (vi mi), none, none, none, none, none, none, none, none, none] [] Q
  refine mw_wf (fun hwf => ?_)
  have l_hx := hwf _ _ hx
  have l_hch := hwf _ _ hch
  have l_hE2 := hwf _ _ hE2
  have l_hro := hwf _ _ hro
  have l_hre := hwf _ _ hre
  have fR : ∀ b, (b < h.1) → h.2.2 b = h.2.2 b := fun _ _ => rfl
  refine m_new (y := yiX1_rounds) kc_14 3 dX1_rounds_0 q199 q200 q126 _ rfl ⟨by omega, by omega⟩ (hp_new fun g1 g1H => ?_)
  have hx : g1.2.2 x = some (true, .inr (0, [(.ref ch), (.ref wk), (vi (sg0.1 1)), (.ref sv), (.ref tr), (.ref lt), (.ref ws), (.ref tx), (vi (sg0.1 21)), (va_rf kp)])) := (g1H.2.2.2 _ (by (repeat' apply And.intro) <;> omega)).trans hx
  have hch : g1.2.2 ch = some (true, ia K 12 (sg0.2 2)) := (g1H.2.2.2 _ (by (repeat' apply And.intro) <;> omega)).trans hch
  have hE2 : g1.2.2 e0 = some (false, oaE K 0 (fun _ => none)) := (g1H.2.2.2 _ (by (repeat' apply And.intro) <;> omega)).trans hE2
  have hro : g1.2.2 ra = some (true, .inr (14, [(vi mcr), (.ref re), (vi n)])) := (g1H.2.2.2 _ (by (repeat' apply And.intro) <;> omega)).trans hro
  have hre : g1.2.2 re = some (wr, oaE K capr frr) := (g1H.2.2.2 _ (by (repeat' apply And.intro) <;> omega)).trans hre
  have fR : ∀ b, (b < h.1) → g1.2.2 b = h.2.2 b := fun b hb => (g1H.2.2.2 b (by (repeat' apply And.intro) <;> omega)).trans (fR b hb)
  have fg1 : g1.2.2 h.1 = some (true, .inr (14, [(vi 0), .null, (vi 0)])) := g1H.2.2.1
  have g11 := g1H.1
  have g12 := g1H.2.1
  refine m_dup (y := yiX1_rounds) dX1_rounds_3 rfl ?_
  refine m_invI (y := yiX1_rounds) [] dX1_rounds_4 q201 q202 q126 q203 rfl rfl (c_J2_init K 3 g1 h.1 e0 (by omega) k0 fg1) pdJ2_init ⟨Nat.le_of_ble_eq_true rfl, by decide, by omega⟩ (kk_v fun h4 q4 => ?_) kx_v
  obtain q4 := q4
  have y4 := q4.1
  have z4 := q4.2.1
  have u4 := q4.2.2.1
  have hx : h4.2.2 x = some (true, .inr (0, [(.ref ch), (.ref wk), (vi (sg0.1 1)), (.ref sv), (.ref tr), (.ref lt), (.ref ws), (.ref tx), (vi (sg0.1 21)), (va_rf kp)])) := (q4.2.2.2 _ (by (repeat' apply And.intro) <;> omega)).trans hx
  have hch : h4.2.2 ch = some (true, ia K 12 (sg0.2 2)) := (q4.2.2.2 _ (by (repeat' apply And.intro) <;> omega)).trans hch
  have hE2 : h4.2.2 e0 = some (false, oaE K 0 (fun _ => none)) := (q4.2.2.2 _ (by (repeat' apply And.intro) <;> omega)).trans hE2
  have hro : h4.2.2 ra = some (true, .inr (14, [(vi mcr), (.ref re), (vi n)])) := (q4.2.2.2 _ (by (repeat' apply And.intro) <;> omega)).trans hro
  have hre : h4.2.2 re = some (wr, oaE K capr frr) := (q4.2.2.2 _ (by (repeat' apply And.intro) <;> omega)).trans hre
  have fR : ∀ b, (b < h.1) → h4.2.2 b = h.2.2 b := fun b hb => (q4.2.2.2 b (by (repeat' apply And.intro) <;> omega)).trans (fR b hb)
  refine mw_wf (fun hwf4 => ?_)
  have l_u44 := hwf4 _ _ u4
  refine m_astore (y := yiX1_rounds) dX1_rounds_7 (by decide) rfl ?_
  show MW K yiX1_rounds d h4 9 [some (.ref x), some (.ref ra), some (vi fr), some (vi mi), some (.ref h.1), none, none, none, none, none, none, none, none] [] Q
  refine m_new (y := yiX1_rounds) kc_9 7 dX1_rounds_9 q2100 q2101 q175 _ rfl ⟨by omega, by omega⟩ (hp_new fun g2 g2H => ?_)
  have hx : g2.2.2 x = some (true, .inr (0, [(.ref ch), (.ref wk), (vi (sg0.1 1)), (.ref sv), (.ref tr), (.ref lt), (.ref ws), (.ref tx), (vi (sg0.1 21)), (va_rf kp)])) := (g2H.2.2.2 _ (by (repeat' apply And.intro) <;> omega)).trans hx
  have hch : g2.2.2 ch = some (true, ia K 12 (sg0.2 2)) := (g2H.2.2.2 _ (by (repeat' apply And.intro) <;> omega)).trans hch
  have hE2 : g2.2.2 e0 = some (false, oaE K 0 (fun _ => none)) := (g2H.2.2.2 _ (by (repeat' apply And.intro) <;> omega)).trans hE2
  have hro : g2.2.2 ra = some (true, .inr (14, [(vi mcr), (.ref re), (vi n)])) := (g2H.2.2.2 _ (by (repeat' apply And.intro) <;> omega)).trans hro
  have hre : g2.2.2 re = some (wr, oaE K capr frr) := (g2H.2.2.2 _ (by (repeat' apply And.intro) <;> omega)).trans hre
  have u4 : g2.2.2 h.1 = some (true, .inr (14, [(vi 0), (.ref e0), (vi 0)])) := (g2H.2.2.2 _ (by (repeat' apply And.intro) <;> omega)).trans u4
  have fR : ∀ b, (b < h.1) → g2.2.2 b = h.2.2 b := fun b hb => (g2H.2.2.2 b (by (repeat' apply And.intro) <;> omega)).trans (fR b hb)
  have fg2 : g2.2.2 h4.1 = some (true, .inr (9, [(vi 0), .null, .null, .null, .null, (vi 0), .null])) := g2H.2.2.1
  have g21 := g2H.1
  have g22 := g2H.2.1
  refine m_dup (y := yiX1_rounds) dX1_rounds_12 rfl ?_
  refine m_aload_n (y := yiX1_rounds) dX1_rounds_13 rfl ?_
  refine j_iconst (y := yiX1_rounds) dX1_rounds_14 ?_
  refine m_aload_n (y := yiX1_rounds) dX1_rounds_15 rfl ?_
  refine j_iconst (y := yiX1_rounds) dX1_rounds_16 ?_
  refine m_invV (y := yiX1_rounds) (rB := (RX1, TX1, 10)) [(vi (-1))] dX1_rounds_17 hx rfl q916 q918 qs3 q123 q919 rfl (c_X1_closedWalks K 1 g2 x ch wk sv tr lt ws tx (sg0.1 1) (sg0.1 21) (-1) _ T (sg0.2 3) (by omega) hx (hwk.1.up (fun b c e9 => by { have u9 := tg_at e9; exact (fR b (by omega)).trans u9.1 })) hwk.2 (hF0.1.2 3) ⟨by omega, by omega⟩ ⟨by omega, by omega⟩ ⟨by omega, by omega⟩) pdX1_closedWalks ⟨Nat.le_of_ble_eq_true rfl, by decide, by omega⟩ (kk_r fun r17 h17 q17 => ?_) kx_r
  obtain ⟨rfl, y17, z17, f17, W, hW1, hW2, hW3⟩ := q17
  have hx : h17.2.2 x = some (true, .inr (0, [(.ref ch), (.ref wk), (vi (sg0.1 1)), (.ref sv), (.ref tr), (.ref lt), (.ref ws), (.ref tx), (vi (sg0.1 21)), (va_rf kp)])) := (f17 _ (by (repeat' apply And.intro) <;> omega)).trans hx
  have hch : h17.2.2 ch = some (true, ia K 12 (sg0.2 2)) := (f17 _ (by (repeat' apply And.intro) <;> omega)).trans hch
  have hE2 : h17.2.2 e0 = some (false, oaE K 0 (fun _ => none)) := (f17 _ (by (repeat' apply And.intro) <;> omega)).trans hE2
  have hro : h17.2.2 ra = some (true, .inr (14, [(vi mcr), (.ref re), (vi n)])) := (f17 _ (by (repeat' apply And.intro) <;> omega)).trans hro
  have hre : h17.2.2 re = some (wr, oaE K capr frr) := (f17 _ (by (repeat' apply And.intro) <;> omega)).trans hre
  have u4 : h17.2.2 h.1 = some (true, .inr (14, [(vi 0), (.ref e0), (vi 0)])) := (f17 _ (by (repeat' apply And.intro) <;> omega)).trans u4
  have fg2 : h17.2.2 h4.1 = some (true, .inr (9, [(vi 0), .null, .null, .null, .null, (vi 0), .null])) := (f17 _ (by (repeat' apply And.intro) <;> omega)).trans fg2
  have fR : ∀ b, (b < h.1) → h17.2.2 b = h.2.2 b := fun b hb => (f17 b (by (repeat' apply And.intro) <;> omega)).trans (fR b hb)
  refine mw_wf (fun hwf17 => ?_)
  have hY : WayA K h17 g2.1 W (sd sg0 day) := WayA.of (cut := -1) ⟨by show 0 ≤ sg0.1 1; omega, by show sg0.1 1 ≤ 12; omega⟩ (hF0.1.2 3) hWy0 (hW1.up (fun b c e9 => (rs_at e9).1)) hW2
  have hY2 : ∀ i j, 0 ≤ i → i < sg0.1 1 → 0 ≤ j → j < sg0.1 1 → W i j = sg0.2 4 (12 * i + j) := hY.2.1
  have hY3 := hY.2.2
  refine m_invI (y := yiX1_rounds) [(.ref x), (vi (-1)), (.ref g2.1)] dX1_rounds_20 q2102 q2103 q175 q2104 rfl rfl (c_X10_init K 2 h17 x g2.1 h4.1 (-1) (by omega) fg2 ⟨by omega, by omega⟩) pdX10_init ⟨Nat.le_of_ble_eq_true rfl, by decide, by omega⟩ (kk_v fun h20 q20 => ?_) kx_v
  obtain ⟨fa0, fb0, fd0, q20, i20, y20, z20, f20⟩ := q20
  obtain ⟨hq, hA, hB, hR⟩ := q20
  have hx : h20.2.2 x = some (true, .inr (0, [(.ref ch), (.ref wk), (vi (sg0.1 1)), (.ref sv), (.ref tr), (.ref lt), (.ref ws), (.ref tx), (vi (sg0.1 21)), (va_rf kp)])) := (f20 _ (by (repeat' apply And.intro) <;> omega)).trans hx
  have hch : h20.2.2 ch = some (true, ia K 12 (sg0.2 2)) := (f20 _ (by (repeat' apply And.intro) <;> omega)).trans hch
  have hE2 : h20.2.2 e0 = some (false, oaE K 0 (fun _ => none)) := (f20 _ (by (repeat' apply And.intro) <;> omega)).trans hE2
  have hro : h20.2.2 ra = some (true, .inr (14, [(vi mcr), (.ref re), (vi n)])) := (f20 _ (by (repeat' apply And.intro) <;> omega)).trans hro
  have hre : h20.2.2 re = some (wr, oaE K capr frr) := (f20 _ (by (repeat' apply And.intro) <;> omega)).trans hre
  have u4 : h20.2.2 h.1 = some (true, .inr (14, [(vi 0), (.ref e0), (vi 0)])) := (f20 _ (by (repeat' apply And.intro) <;> omega)).trans u4
  have fR : ∀ b, (b < h.1) → h20.2.2 b = h.2.2 b := fun b hb => (f20 b (by (repeat' apply And.intro) <;> omega)).trans (fR b hb)
  refine mw_wf (fun hwf20 => ?_)
  have l_hq20 := hwf20 _ _ hq
  have l_hA20 := hwf20 _ _ hA
  have l_hB20 := hwf20 _ _ hB
  have l_hR20 := hwf20 _ _ hR
  refine m_astore (y := yiX1_rounds) dX1_rounds_23 (by decide) rfl ?_
  show MW K yiX1_rounds d h20 25 [some (.ref x), some (.ref ra), some (vi fr), some (vi mi), some (.ref h.1), some (.ref h4.1), none, none, none, none, none, none, none] [] Q
  have hWy17 : WyC K (rs (h4.1 + 1) h17.1 h20) g2.1 W := hW1.up (fun b c e9 => by { have u9 := rs_at e9; have l9 := hwf17 _ _ u9.1; exact rs_mk ((f20 _ (by omega)).trans u9.1) (by omega) (by omega) })
  refine m_aload (y := yiX1_rounds) dX1_rounds_25 rfl ?_
  refine j_iload_n (y := yiX1_rounds) dX1_rounds_27 rfl ?_
  refine j_iload_n (y := yiX1_rounds) dX1_rounds_28 rfl ?_
  refine m_invV (y := yiX1_rounds) (rB := (RX10, TX10, 7)) [(vi fr), (vi mi)] dX1_rounds_29 hq rfl q2135 q2136 q2137 q175 q2138 rfl (c_X10_begins K 2 h20 x (-1) g2.1 h4.1 h17.1 (h17.1 + 1) (h17.1 + 2) 0 fa0 fb0 fd0 W (h4.1 + 1) h17.1 h4.1 ch wk sv tr lt ws tx (sg0.1 1) (sg0.1 21) _ fr mi (by omega) ⟨hq, hA, hB, hR⟩ (Or.inl rfl) hWy17 (Or.inr ⟨by omega, by omega⟩) ⟨Nat.le_refl _, by omega, by omega, by omega⟩ (rs_mk hx (Nat.zero_le _) (by omega)) ⟨by omega, by omega⟩ ⟨by omega, by omega⟩ ⟨by omega, by omega⟩ ⟨by omega, by omega⟩ hW3 (fun j a b => by have := i20 j a b; omega) (fun j a b => by have := i20 j a b; omega)) pdX10_begins ⟨Nat.le_of_ble_eq_true rfl, by decide, by omega⟩ (kk_v fun h29 q29 => ?_) kx_v
  obtain ⟨cg, c1, ⟨k1, k2, k3, k4⟩, y29, z29, f29⟩ := q29
  have hx : h29.2.2 x = some (true, .inr (0, [(.ref ch), (.ref wk), (vi (sg0.1 1)), (.ref sv), (.ref tr), (.ref lt), (.ref ws), (.ref tx), (vi (sg0.1 21)), (va_rf kp)])) := (f29 _ (by (repeat' apply And.intro) <;> omega)).trans hx
  have hch : h29.2.2 ch = some (true, ia K 12 (sg0.2 2)) := (f29 _ (by (repeat' apply And.intro) <;> omega)).trans hch
  have hE2 : h29.2.2 e0 = some (false, oaE K 0 (fun _ => none)) := (f29 _ (by (repeat' apply And.intro) <;> omega)).trans hE2
  have hro : h29.2.2 ra = some (true, .inr (14, [(vi mcr), (.ref re), (vi n)])) := (f29 _ (by (repeat' apply And.intro) <;> omega)).trans hro
  have hre : h29.2.2 re = some (wr, oaE K capr frr) := (f29 _ (by (repeat' apply And.intro) <;> omega)).trans hre
  have u4 : h29.2.2 h.1 = some (true, .inr (14, [(vi 0), (.ref e0), (vi 0)])) := (f29 _ (by (repeat' apply And.intro) <;> omega)).trans u4
  have fR : ∀ b, (b < h.1) → h29.2.2 b = h.2.2 b := fun b hb => (f29 b (by (repeat' apply And.intro) <;> omega)).trans (fR b hb)
  refine mw_wf (fun hwf29 => ?_)
  have l_k129 := hwf29 _ _ k1
  have l_k229 := hwf29 _ _ k2
  have l_k329 := hwf29 _ _ k3
  have l_k429 := hwf29 _ _ k4
  have hwv0 : ∀ i, 0 ≤ i → i < 12 → ∀ j, 0 ≤ j → j < 12 → W i j < 1000000 → 0 ≤ W i j ∧ W i j ≤ 250000 := fun i i0 i1 j a b c => by { have := hY3 i j i0 i1 a b; omega }
  have hRg0 : Rng (rcF (-1) fr mi (W fr) (W fr) fa0 (sg0.1 1)) ∧ Rng fb0 ∧ Rng (rcF (-1) fr mi (W fr) (W fr) fd0 (sg0.1 1)) := ⟨(Rng.none (fun i a b => (i20 i a b).1)).rc (by omega) (hwv0 fr (by omega) (by omega)), Rng.none (fun i a b => (i20 i a b).2.1), (Rng.none (fun i a b => (i20 i a b).2.2)).rc (by omega) (hwv0 fr (by omega) (by omega))⟩
  have hCL0 : CLab (sd sg0 day) (b0 (sg0.2 4) fr mi) E0 (rcF (-1) fr mi (W fr) (W fr) fa0 (sg0.1 1)) fb0 (rcF (-1) fr mi (W fr) (W fr) fd0 (sg0.1 1)) := CLab.start hF.1 hD (by show sg0.1 1 ≤ 12; omega) hf ⟨hmi.1, hmi.2⟩ (by omega) (fun j a b => hY2 fr j hf.1 hf.2 a b) i20
  refine m_aload (y := yiX1_rounds) dX1_rounds_32 rfl ?_
  refine m_aload (y := yiX1_rounds) dX1_rounds_34 rfl ?_
  have gr36 : (grC 0).toNat ≤ 10 := by decide
  refine m_invV (y := yiX1_rounds) (rB := (RJ2, TJ2, 3)) [(.ref h4.1)] dX1_rounds_36 u4 rfl q953 q954 q955 q126 q956 rfl (c_Ladd K 6 h29 e0 h.1 e0 h4.1 0 (fun _ => 0) 9 (r := _) (by omega) ⟨k0, hE2⟩ ⟨false, 0, 0, _, u4, hE2, by omega, fun _ => rfl, fun h9 => absurd rfl h9, ⟨by omega, by omega, by omega⟩, fun i a b => by omega, fun _ _ => rfl⟩ (by omega) rfl (by decide) ⟨_, _, k1⟩ (fun i a b => by omega) ⟨by omega, by omega⟩) pdJ2_add ⟨Nat.le_of_ble_eq_true rfl, by decide, by omega⟩ (kk_z fun r36 h36 q36 => ?_) kx_z
  obtain ⟨rfl, e5, p1, p3, p3', p4, p5⟩ := q36
  have hx : h36.2.2 x = some (true, .inr (0, [(.ref ch), (.ref wk), (vi (sg0.1 1)), (.ref sv), (.ref tr), (.ref lt), (.ref ws), (.ref tx), (vi (sg0.1 21)), (va_rf kp)])) := (p5 _ (by (repeat' apply And.intro) <;> omega)).trans hx
  have hch : h36.2.2 ch = some (true, ia K 12 (sg0.2 2)) := (p5 _ (by (repeat' apply And.intro) <;> omega)).trans hch
  have hE2 : h36.2.2 e0 = some (false, oaE K 0 (fun _ => none)) := (p5 _ (by (repeat' apply And.intro) <;> omega)).trans hE2
  have hro : h36.2.2 ra = some (true, .inr (14, [(vi mcr), (.ref re), (vi n)])) := (p5 _ (by (repeat' apply And.intro) <;> omega)).trans hro
  have hre : h36.2.2 re = some (wr, oaE K capr frr) := (p5 _ (by (repeat' apply And.intro) <;> omega)).trans hre
  have k1 : h36.2.2 h4.1 = some (true, .inr (9, [(vi (-1)), (.ref g2.1), (.ref h17.1), (.ref (h17.1 + 1)), (.ref (h17.1 + 2)), (vi cg), (.ref x)])) := (p5 _ (by (repeat' apply And.intro) <;> omega)).trans k1
  have k2 : h36.2.2 h17.1 = some (true, ia K 12 (rcF (-1) fr mi (W fr) (W fr) fa0 (sg0.1 1))) := (p5 _ (by (repeat' apply And.intro) <;> omega)).trans k2
  have k3 : h36.2.2 (h17.1 + 1) = some (true, ia K 12 fb0) := (p5 _ (by (repeat' apply And.intro) <;> omega)).trans k3
  have k4 : h36.2.2 (h17.1 + 2) = some (true, ia K 12 (rcF (-1) fr mi (W fr) (W fr) fd0 (sg0.1 1))) := (p5 _ (by (repeat' apply And.intro) <;> omega)).trans k4
  have fR : ∀ b, (b < h.1) → h36.2.2 b = h.2.2 b := fun b hb => (p5 b (by (repeat' apply And.intro) <;> omega)).trans (fR b hb)
  refine mw_wf (fun hwf36 => ?_)
  refine m_pop (y := yiX1_rounds) dX1_rounds_39 rfl ?_
  have hup40 : ∀ b c, h36.2.2 b = some c → b ≠ h.1 → b ≠ e5 → (exc h.1 e5 h36).2.2 b = some c := fun b c e9 n1 n2 => exc_mk e9 n1 n2
  have hRo0 : RoI K h36 x g2.1 (sd sg0 day) (b0 (sg0.2 4) fr mi) e0 h.1 e5 1 (upn (fun _ => 0) 0 h4.1) (fun _ => rcF (-1) fr mi (W fr) (W fr) fa0 (sg0.1 1)) (fun _ => fb0) (fun _ => rcF (-1) fr mi (W fr) (W fr) fd0 (sg0.1 1)) := ⟨p4, by omega, fun k hk => by { have ek : k = 0 := (by omega); subst ek; refine ⟨h17.1, h17.1 + 1, h17.1 + 2, cg, ⟨?_, hup40 _ _ k2 (by omega) (by omega), hup40 _ _ k3 (by omega) (by omega), hup40 _ _ k4 (by omega) (by omega)⟩, hCL0, hRg0⟩; show (exc h.1 e5 h36).2.2 (upn (fun _ => 0) 0 h4.1 0) = _; rw [upn_at]; exact hup40 _ _ k1 (by omega) (by omega) }, by omega⟩
  refine j_iconst (y := yiX1_rounds) dX1_rounds_40 ?_
  have p1h := Imp.mk p1
  clear p1
  refine j_istore (y := yiX1_rounds) [some (.ref x), some (.ref ra), some (vi fr), some (vi mi), some (.ref h.1), some (.ref h4.1), some (vi 1), none, none, none, none, none, none] dX1_rounds_41 (by decide) rfl rfl ?_
  have L43 : ∀ (N : Nat) (v Nr : Int) (e2 : Nat) (p2 : Int → Nat) (AR BY RD : Int → Int → Int) (gI : MH), RoM v Nr = N → (gI.2.2 x = some (true, .inr (0, [(.ref ch), (.ref wk), (vi (sg0.1 1)), (.ref sv), (.ref tr), (.ref lt), (.ref ws), (.ref tx), (vi (sg0.1 21)), (va_rf kp)]))) → (gI.2.2 ch = some (true, ia K 12 (sg0.2 2))) → (gI.2.2 e0 = some (false, oaE K 0 (fun _ => none))) → (gI.2.2 ra = some (true, .inr (14, [(vi mcr), (.ref re), (vi n)]))) → (gI.2.2 re = some (wr, oaE K capr frr)) → (∀ b, (b < h.1) → gI.2.2 b = h.2.2 b) → (0 ≤ v ∧ v ≤ 1) → (RoI K gI x g2.1 (sd sg0 day) (b0 (sg0.2 4) fr mi) e0 h.1 e2 Nr p2 AR BY RD) → (WyC K (exc h.1 e2 gI) g2.1 W ∧ g2.1 < gI.1) → (∀ k : Nat, (k : Int) + 1 < Nr → ¬ EvEq (EvN (sd sg0 day) (b0 (sg0.2 4) fr mi) BG k) (EvN (sd sg0 day) (b0 (sg0.2 4) fr mi) BG (k + 1))) → (Imp (v = 0) (∀ k : Nat, Nr - 1 ≤ k → ∀ s, 0 ≤ s → s < sg0.1 1 → EAn (sd sg0 day) fr mi k s (AR (Nr - 1) s))) → ((h.1 + 18 ≤ gI.1 ∧ (gI.1 : Int) ≤ h.1 + 20 + 6 * (Nr - v)) ∧ h.2.1 ≤ gI.2.1 ∧ (gI.2.1 : Int) ≤ h.2.1 + 220 + 160 * (Nr - v)) → MW K yiX1_rounds d gI 43 [some (.ref x), some (.ref ra), some (vi fr), some (vi mi), some (.ref h.1), none, some (vi v), none, none, none, none, none, none] [] Q := by
    intro N
    induction N using Nat.strongRecOn with
    | _ N ih43 =>
    intro v Nr e2 p2 AR BY RD gI hN43 hx hch hE2 hro hre fR hv hRo hWy hne hfin hg
    refine mw_wf (fun hwf43 => ?_)
    have l_hx43 := hwf43 _ _ hx
    have l_hch43 := hwf43 _ _ hch
    have l_hE243 := hwf43 _ _ hE2
    have l_hro43 := hwf43 _ _ hro
    have l_hre43 := hwf43 _ _ hre
    obtain ⟨w2, cap2, mc2, fx2, ho2, he2, hae2, h02, hw2, hcap2, hf2, hno2⟩ := id hRo.1
    have l_he2 := hwf43 _ _ he2
    clear h02 hw2 hno2
    have ho20 := ho2
    have hN1 := hRo.2.2.2
    have hN65 : Nr ≤ 65 := Classical.byContradiction (fun h9 => hne kst (by omega) hEst)
    refine j_iload (y := yiX1_rounds) dX1_rounds_43 rfl ?_
    refine j_if_eq (y := yiX1_rounds) 178 dX1_rounds_45 (by decide) ⟨by omega, by omega⟩ (fun c45 => ?_) (fun c45 => ?_)
    · refine m_aload (y := yiX1_rounds) dX1_rounds_178 rfl ?_
      subst hQ; exact m_aret (y := yiX1_rounds) (x := (some h.1)) dX1_rounds_180 rfl (Or.inl ⟨_, rfl⟩) ⟨h.1, rfl, (by { obtain ⟨i1, i2, i3, i4⟩ := hRo; have hN : Nr ≤ 65 := Classical.byContradiction (fun h9 => hne kst (by omega) hEst); exact ⟨e0, e2, g2.1, Nr, p2, AR, BY, RD, i1, ⟨i4, hN⟩, fun k hk => (i3 k hk).up (fun b c e9 => (exc_at e9).1), hfin (by omega), by omega, by omega, fR, Nat.le_refl _⟩ })⟩
    · obtain ⟨A, B, R, cg, hLbk, hCLk, hRgk⟩ := hRo.2.2.1 (Nr - 1).toNat (by omega)
      have eN : (((Nr - 1).toNat : Nat) : Int) = Nr - 1 := by omega
      rw [eN] at hLbk hCLk hRgk
      have kq := exc_at hLbk.1
      have kA := exc_at hLbk.2.1
      have kB := exc_at hLbk.2.2.1
      have kR := exc_at hLbk.2.2.2
      have hLb0 : LbC K gI x (-1) g2.1 (p2 (Nr - 1)) A B R cg (AR (Nr - 1)) (BY (Nr - 1)) (RD (Nr - 1)) := ⟨kq.1, kA.1, kB.1, kR.1⟩
      have lkq := hwf43 _ _ kq.1
      have lkR := hwf43 _ _ kR.1
      have ho2 : gI.2.2 h.1 = some (true, .inr (14, [(vi mc2), (.ref e2), (vi Nr)])) := ho2
      have l_ho2 := hwf43 _ _ ho2
      have he2 : gI.2.2 e2 = some (w2, oaE K cap2 fx2) := he2
      have l_he2 := hwf43 _ _ he2
      refine m_aload (y := yiX1_rounds) dX1_rounds_48 rfl ?_
      refine m_aload (y := yiX1_rounds) dX1_rounds_50 rfl ?_
      refine m_invV (y := yiX1_rounds) (rB := (RJ2, TJ2, 3)) [] dX1_rounds_52 ho2 rfl q333 q334 q335 q126 q336 rfl (c_J2_size K 0 gI _ _ _ _ ho2) pdJ2_size ⟨Nat.le_of_ble_eq_true rfl, by decide, by omega⟩ (kk_z fun r52 h52 q52 => ?_) kx_z
      obtain ⟨rfl, rfl⟩ := q52
      refine mw_top (x' := Nr) rfl ?_
      refine j_iconst (y := yiX1_rounds) dX1_rounds_55 ?_
      refine j_isub (y := yiX1_rounds) dX1_rounds_56 ?_
      refine m_invV (y := yiX1_rounds) (rB := (RJ2, TJ2, 3)) [(vi (Nr - 1))] dX1_rounds_57 ho2 rfl q1035 q1036 q1037 q126 q1038 rfl (c_J2_get K 2 gI _ _ _ _ _ _ _ _ _ (by omega) ho2 he2 ⟨by omega, by omega⟩ ⟨by omega, by omega⟩ (hf2 _ (by omega) (by omega))) pdJ2_get ⟨Nat.le_of_ble_eq_true rfl, by decide, by omega⟩ (kk_r fun r57 h57 q57 => ?_) kx_r
      obtain ⟨rfl, rfl⟩ := q57
      have kq9 : gI.2.2 (p2 (Nr - 1)) = some (true, .inr (9, [(vi (-1)), (.ref g2.1), (.ref A), (.ref B), (.ref R), (vi cg), (.ref x)])) := kq.1
      have l_kq9 := hwf43 _ _ kq9
      refine m_cast (y := yiX1_rounds) dX1_rounds_60 kq9 rfl q2100 (Or.inl rfl) ?_
      refine m_astore (y := yiX1_rounds) dX1_rounds_63 (by decide) rfl ?_
      show MW K yiX1_rounds d gI 65 [some (.ref x), some (.ref ra), some (vi fr), some (vi mi), some (.ref h.1), none, some (vi v), some (.ref (p2 (Nr - 1))), none, none, none, none, none] [] Q
      refine m_aload (y := yiX1_rounds) dX1_rounds_65 rfl ?_
      have fI : ∀ b, (b < gI.1) → gI.2.2 b = gI.2.2 b := fun _ _ => rfl
      refine m_invV (y := yiX1_rounds) (rB := (RX10, TX10, 7)) [] dX1_rounds_67 kq9 rfl q2319 q2320 q2321 q175 q2322 rfl (c_X10_copy K 3 gI x (-1) g2.1 (p2 (Nr - 1)) A B R cg (AR (Nr - 1)) (BY (Nr - 1)) (RD (Nr - 1)) (by omega) hLb0 ⟨by omega, by omega⟩) pdX10_copy ⟨Nat.le_of_ble_eq_true rfl, by decide, by omega⟩ (kk_r fun r67 h67 q67 => ?_) kx_r
      obtain ⟨rfl, ⟨ga, gb, gd, ⟨l1, l2, l3, l4⟩, hgi⟩, y67, z67, f67⟩ := q67
      have hx : h67.2.2 x = some (true, .inr (0, [(.ref ch), (.ref wk), (vi (sg0.1 1)), (.ref sv), (.ref tr), (.ref lt), (.ref ws), (.ref tx), (vi (sg0.1 21)), (va_rf kp)])) := (f67 _ (by (repeat' apply And.intro) <;> omega)).trans hx
      have hch : h67.2.2 ch = some (true, ia K 12 (sg0.2 2)) := (f67 _ (by (repeat' apply And.intro) <;> omega)).trans hch
      have hE2 : h67.2.2 e0 = some (false, oaE K 0 (fun _ => none)) := (f67 _ (by (repeat' apply And.intro) <;> omega)).trans hE2
      have hro : h67.2.2 ra = some (true, .inr (14, [(vi mcr), (.ref re), (vi n)])) := (f67 _ (by (repeat' apply And.intro) <;> omega)).trans hro
      have hre : h67.2.2 re = some (wr, oaE K capr frr) := (f67 _ (by (repeat' apply And.intro) <;> omega)).trans hre
      have ho2 : h67.2.2 h.1 = some (true, .inr (14, [(vi mc2), (.ref e2), (vi Nr)])) := (f67 _ (by (repeat' apply And.intro) <;> omega)).trans ho2
      have he2 : h67.2.2 e2 = some (w2, oaE K cap2 fx2) := (f67 _ (by (repeat' apply And.intro) <;> omega)).trans he2
      have kq9 : h67.2.2 (p2 (Nr - 1)) = some (true, .inr (9, [(vi (-1)), (.ref g2.1), (.ref A), (.ref B), (.ref R), (vi cg), (.ref x)])) := (f67 _ (by (repeat' apply And.intro) <;> omega)).trans kq9
      have fR : ∀ b, (b < h.1) → h67.2.2 b = h.2.2 b := fun b hb => (f67 b (by (repeat' apply And.intro) <;> omega)).trans (fR b hb)
      have fI : ∀ b, (b < gI.1) → h67.2.2 b = gI.2.2 b := fun b hb => (f67 b (by (repeat' apply And.intro) <;> omega)).trans (fI b hb)
      refine mw_wf (fun hwf67 => ?_)
      have l_l167 := hwf67 _ _ l1
      have l_l267 := hwf67 _ _ l2
      have l_l367 := hwf67 _ _ l3
      have l_l467 := hwf67 _ _ l4
      have hCLg : CLab (sd sg0 day) (b0 (sg0.2 4) fr mi) (EvN (sd sg0 day) (b0 (sg0.2 4) fr mi) BG (Nr - 1).toNat) ga gb gd := hCLk.sm (by show sg0.1 1 ≤ 12; omega) hgi
      have hRgg : Rng ga ∧ Rng gb ∧ Rng gd := ⟨hRgk.1.sm (fun i a b => (hgi i a b).1), hRgk.2.1.sm (fun i a b => (hgi i a b).2.1), hRgk.2.2.sm (fun i a b => (hgi i a b).2.2)⟩
      refine m_astore (y := yiX1_rounds) dX1_rounds_70 (by decide) rfl ?_
      show MW K yiX1_rounds d h67 72 [some (.ref x), some (.ref ra), some (vi fr), some (vi mi), some (.ref h.1), none, some (vi v), some (.ref (p2 (Nr - 1))), some (.ref gI.1), none, none, none, none] [] Q
      refine m_aload_n (y := yiX1_rounds) dX1_rounds_72 rfl ?_
      have hbo : ∀ b c, gI.2.2 b = some c → b < gI.1 := hwf43
      have hWyI : WyC K gI g2.1 W := hWy.1.up (fun b c e9 => (exc_at e9).1)
      refine m_invF (y := yiX1_rounds) (rB := (RJ2, TJ2, 3)) [] dX1_rounds_73 hro rfl q1932 q1934 q1933 rfl q1936 q717 q1938 q1937 q1935 q126 q719 ⟨by decide, by decide⟩ (by show _ = some 0; decide +kernel) (c_J2_iterator K 2 h67 _ _ _ _ (by omega) hro ⟨by omega, by omega⟩) pdJ2_iterator ⟨Nat.le_of_ble_eq_true rfl, by decide, by omega⟩ (kk_r fun r73 h73 q73 => ?_) kx_r
      obtain ⟨rfl, q73⟩ := q73
      have y73 := q73.1
      have z73 := q73.2.1
      have it73 := q73.2.2.1
      have hx : h73.2.2 x = some (true, .inr (0, [(.ref ch), (.ref wk), (vi (sg0.1 1)), (.ref sv), (.ref tr), (.ref lt), (.ref ws), (.ref tx), (vi (sg0.1 21)), (va_rf kp)])) := (q73.2.2.2 _ (by (repeat' apply And.intro) <;> omega)).trans hx
      have hch : h73.2.2 ch = some (true, ia K 12 (sg0.2 2)) := (q73.2.2.2 _ (by (repeat' apply And.intro) <;> omega)).trans hch
      have hE2 : h73.2.2 e0 = some (false, oaE K 0 (fun _ => none)) := (q73.2.2.2 _ (by (repeat' apply And.intro) <;> omega)).trans hE2
      have hro : h73.2.2 ra = some (true, .inr (14, [(vi mcr), (.ref re), (vi n)])) := (q73.2.2.2 _ (by (repeat' apply And.intro) <;> omega)).trans hro
      have hre : h73.2.2 re = some (wr, oaE K capr frr) := (q73.2.2.2 _ (by (repeat' apply And.intro) <;> omega)).trans hre
      have ho2 : h73.2.2 h.1 = some (true, .inr (14, [(vi mc2), (.ref e2), (vi Nr)])) := (q73.2.2.2 _ (by (repeat' apply And.intro) <;> omega)).trans ho2
      have he2 : h73.2.2 e2 = some (w2, oaE K cap2 fx2) := (q73.2.2.2 _ (by (repeat' apply And.intro) <;> omega)).trans he2
      have kq9 : h73.2.2 (p2 (Nr - 1)) = some (true, .inr (9, [(vi (-1)), (.ref g2.1), (.ref A), (.ref B), (.ref R), (vi cg), (.ref x)])) := (q73.2.2.2 _ (by (repeat' apply And.intro) <;> omega)).trans kq9
      have l1 : h73.2.2 gI.1 = some (true, .inr (9, [(vi (-1)), (.ref g2.1), (.ref (gI.1 + 1)), (.ref (gI.1 + 2)), (.ref (gI.1 + 3)), (vi 0), (.ref x)])) := (q73.2.2.2 _ (by (repeat' apply And.intro) <;> omega)).trans l1
      have l2 : h73.2.2 (gI.1 + 1) = some (true, ia K 12 ga) := (q73.2.2.2 _ (by (repeat' apply And.intro) <;> omega)).trans l2
      have l3 : h73.2.2 (gI.1 + 2) = some (true, ia K 12 gb) := (q73.2.2.2 _ (by (repeat' apply And.intro) <;> omega)).trans l3
      have l4 : h73.2.2 (gI.1 + 3) = some (true, ia K 12 gd) := (q73.2.2.2 _ (by (repeat' apply And.intro) <;> omega)).trans l4
      have fR : ∀ b, (b < h.1) → h73.2.2 b = h.2.2 b := fun b hb => (q73.2.2.2 b (by (repeat' apply And.intro) <;> omega)).trans (fR b hb)
      have fI : ∀ b, (b < gI.1) → h73.2.2 b = gI.2.2 b := fun b hb => (q73.2.2.2 b (by (repeat' apply And.intro) <;> omega)).trans (fI b hb)
      refine mw_wf (fun hwf73 => ?_)
      have l_it7373 := hwf73 _ _ it73
      refine m_astore (y := yiX1_rounds) dX1_rounds_78 (by decide) rfl ?_
      show MW K yiX1_rounds d h73 80 [some (.ref x), some (.ref ra), some (vi fr), some (vi mi), some (.ref h.1), none, some (vi v), some (.ref (p2 (Nr - 1))), some (.ref gI.1), some (.ref h67.1), none, none, none] [] Q
      have L80 : ∀ (N : Nat) (u l chg : Int) (fa fb fd : Int → Int) (gr : MH), (n - u).toNat = N → (gr.2.2 h67.1 = some (true, .inr (15, [(vi u), (vi l), (vi mcr), (.ref ra)]))) → (gr.2.2 gI.1 = some (true, .inr (9, [(vi (-1)), (.ref g2.1), (.ref (gI.1 + 1)), (.ref (gI.1 + 2)), (.ref (gI.1 + 3)), (vi chg), (.ref x)]))) → (gr.2.2 (gI.1 + 1) = some (true, ia K 12 fa)) → (gr.2.2 (gI.1 + 2) = some (true, ia K 12 fb)) → (gr.2.2 (gI.1 + 3) = some (true, ia K 12 fd)) → (∀ b, (b < h.1) → gr.2.2 b = h.2.2 b) → (∀ b, (b < gI.1) → gr.2.2 b = gI.2.2 b) → (0 ≤ u ∧ u ≤ n) → (CLab (sd sg0 day) (b0 (sg0.2 4) fr mi) (RoP (sd sg0 day) (b0 (sg0.2 4) fr mi) (Nr - 1).toNat rix n u 0) fa fb fd) → (Rng fa ∧ Rng fb ∧ Rng fd) → (0 ≤ chg ∧ chg ≤ 1) → (Imp (chg = 1) (¬ EvEq (EvN (sd sg0 day) (b0 (sg0.2 4) fr mi) BG (Nr - 1).toNat) (EvN (sd sg0 day) (b0 (sg0.2 4) fr mi) BG ((Nr - 1).toNat + 1)))) → (Imp (chg = 0) (fa = ga ∧ fd = gd)) → (gr.1 = h67.1 + 1 ∧ gr.2.1 = h67.2.1 + 4) → MW K yiX1_rounds d gr 80 [some (.ref x), some (.ref ra), some (vi fr), some (vi mi), some (.ref h.1), none, none, some (.ref (p2 (Nr - 1))), some (.ref gI.1), some (.ref h67.1), none, none, none] [] Q := by
        intro N
        induction N using Nat.strongRecOn with
        | _ N ih80 =>
        intro u l chg fa fb fd gr hN80 it73 l1 l2 l3 l4 fR fI hu hCL hRg hc hc1 hc0 hgr
        refine mw_wf (fun hwf80 => ?_)
        have l_it7380 := hwf80 _ _ it73
        have l_l180 := hwf80 _ _ l1
        have l_l280 := hwf80 _ _ l2
        have l_l380 := hwf80 _ _ l3
        have l_l480 := hwf80 _ _ l4
        have hro : gr.2.2 ra = some (true, .inr (14, [(vi mcr), (.ref re), (vi n)])) := (fR _ (hwf _ _ hro0)).trans hro0
        have l_hro := hwf80 _ _ hro
        have hre : gr.2.2 re = some (wr, oaE K capr frr) := (fR _ (hwf _ _ hre0)).trans hre0
        have l_hre := hwf80 _ _ hre
        refine m_aload (y := yiX1_rounds) dX1_rounds_80 rfl ?_
        refine m_invF (y := yiX1_rounds) (rB := (RJ28, TJ28, 4)) [] dX1_rounds_82 it73 rfl q744 q746 q745 rfl q748 q750 q751 q749 q747 q156 q752 ⟨by decide, by decide⟩ (by show _ = some 0; decide +kernel) (c_J28_hasNext K 0 gr _ _ _ _ _ _ _ it73 hro ⟨by omega, by omega, by omega⟩) pdJ28_hasNext ⟨Nat.le_of_ble_eq_true rfl, by decide, by omega⟩ (kk_z fun r82 h82 q82 => ?_) kx_z
        obtain ⟨rfl, rfl⟩ := q82
        refine mw_top (x' := bz (u ≠ n)) rfl ?_
        refine j_bz_eq (y := yiX1_rounds) 155 dX1_rounds_87 (by decide) (fun c87 => ?_) (fun c87 => ?_)
        · have eu : u = n := by omega
          have hCLf : CLab (sd sg0 day) (b0 (sg0.2 4) fr mi) (EvN (sd sg0 day) (b0 (sg0.2 4) fr mi) BG ((Nr - 1).toNat + 1)) fa fb fd := hCL.cg (RoP.fin hRP (by omega))
          exact ro_out K d Q h gI x ra re ch wk sv tr lt ws tx h67.1 (p2 (Nr - 1)) g2.1 e0 e2 h67.2.1 capr wr frr fr mi n mcr v Nr kp sg0 day (b0 (sg0.2 4) fr mi) p2 AR BY RD ga gb gd W (by omega) hF ⟨by omega, by omega⟩ k0 hwf hwf43 (by omega) (by omega) hx0 hch0 hE20 hro0 hre0 rfl (by omega) (by omega) hN65 hRo hWy hne hgi hCLg hRgg hg ⟨by omega, by omega⟩ (fun v3 N3 e3 p3 AR3 BY3 RD3 gJ a1 a2 a3 a4 a5 a6 b1 b2 b3 b4 b5 b6 b7 => ih43 _ (by rw [← hN43]; exact b7) v3 N3 e3 p3 AR3 BY3 RD3 gJ rfl a1 a2 a3 a4 a5 a6 b1 b2 b3 b4 b5 b6) chg fa fb fd gr l1 l2 l3 l4 fR fI hCLf hRg hc hc1 hc0 ⟨by omega, by omega⟩
        · refine m_aload (y := yiX1_rounds) dX1_rounds_90 rfl ?_
          refine m_invF (y := yiX1_rounds) (rB := (RJ28, TJ28, 4)) [] dX1_rounds_92 it73 rfl q757 q759 q758 rfl q760 q762 q763 q761 q747 q156 q764 ⟨by decide, by decide⟩ (by show _ = some 0; decide +kernel) (c_J28_next K 1 gr _ _ _ _ _ _ _ _ _ _ _ (by omega) it73 hro hre ⟨by omega, by omega, by omega⟩ ⟨by omega, by omega, by omega, by omega⟩ (hrf _ (by omega) (by omega))) pdJ28_next ⟨Nat.le_of_ble_eq_true rfl, by decide, by omega⟩ (kk_r fun r92 h92 q92 => ?_) kx_r
          obtain ⟨rfl, q92⟩ := q92
          have y92 := q92.1
          have z92 := q92.2.1
          have it73 := q92.2.2.1
          have l1 : h92.2.2 gI.1 = some (true, .inr (9, [(vi (-1)), (.ref g2.1), (.ref (gI.1 + 1)), (.ref (gI.1 + 2)), (.ref (gI.1 + 3)), (vi chg), (.ref x)])) := (q92.2.2.2 _ (by (repeat' apply And.intro) <;> omega)).trans l1
          have l2 : h92.2.2 (gI.1 + 1) = some (true, ia K 12 fa) := (q92.2.2.2 _ (by (repeat' apply And.intro) <;> omega)).trans l2
          have l3 : h92.2.2 (gI.1 + 2) = some (true, ia K 12 fb) := (q92.2.2.2 _ (by (repeat' apply And.intro) <;> omega)).trans l3
          have l4 : h92.2.2 (gI.1 + 3) = some (true, ia K 12 fd) := (q92.2.2.2 _ (by (repeat' apply And.intro) <;> omega)).trans l4
          have hro : h92.2.2 ra = some (true, .inr (14, [(vi mcr), (.ref re), (vi n)])) := (q92.2.2.2 _ (by (repeat' apply And.intro) <;> omega)).trans hro
          have hre : h92.2.2 re = some (wr, oaE K capr frr) := (q92.2.2.2 _ (by (repeat' apply And.intro) <;> omega)).trans hre
          have fR : ∀ b, (b < h.1) → h92.2.2 b = h.2.2 b := fun b hb => (q92.2.2.2 b (by (repeat' apply And.intro) <;> omega)).trans (fR b hb)
          have fI : ∀ b, (b < gI.1) → h92.2.2 b = gI.2.2 b := fun b hb => (q92.2.2.2 b (by (repeat' apply And.intro) <;> omega)).trans (fI b hb)
          refine mw_wf (fun hwf92 => ?_)
          have l_it7392 := hwf92 _ _ it73
          obtain ⟨hok, f1, f2, f3, hRC, hfx⟩ := hRu0.run (u := u) ⟨by omega, by omega⟩
          have hok1 := hok.1
          have hok2 := hok.2.1
          have hnb : 0 ≤ sg0.2 10 (rix u % 24) ∧ sg0.2 10 (rix u % 24) ≤ 8 := oa10 (hF0.1.2 10) (rix u % 24) (by omega) (by omega)
          have hn1 : 1 ≤ sg0.2 10 (rix u % 24) := hCl (rix u % 24) (by omega) hok.2.2.1
          have hRC : RunC K h u (rix u % 24) (rix u / 24 - 1) (sg0.2 10 (rix u % 24)).toNat f1 f2 f3 (p u) := hRC
          have hfx : ∀ c, 0 ≤ c → c < sg0.2 10 (rix u % 24) → f1 c = stI (sd sg0 day) (rix u) c ∧ f2 c = cmI (sd sg0 day) (rix u) c ∧ f3 c = lvI (sd sg0 day) (rix u) c := hfx
          have hsb : ∀ c, 0 ≤ c → c < sg0.2 10 (rix u % 24) → 0 ≤ stI (sd sg0 day) (rix u) c ∧ stI (sd sg0 day) (rix u) c < sg0.1 1 := fun c a b => hF.2.1.run hok ⟨a, b⟩
          have hlb : ∀ c, 0 ≤ c → c < sg0.2 10 (rix u % 24) → -1440 ≤ lvI (sd sg0 day) (rix u) c ∧ lvI (sd sg0 day) (rix u) c ≤ 4500 := fun c a b => lvI_b hF.1 ⟨hok1, hok2⟩ ⟨a, by omega⟩
          have hmb : ∀ c, 0 ≤ c → c < sg0.2 10 (rix u % 24) → -1440 ≤ cmI (sd sg0 day) (rix u) c ∧ cmI (sd sg0 day) (rix u) c ≤ 4500 := fun c a b => cmI_b hF.1 ⟨hok1, hok2⟩ ⟨a, by omega⟩
          obtain ⟨sa, aa, da, hpu0, hsa0, haa0, hda0⟩ := id hRC
          have lp0 := hwf _ _ hpu0
          have hpu : h92.2.2 (p u) = some (true, .inr (7, [(vi u), (vi (rix u % 24)), (vi (rix u / 24 - 1)), (.ref sa), (.ref aa), (.ref da)])) := (fR _ lp0).trans hpu0
          have l_hpu := hwf92 _ _ hpu
          refine m_cast (y := yiX1_rounds) dX1_rounds_97 hpu rfl q1881 (Or.inl rfl) ?_
          refine m_astore (y := yiX1_rounds) dX1_rounds_100 (by decide) rfl ?_
          show MW K yiX1_rounds d h92 102 [some (.ref x), some (.ref ra), some (vi fr), some (vi mi), some (.ref h.1), none, none, some (.ref (p2 (Nr - 1))), some (.ref gI.1), some (.ref h67.1), some (.ref (p u)), none, none] [] Q
          refine j_iconst (y := yiX1_rounds) dX1_rounds_102 ?_
          refine j_istore (y := yiX1_rounds) [some (.ref x), some (.ref ra), some (vi fr), some (vi mi), some (.ref h.1), none, none, some (.ref (p2 (Nr - 1))), some (.ref gI.1), some (.ref h67.1), some (.ref (p u)), some (vi 0), none] dX1_rounds_103 (by decide) rfl rfl ?_
          refine j_iconst (y := yiX1_rounds) dX1_rounds_105 ?_
          refine j_istore (y := yiX1_rounds) [some (.ref x), some (.ref ra), some (vi fr), some (vi mi), some (.ref h.1), none, none, some (.ref (p2 (Nr - 1))), some (.ref gI.1), some (.ref h67.1), some (.ref (p u)), some (vi 0), some (vi 0)] dX1_rounds_106 (by decide) rfl rfl ?_
          exact ro_in K d Q h gI x ra ch wk sv tr lt ws tx h67.1 (p2 (Nr - 1)) g2.1 A B R (p u) sa aa da (h67.2.1 + 4) fr mi n mcr (sg0.1 21) cg u _ sg0 day (b0 (sg0.2 4) fr mi) (Nr - 1).toNat rix f1 f2 f3 (AR (Nr - 1)) (BY (Nr - 1)) (RD (Nr - 1)) ga gd W (by omega) hF ⟨by omega, by omega⟩ hcut0 hwf hwf43 (by omega) (by omega) hx0 hch0 hWyI hW3 hY2 hwv0 hchb hRC hpu0 hfx hsb hlb hmb ⟨hn1, hnb.2⟩ hok ⟨by omega, by omega⟩ (by omega) hLb0 hCLk hRgk hRP (fun chg' fa' fb' fd' gr' it9 l19 l29 l39 l49 fR9 fI9 hCL9 hRg9 hc9 hc19 hc09 hgr9 => ih80 _ (by omega) (u + 1) u chg' fa' fb' fd' gr' rfl it9 l19 l29 l39 l49 fR9 fI9 (by omega) hCL9 hRg9 hc9 hc19 hc09 hgr9) 0 0 chg fa fb fd _ it73 l1 l2 l3 l4 fR fI ⟨by omega, by omega⟩ ⟨⟨by omega, by omega⟩, fun _ => ⟨fun h9 => absurd h9 (by decide), fun ⟨c', a, b, _⟩ => by omega⟩⟩ hCL hRg hc hc1 hc0 ⟨by omega, by omega⟩
      refine mw_forget 6 ?_
      exact L80 _ 0 (-1) 0 ga gb gd _ rfl it73 l1 l2 l3 l4 fR fI (by omega) (hCLg.cg RoP.start) hRgg (by omega) (fun h9 => by omega) (fun _ => ⟨rfl, rfl⟩) (⟨by omega, by omega⟩)
  refine mw_forget 5 ?_
  exact L43 _ 1 1 e5 _ _ _ _ _ rfl hx hch hE2 hro hre fR (by omega) hRo0 (⟨(by { have p1 := p1h trivial; obtain ⟨wr9, f9, w1, w2⟩ := hWy17; refine ⟨wr9, f9, ?_, fun i a b => ⟨(w2 i a b).1, ?_⟩⟩; { have u9 := rs_at w1; exact exc_mk ((p5 _ ⟨by omega, by omega, by omega⟩).trans ((f29 _ (by omega)).trans u9.1)) (by omega) (by omega) }; { have u9 := rs_at (w2 i a b).2; exact exc_mk ((p5 _ ⟨by omega, by omega, by omega⟩).trans ((f29 _ (by omega)).trans u9.1)) (by omega) (by omega) } }), by omega⟩) (fun k hk => by omega) (fun h9 => by omega) (by omega)
