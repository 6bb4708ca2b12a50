/-! Lastbus.lastReady, lastBy, last -/
set_option maxHeartbeats 4000000 in
theorem c_X1_lastReady (K : KT) (d : Nat) (h : MH) (e0 x ch wk sv tr lt ws tx a e ra re wy : Nat) (fl n m : Int) (kp : Value) (W : Int → Int → Int) (sg : TS) (rix ui ci : Int → Int) (p q : Int → Nat) (to mi : Int) (hd : 5 ≤ d) (hF : WF sg) (hcut : sg.1 5 = -1) (h8 : kV K 8 = vi 1) (hWd : WdA K h x ch wk sv tr lt ws tx fl kp sg) (hWy : WayA K h wy W sg) (hRu : RunsA K h e0 ra re n sg rix p) (hRd : RdsA K h e0 a e m sg rix n p (fun r c => -(cmI sg r (c + 1))) q ui ci) (hm : 0 ≤ m ∧ m ≤ 63) (ht : 0 ≤ to ∧ to < sg.1 1) (hmi : -1000 ≤ mi ∧ mi ≤ 10000) (hz : h.1 + 10 ≤ kC K ∧ h.2.1 + 60 ≤ kS K) : Mt K yiX1_lastReady d [.ref x, .ref a, .ref wy, vi to, vi mi] h (Rr fun r h' => ∃ rd, h'.2.2 r = some (true, ia K 12 rd) ∧ RdyF sg to mi rix ui ci m rd ∧ h.1 ≤ r ∧ (h.1 ≤ h'.1 ∧ h'.1 ≤ h.1 + 10) ∧ (h.2.1 ≤ h'.2.1 ∧ h'.2.1 ≤ h.2.1 + 60) ∧ ∀ b, b < h.1 → h'.2.2 b = h.2.2 b) := by
  have hn72 := hRu.num
  have hRP := hRu.rp
  have f1b := of1 (hF.1.1 1)
  have hLst := hRd.lstA hF.1 hn72 hRP.1
  have hinj : ∀ i j, 0 ≤ i → i < n → 0 ≤ j → j < n → rix i = rix j → i = j := fun i j a b a' b' e9 => by
    by_cases l1 : i < j
    · have := hRu.2.2.1 i j a l1 b'; omega
    · by_cases l2 : j < i
      · have := hRu.2.2.1 j i a' l2 b; omega
      · omega
  obtain ⟨hxx, hch⟩ := hWd
  obtain ⟨⟨wrr, fw, hwy, hwr⟩, hWv, hWb⟩ := hWy
  obtain ⟨wr, capr, mca, frr, hro, hre, hae, h0, hw, hcap, hrf, hrno⟩ := hRd.1
  refine mt_ofQ (by decide) (Nat.le_of_ble_eq_true rfl) (fun Q hQ => ?_)
  show MW K yiX1_lastReady d h 0 [some (.ref x), some (.ref a), some (.ref wy), some (vi to), some (vi mi), none, none, none, none, none, none, none, none, none] [] Q
  refine mw_wf (fun hwf => ?_)
  have l_hxx := hwf _ _ hxx
  have l_hch := hwf _ _ hch
  have l_hwy := hwf _ _ hwy
  have l_hro := hwf _ _ hro
  have l_hre := hwf _ _ hre
  have fR : ∀ b, (b < h.1) → h.2.2 b = h.2.2 b := fun _ _ => rfl
  refine j_bipush (y := yiX1_lastReady) dX1_lastReady_0 (by decide) ?_
  refine h_newa0 (y := yiX1_lastReady) dX1_lastReady_2 q229 ⟨by omega, by omega⟩ ⟨by omega, by omega⟩ (hp_new fun g1 g1H => ?_)
  have hxx : g1.2.2 x = some (true, .inr (0, [(.ref ch), (.ref wk), (vi (sg.1 1)), (.ref sv), (.ref tr), (.ref lt), (.ref ws), (.ref tx), (vi fl), kp])) := (g1H.2.2.2 _ (by (repeat' apply And.intro) <;> omega)).trans hxx
  have hch : g1.2.2 ch = some (true, ia K 12 (sg.2 2)) := (g1H.2.2.2 _ (by (repeat' apply And.intro) <;> omega)).trans hch
  have hwy : g1.2.2 wy = some (true, aaE K 12 fw) := (g1H.2.2.2 _ (by (repeat' apply And.intro) <;> omega)).trans hwy
  have hro : g1.2.2 a = some (true, .inr (14, [(vi mca), (.ref e), (vi m)])) := (g1H.2.2.2 _ (by (repeat' apply And.intro) <;> omega)).trans hro
  have hre : g1.2.2 e = some (wr, oaE K capr frr) := (g1H.2.2.2 _ (by (repeat' apply And.intro) <;> omega)).trans hre
  have fR : ∀ b, (b < h.1) → g1.2.2 b = h.2.2 b := fun b hb => (g1H.2.2.2 b (by (repeat' apply And.intro) <;> omega)).trans (fR b hb)
  have fg1 : g1.2.2 h.1 = some (true, ia K ((12 : Int).toNat) (fun _ => 0)) := g1H.2.2.1
  have g11 := g1H.1
  have g12 := g1H.2.1
  refine m_astore (y := yiX1_lastReady) dX1_lastReady_4 (by decide) rfl ?_
  show MW K yiX1_lastReady d g1 6 [some (.ref x), some (.ref a), some (.ref wy), some (vi to), some (vi mi), some (.ref h.1), none, none, none, none, none, none, none, none] [] Q
  refine m_aload (y := yiX1_lastReady) dX1_lastReady_6 rfl ?_
  refine j_ldcw (y := yiX1_lastReady) (-1000000) dX1_lastReady_8 q2351 (by decide) ?_
  refine m_invS (y := yiX1_lastReady) [(.ref h.1), (vi (-1000000))] dX1_lastReady_11 q2175 q2108 q145 q2109 (c_J20_fill_2 K 1 g1 h.1 _ _ (-1000000) fg1 (by omega)) pdJ20_fill_2 ⟨Nat.le_of_ble_eq_true rfl, by decide, by omega⟩ (kk_v fun h11 q11 => ?_) kx_v
  obtain ⟨rd0, q11, i11⟩ := q11
  have y11 := q11.1
  have z11 := q11.2.1
  have frd := q11.2.2.1
  have hxx : h11.2.2 x = some (true, .inr (0, [(.ref ch), (.ref wk), (vi (sg.1 1)), (.ref sv), (.ref tr), (.ref lt), (.ref ws), (.ref tx), (vi fl), kp])) := (q11.2.2.2 _ (by (repeat' apply And.intro) <;> omega)).trans hxx
  have hch : h11.2.2 ch = some (true, ia K 12 (sg.2 2)) := (q11.2.2.2 _ (by (repeat' apply And.intro) <;> omega)).trans hch
  have hwy : h11.2.2 wy = some (true, aaE K 12 fw) := (q11.2.2.2 _ (by (repeat' apply And.intro) <;> omega)).trans hwy
  have hro : h11.2.2 a = some (true, .inr (14, [(vi mca), (.ref e), (vi m)])) := (q11.2.2.2 _ (by (repeat' apply And.intro) <;> omega)).trans hro
  have hre : h11.2.2 e = some (wr, oaE K capr frr) := (q11.2.2.2 _ (by (repeat' apply And.intro) <;> omega)).trans hre
  have fR : ∀ b, (b < h.1) → h11.2.2 b = h.2.2 b := fun b hb => (q11.2.2.2 b (by (repeat' apply And.intro) <;> omega)).trans (fR b hb)
  refine mw_wf (fun hwf11 => ?_)
  have l_frd11 := hwf11 _ _ frd
  refine m_new (y := yiX1_lastReady) kc_16 3 dX1_lastReady_14 q808 q834 q143 _ rfl ⟨by omega, by omega⟩ (hp_new fun g2 g2H => ?_)
  have hxx : g2.2.2 x = some (true, .inr (0, [(.ref ch), (.ref wk), (vi (sg.1 1)), (.ref sv), (.ref tr), (.ref lt), (.ref ws), (.ref tx), (vi fl), kp])) := (g2H.2.2.2 _ (by (repeat' apply And.intro) <;> omega)).trans hxx
  have hch : g2.2.2 ch = some (true, ia K 12 (sg.2 2)) := (g2H.2.2.2 _ (by (repeat' apply And.intro) <;> omega)).trans hch
  have hwy : g2.2.2 wy = some (true, aaE K 12 fw) := (g2H.2.2.2 _ (by (repeat' apply And.intro) <;> omega)).trans hwy
  have hro : g2.2.2 a = some (true, .inr (14, [(vi mca), (.ref e), (vi m)])) := (g2H.2.2.2 _ (by (repeat' apply And.intro) <;> omega)).trans hro
  have hre : g2.2.2 e = some (wr, oaE K capr frr) := (g2H.2.2.2 _ (by (repeat' apply And.intro) <;> omega)).trans hre
  have frd : g2.2.2 h.1 = some (true, ia K 12 rd0) := (g2H.2.2.2 _ (by (repeat' apply And.intro) <;> omega)).trans frd
  have fR : ∀ b, (b < h.1) → g2.2.2 b = h.2.2 b := fun b hb => (g2H.2.2.2 b (by (repeat' apply And.intro) <;> omega)).trans (fR b hb)
  have fg2 : g2.2.2 h11.1 = some (true, .inr (16, [.null, (vi 0), (vi 0)])) := g2H.2.2.1
  have g21 := g2H.1
  have g22 := g2H.2.1
  refine m_dup (y := yiX1_lastReady) dX1_lastReady_17 rfl ?_
  refine m_invI (y := yiX1_lastReady) [] dX1_lastReady_18 q934 q935 q143 q936 rfl rfl (c_J18_init K 3 g2 h11.1 (by omega) fg2 ⟨by omega, by omega⟩) pdJ18_init ⟨Nat.le_of_ble_eq_true rfl, by decide, by omega⟩ (kk_v fun h18 q18 => ?_) kx_v
  obtain ⟨q18, y18, z18, f18⟩ := q18
  have hbs := q18.1
  have hxx : h18.2.2 x = some (true, .inr (0, [(.ref ch), (.ref wk), (vi (sg.1 1)), (.ref sv), (.ref tr), (.ref lt), (.ref ws), (.ref tx), (vi fl), kp])) := (f18 _ (by (repeat' apply And.intro) <;> omega)).trans hxx
  have hch : h18.2.2 ch = some (true, ia K 12 (sg.2 2)) := (f18 _ (by (repeat' apply And.intro) <;> omega)).trans hch
  have hwy : h18.2.2 wy = some (true, aaE K 12 fw) := (f18 _ (by (repeat' apply And.intro) <;> omega)).trans hwy
  have hro : h18.2.2 a = some (true, .inr (14, [(vi mca), (.ref e), (vi m)])) := (f18 _ (by (repeat' apply And.intro) <;> omega)).trans hro
  have hre : h18.2.2 e = some (wr, oaE K capr frr) := (f18 _ (by (repeat' apply And.intro) <;> omega)).trans hre
  have frd : h18.2.2 h.1 = some (true, ia K 12 rd0) := (f18 _ (by (repeat' apply And.intro) <;> omega)).trans frd
  have fR : ∀ b, (b < h.1) → h18.2.2 b = h.2.2 b := fun b hb => (f18 b (by (repeat' apply And.intro) <;> omega)).trans (fR b hb)
  refine mw_wf (fun hwf18 => ?_)
  have l_hbs18 := hwf18 _ _ hbs
  refine m_astore (y := yiX1_lastReady) dX1_lastReady_21 (by decide) rfl ?_
  show MW K yiX1_lastReady d h18 23 [some (.ref x), some (.ref a), some (.ref wy), some (vi to), some (vi mi), some (.ref h.1), some (.ref h11.1), none, none, none, none, none, none, none] [] Q
  refine m_aload_n (y := yiX1_lastReady) dX1_lastReady_23 rfl ?_
  refine m_invF (y := yiX1_lastReady) (rB := (RJ2, TJ2, 3)) [] dX1_lastReady_24 hro rfl q1932 q1934 q1933 rfl q1936 q717 q1938 q1937 q1935 q126 q719 ⟨by decide, by decide⟩ (by show _ = some 0; decide +kernel) (c_J2_iterator K 2 h18 _ _ _ _ (by omega) hro ⟨by omega, by omega⟩) pdJ2_iterator ⟨Nat.le_of_ble_eq_true rfl, by decide, by omega⟩ (kk_r fun r24 h24 q24 => ?_) kx_r
  obtain ⟨rfl, q24⟩ := q24
  have y24 := q24.1
  have z24 := q24.2.1
  have it24 := q24.2.2.1
  have hxx : h24.2.2 x = some (true, .inr (0, [(.ref ch), (.ref wk), (vi (sg.1 1)), (.ref sv), (.ref tr), (.ref lt), (.ref ws), (.ref tx), (vi fl), kp])) := (q24.2.2.2 _ (by (repeat' apply And.intro) <;> omega)).trans hxx
  have hch : h24.2.2 ch = some (true, ia K 12 (sg.2 2)) := (q24.2.2.2 _ (by (repeat' apply And.intro) <;> omega)).trans hch
  have hwy : h24.2.2 wy = some (true, aaE K 12 fw) := (q24.2.2.2 _ (by (repeat' apply And.intro) <;> omega)).trans hwy
  have hro : h24.2.2 a = some (true, .inr (14, [(vi mca), (.ref e), (vi m)])) := (q24.2.2.2 _ (by (repeat' apply And.intro) <;> omega)).trans hro
  have hre : h24.2.2 e = some (wr, oaE K capr frr) := (q24.2.2.2 _ (by (repeat' apply And.intro) <;> omega)).trans hre
  have frd : h24.2.2 h.1 = some (true, ia K 12 rd0) := (q24.2.2.2 _ (by (repeat' apply And.intro) <;> omega)).trans frd
  have hbs : h24.2.2 h11.1 = some (true, .inr (16, [(.ref g2.1), (vi 0), (vi 0)])) := (q24.2.2.2 _ (by (repeat' apply And.intro) <;> omega)).trans hbs
  have fR : ∀ b, (b < h.1) → h24.2.2 b = h.2.2 b := fun b hb => (q24.2.2.2 b (by (repeat' apply And.intro) <;> omega)).trans (fR b hb)
  refine mw_wf (fun hwf24 => ?_)
  have l_it2424 := hwf24 _ _ it24
  have q4b : BsA K h24 h11.1 g2.1 0 1 (fun _ => 0) := ⟨hbs, (q24.2.2.2 _ (by omega)).trans q18.2.1, q18.2.2⟩
  refine m_astore (y := yiX1_lastReady) dX1_lastReady_29 (by decide) rfl ?_
  show MW K yiX1_lastReady d h24 31 [some (.ref x), some (.ref a), some (.ref wy), some (vi to), some (vi mi), some (.ref h.1), some (.ref h11.1), some (.ref h18.1), none, none, none, none, none, none] [] Q
  have L31 : ∀ (N : Nat) (i l : Int) (bw : Nat) (nn : Int) (len : Nat) (fB : Int → Int64) (rd : Int → Int) (g : MH), (m - i).toNat = N → (g.2.2 h.1 = some (true, ia K 12 rd)) → (g.2.2 x = some (true, .inr (0, [(.ref ch), (.ref wk), (vi (sg.1 1)), (.ref sv), (.ref tr), (.ref lt), (.ref ws), (.ref tx), (vi fl), kp]))) → (g.2.2 ch = some (true, ia K 12 (sg.2 2))) → (g.2.2 wy = some (true, aaE K 12 fw)) → (g.2.2 a = some (true, .inr (14, [(vi mca), (.ref e), (vi m)]))) → (g.2.2 e = some (wr, oaE K capr frr)) → (g.2.2 h18.1 = some (true, .inr (15, [(vi i), (vi l), (vi mca), (.ref a)]))) → (g.2.2 h11.1 = some (true, .inr (16, [(.ref bw), (vi nn), (vi 0)]))) → (∀ b, (b < h.1) → g.2.2 b = h.2.2 b) → (0 ≤ i ∧ i ≤ m) → (BsA K g h11.1 bw nn len fB ∧ len ≤ 2 ∧ (bw = h11.1 + 1 ∨ h11.1 + 3 ≤ bw)) → (∀ u, 0 ≤ u → (inB fB u ↔ GdP sg to mi rix ui ci i u)) → (RdyF sg to mi rix ui ci i rd) → ((h.1 + 4 ≤ g.1 ∧ g.1 ≤ h.1 + 3 + len) ∧ h.2.1 + 20 ≤ g.2.1 ∧ g.2.1 + 2 ≤ h.2.1 + 20 + 2 * len) → MW K yiX1_lastReady d g 31 [some (.ref x), some (.ref a), some (.ref wy), some (vi to), some (vi mi), some (.ref h.1), some (.ref h11.1), some (.ref h18.1), none, none, none, none, none, none] [] Q := by
    intro N
    induction N using Nat.strongRecOn with
    | _ N ih31 =>
    intro i l bw nn len fB rd g hN31 frd hxx hch hwy hro hre it24 hbs fR hi hBs hIn hRy hg
    refine mw_wf (fun hwf31 => ?_)
    have l_frd31 := hwf31 _ _ frd
    have l_hxx31 := hwf31 _ _ hxx
    have l_hch31 := hwf31 _ _ hch
    have l_hwy31 := hwf31 _ _ hwy
    have l_hro31 := hwf31 _ _ hro
    have l_hre31 := hwf31 _ _ hre
    have l_it2431 := hwf31 _ _ it24
    have l_hbs31 := hwf31 _ _ hbs
    refine m_aload (y := yiX1_lastReady) dX1_lastReady_31 rfl ?_
    refine m_invF (y := yiX1_lastReady) (rB := (RJ28, TJ28, 4)) [] dX1_lastReady_33 it24 rfl q744 q746 q745 rfl q748 q750 q751 q749 q747 q156 q752 ⟨by decide, by decide⟩ (by show _ = some 0; decide +kernel) (c_J28_hasNext K 0 g _ _ _ _ _ _ _ it24 hro ⟨by omega, by omega, by omega⟩) pdJ28_hasNext ⟨Nat.le_of_ble_eq_true rfl, by decide, by omega⟩ (kk_z fun r33 h33 q33 => ?_) kx_z
    obtain ⟨rfl, rfl⟩ := q33
    refine mw_top (x' := bz (i ≠ m)) rfl ?_
    refine j_bz_eq (y := yiX1_lastReady) 235 dX1_lastReady_38 (by decide) (fun c38 => ?_) (fun c38 => ?_)
    · refine m_aload (y := yiX1_lastReady) dX1_lastReady_235 rfl ?_
      subst hQ; exact m_aret (y := yiX1_lastReady) (x := (some h.1)) dX1_lastReady_237 rfl (Or.inr ⟨_, rfl⟩) ⟨h.1, rfl, (by { have em : i = m := (by omega); refine ⟨rd, frd, ?_, by omega, by omega, by omega, fR⟩; rw [← em]; exact hRy })⟩
    · refine m_aload (y := yiX1_lastReady) dX1_lastReady_41 rfl ?_
      refine m_invF (y := yiX1_lastReady) (rB := (RJ28, TJ28, 4)) [] dX1_lastReady_43 it24 rfl q757 q759 q758 rfl q760 q762 q763 q761 q747 q156 q764 ⟨by decide, by decide⟩ (by show _ = some 0; decide +kernel) (c_J28_next K 1 g _ _ _ _ _ _ _ _ _ _ _ (by omega) it24 hro hre ⟨by omega, by omega, by omega⟩ ⟨by omega, by omega, by omega, by omega⟩ (hrf _ (by omega) (by omega))) pdJ28_next ⟨Nat.le_of_ble_eq_true rfl, by decide, by omega⟩ (kk_r fun r43 h43 q43 => ?_) kx_r
      obtain ⟨rfl, q43⟩ := q43
      have y43 := q43.1
      have z43 := q43.2.1
      have it24 := q43.2.2.1
      have frd : h43.2.2 h.1 = some (true, ia K 12 rd) := (q43.2.2.2 _ (by (repeat' apply And.intro) <;> omega)).trans frd
      have hxx : h43.2.2 x = some (true, .inr (0, [(.ref ch), (.ref wk), (vi (sg.1 1)), (.ref sv), (.ref tr), (.ref lt), (.ref ws), (.ref tx), (vi fl), kp])) := (q43.2.2.2 _ (by (repeat' apply And.intro) <;> omega)).trans hxx
      have hch : h43.2.2 ch = some (true, ia K 12 (sg.2 2)) := (q43.2.2.2 _ (by (repeat' apply And.intro) <;> omega)).trans hch
      have hwy : h43.2.2 wy = some (true, aaE K 12 fw) := (q43.2.2.2 _ (by (repeat' apply And.intro) <;> omega)).trans hwy
      have hro : h43.2.2 a = some (true, .inr (14, [(vi mca), (.ref e), (vi m)])) := (q43.2.2.2 _ (by (repeat' apply And.intro) <;> omega)).trans hro
      have hre : h43.2.2 e = some (wr, oaE K capr frr) := (q43.2.2.2 _ (by (repeat' apply And.intro) <;> omega)).trans hre
      have hbs : h43.2.2 h11.1 = some (true, .inr (16, [(.ref bw), (vi nn), (vi 0)])) := (q43.2.2.2 _ (by (repeat' apply And.intro) <;> omega)).trans hbs
      have fR : ∀ b, (b < h.1) → h43.2.2 b = h.2.2 b := fun b hb => (q43.2.2.2 b (by (repeat' apply And.intro) <;> omega)).trans (fR b hb)
      refine mw_wf (fun hwf43 => ?_)
      have l_it2443 := hwf43 _ _ it24
      have hqi0 := (hRd.2.1 i (by omega) (by omega))
      have hBs' : BsA K h43 h11.1 bw nn len fB ∧ len ≤ 2 ∧ (bw = h11.1 + 1 ∨ h11.1 + 3 ≤ bw) := ⟨⟨hbs, (q43.2.2.2 _ (by omega)).trans hBs.1.2.1, hBs.1.2.2⟩, hBs.2⟩
      obtain ⟨hok, f1, f2, f3, hRC, hfx⟩ := hRu.run (u := ui i) hqi0.1
      have hok1 := hok.1
      have hok2 := hok.2.1
      have hnb := oa10 (hF.1.2 10) (rix (ui i) % 24) (by omega) (by omega)
      have hon1 := hqi0.2.1.1
      have hon2 := hqi0.2.1.2.1
      have hon3 := hqi0.2.1.2.2
      obtain ⟨sa, aa, da, hpu0, hsa0, haa0, hda0⟩ := id hRC
      have hRC9 := hRC.up (fun b c e9 => (fR b (hwf _ _ e9)).trans e9)
      have x0 := hfx (ci i) (by omega) (by omega)
      have x1 := hfx (ci i + 1) (by omega) (by omega)
      have hst := hF.2.1.run hok ⟨hon1, show ci i < sg.2 10 (rix (ui i) % 24) by omega⟩
      have hss := hF.2.1.run hok ⟨show 0 ≤ ci i + 1 by omega, show ci i + 1 < sg.2 10 (rix (ui i) % 24) by omega⟩
      have hlb := lvI_b hF.1 (r := rix (ui i)) (c := ci i) ⟨hok1, hok2⟩ ⟨hon1, by omega⟩
      have hcb := cmI_b hF.1 (r := rix (ui i)) (c := ci i + 1) ⟨hok1, hok2⟩ ⟨by omega, by omega⟩
      have hsi := good_iff hF hcut (by omega) ht hLst hRP hn72 hinj (i := i) ⟨by omega, by omega⟩
      have hchs := oa2 (hF.1.2 2) (stI sg (rix (ui i)) (ci i + 1)) (by omega) (by omega)
      have hrs := hwr (stI sg (rix (ui i)) (ci i + 1)) (by omega) (by omega)
      have hwb := hWb (stI sg (rix (ui i)) (ci i + 1))
      have hqc : h43.2.2 (q i) = some (true, .inr (8, [(.ref (p (ui i))), (vi (ci i)), (vi (-(cmI sg (rix (ui i)) (ci i + 1))))])) := (fR _ (hwf _ _ hqi0.2.2)).trans hqi0.2.2
      have l_hqc := hwf43 _ _ hqc
      have hpu : h43.2.2 (p (ui i)) = some (true, .inr (7, [(vi (ui i)), (vi (rix (ui i) % 24)), (vi (rix (ui i) / 24 - 1)), (.ref sa), (.ref aa), (.ref da)])) := (fR _ (hwf _ _ hpu0)).trans hpu0
      have l_hpu := hwf43 _ _ hpu
      have hrw : h43.2.2 (wrr (stI sg (rix (ui i)) (ci i + 1))) = some (true, ia K 12 (W (stI sg (rix (ui i)) (ci i + 1)))) := (fR _ (hwf _ _ hrs.2)).trans hrs.2
      have l_hrw := hwf43 _ _ hrw
      refine m_cast (y := yiX1_lastReady) dX1_lastReady_48 hqc rfl q1948 (Or.inl rfl) ?_
      refine m_astore (y := yiX1_lastReady) dX1_lastReady_51 (by decide) rfl ?_
      show MW K yiX1_lastReady d h43 53 [some (.ref x), some (.ref a), some (.ref wy), some (vi to), some (vi mi), some (.ref h.1), some (.ref h11.1), some (.ref h18.1), some (.ref (q i)), none, none, none, none, none] [] Q
      refine m_aload (y := yiX1_lastReady) dX1_lastReady_53 rfl ?_
      refine m_invV (y := yiX1_lastReady) (rB := (RX9, TX9, 3)) [] dX1_lastReady_55 hqc rfl q2352 q2353 q2354 q168 q2355 rfl (c_X9_to K 0 h43 (q i) (p (ui i)) (ui i) (rix (ui i) % 24) (rix (ui i) / 24 - 1) (sg.2 10 (rix (ui i) % 24)).toNat f1 f2 f3 (ci i) _ hqc hRC9 ⟨by omega, by omega⟩ (by omega)) pdX9_to ⟨Nat.le_of_ble_eq_true rfl, by decide, by omega⟩ (kk_z fun r55 h55 q55 => ?_) kx_z
      obtain ⟨rfl, rfl⟩ := q55
      refine mw_top (x' := (stI sg (rix (ui i)) (ci i + 1))) x1.1 ?_
      refine j_istore (y := yiX1_lastReady) [some (.ref x), some (.ref a), some (.ref wy), some (vi to), some (vi mi), some (.ref h.1), some (.ref h11.1), some (.ref h18.1), some (.ref (q i)), some (vi (stI sg (rix (ui i)) (ci i + 1))), none, none, none, none] dX1_lastReady_58 (by decide) rfl rfl ?_
      refine m_aload (y := yiX1_lastReady) dX1_lastReady_60 rfl ?_
      refine m_aload (y := yiX1_lastReady) dX1_lastReady_62 rfl ?_
      refine m_getfN (y := yiX1_lastReady) kc_8 0 (by decide) dX1_lastReady_64 q1955 hqc rfl ?_
      refine m_getfN (y := yiX1_lastReady) kc_7 0 (by decide) dX1_lastReady_67 q1898 hpu rfl ?_
      refine m_invV (y := yiX1_lastReady) (rB := (RJ18, TJ18, 3)) [(vi (ui i))] dX1_lastReady_70 hbs rfl q809 q810 q811 q143 q812 rfl (c_J18_get K 1 h43 h11.1 bw nn (ui i) len fB (by omega) h8 hBs'.1 ⟨by omega, by omega⟩) pdJ18_get ⟨Nat.le_of_ble_eq_true rfl, by decide, by omega⟩ (kk_z fun r70 h70 q70 => ?_) kx_z
      obtain ⟨rfl, e701, e702⟩ := q70
      refine j_istore (y := yiX1_lastReady) [some (.ref x), some (.ref a), some (.ref wy), some (vi to), some (vi mi), some (.ref h.1), some (.ref h11.1), some (.ref h18.1), some (.ref (q i)), some (vi (stI sg (rix (ui i)) (ci i + 1))), some (vi r70), none, none, none] dX1_lastReady_73 (by decide) rfl rfl ?_
      have J190 : ∀ (b kk : Int), (b = 0 ∨ b = 1) → (GoI b (BgI sg to mi (rix (ui i)) (ci i))) → MW K yiX1_lastReady d h43 190 [some (.ref x), some (.ref a), some (.ref wy), some (vi to), some (vi mi), some (.ref h.1), some (.ref h11.1), some (.ref h18.1), some (.ref (q i)), some (vi (stI sg (rix (ui i)) (ci i + 1))), some (vi b), some (vi kk), none, none] [] Q := by
        intro b kk hb9 hgd
        refine j_iload (y := yiX1_lastReady) dX1_lastReady_190 rfl ?_
        refine j_if_eq (y := yiX1_lastReady) 232 dX1_lastReady_192 (by decide) ⟨by omega, by omega⟩ (fun c192 => ?_) (fun c192 => ?_)
        · have hwd9' : True := trivial
          refine m_goto (y := yiX1_lastReady) 31 dX1_lastReady_232 (by decide) ?_
          refine mw_forget 8 ?_
          refine mw_forget 9 ?_
          refine mw_forget 10 ?_
          refine mw_forget 11 ?_
          exact ih31 _ (by omega) _ _ _ _ _ _ _ _ rfl frd hxx hch hwy hro hre it24 hbs fR (by omega) (by first | exact ⟨⟨hbs2, hwd9, p2.2.2⟩, p4.2 (by omega) hBs.2.1, by omega⟩ | exact hBs') (by first | exact (fun u u0 => (p3 u u0).trans ((or_comm.trans (or_congr (hIn u u0) ⟨fun e9 => ⟨e9, hgd.y c192 hb9⟩, fun e9 => e9.1⟩)).trans (GdP_s hi.1).symm)) | exact (fun u u0 => (hIn u u0).trans ((or_iff_left (fun e9 => hgd.n c192 e9.2)).symm.trans (GdP_s hi.1).symm))) (by first | exact hRy.n hi.1 (hgd.n c192) | exact hRy.y hi.1 (hgd.y c192 hb9) ⟨hon3, by omega⟩) (by omega)
        · refine m_aload (y := yiX1_lastReady) dX1_lastReady_195 rfl ?_
          refine m_aload (y := yiX1_lastReady) dX1_lastReady_197 rfl ?_
          refine m_getfN (y := yiX1_lastReady) kc_8 0 (by decide) dX1_lastReady_199 q1955 hqc rfl ?_
          refine m_getfN (y := yiX1_lastReady) kc_7 0 (by decide) dX1_lastReady_202 q1898 hpu rfl ?_
          refine m_invV (y := yiX1_lastReady) (rB := (RJ18, TJ18, 3)) [(vi (ui i))] dX1_lastReady_205 hbs rfl q1052 q1053 q1054 q143 q1055 rfl (c_J18_set K 4 h43 h11.1 bw nn (ui i) len fB (by omega) h8 hBs'.1 ⟨by omega, by omega⟩ ⟨by omega, by omega⟩) pdJ18_set ⟨Nat.le_of_ble_eq_true rfl, by decide, by omega⟩ (kk_v fun h205 q205 => ?_) kx_v
          obtain ⟨bw2, len2, n2, fB2, p1, p2, p3, p4, p5, p6, p7⟩ := q205
          have hbs2 := p2.1
          have frd : h205.2.2 h.1 = some (true, ia K 12 rd) := (p7 _ (by (repeat' apply And.intro) <;> omega)).trans frd
          have hxx : h205.2.2 x = some (true, .inr (0, [(.ref ch), (.ref wk), (vi (sg.1 1)), (.ref sv), (.ref tr), (.ref lt), (.ref ws), (.ref tx), (vi fl), kp])) := (p7 _ (by (repeat' apply And.intro) <;> omega)).trans hxx
          have hch : h205.2.2 ch = some (true, ia K 12 (sg.2 2)) := (p7 _ (by (repeat' apply And.intro) <;> omega)).trans hch
          have hwy : h205.2.2 wy = some (true, aaE K 12 fw) := (p7 _ (by (repeat' apply And.intro) <;> omega)).trans hwy
          have hro : h205.2.2 a = some (true, .inr (14, [(vi mca), (.ref e), (vi m)])) := (p7 _ (by (repeat' apply And.intro) <;> omega)).trans hro
          have hre : h205.2.2 e = some (wr, oaE K capr frr) := (p7 _ (by (repeat' apply And.intro) <;> omega)).trans hre
          have it24 : h205.2.2 h18.1 = some (true, .inr (15, [(vi (i + 1)), (vi i), (vi mca), (.ref a)])) := (p7 _ (by (repeat' apply And.intro) <;> omega)).trans it24
          have hqc : h205.2.2 (q i) = some (true, .inr (8, [(.ref (p (ui i))), (vi (ci i)), (vi (-(cmI sg (rix (ui i)) (ci i + 1))))])) := (p7 _ (by (repeat' apply And.intro) <;> omega)).trans hqc
          have hpu : h205.2.2 (p (ui i)) = some (true, .inr (7, [(vi (ui i)), (vi (rix (ui i) % 24)), (vi (rix (ui i) / 24 - 1)), (.ref sa), (.ref aa), (.ref da)])) := (p7 _ (by (repeat' apply And.intro) <;> omega)).trans hpu
          have hrw : h205.2.2 (wrr (stI sg (rix (ui i)) (ci i + 1))) = some (true, ia K 12 (W (stI sg (rix (ui i)) (ci i + 1)))) := (p7 _ (by (repeat' apply And.intro) <;> omega)).trans hrw
          have fR : ∀ b, (b < h.1) → h205.2.2 b = h.2.2 b := fun b hb => (p7 b (by (repeat' apply And.intro) <;> omega)).trans (fR b hb)
          refine mw_wf (fun hwf205 => ?_)
          have l_hbs2205 := hwf205 _ _ hbs2
          have hwd9 := p2.2.1
          have lbw := hwf205 _ _ p2.2.1
          have hRC8 := hRC.up (fun b c e9 => (fR b (hwf _ _ e9)).trans e9)
          have hrf9 := (hRy (stI sg (rix (ui i)) (ci i)) (by omega) (by omega)).1
          refine m_aload (y := yiX1_lastReady) dX1_lastReady_208 rfl ?_
          refine m_aload (y := yiX1_lastReady) dX1_lastReady_210 rfl ?_
          refine m_invV (y := yiX1_lastReady) (rB := (RX9, TX9, 3)) [] dX1_lastReady_212 hqc rfl q2360 q2361 q2362 q168 q2363 rfl (c_X9_from K 0 h205 (q i) (p (ui i)) (ui i) (rix (ui i) % 24) (rix (ui i) / 24 - 1) (sg.2 10 (rix (ui i) % 24)).toNat f1 f2 f3 (ci i) _ hqc hRC8 ⟨by omega, by omega⟩ (by omega)) pdX9_from ⟨Nat.le_of_ble_eq_true rfl, by decide, by omega⟩ (kk_z fun r212 h212 q212 => ?_) kx_z
          obtain ⟨rfl, rfl⟩ := q212
          refine mw_top (x' := (stI sg (rix (ui i)) (ci i))) x0.1 ?_
          refine m_aload (y := yiX1_lastReady) dX1_lastReady_215 rfl ?_
          refine m_aload (y := yiX1_lastReady) dX1_lastReady_217 rfl ?_
          refine m_invV (y := yiX1_lastReady) (rB := (RX9, TX9, 3)) [] dX1_lastReady_219 hqc rfl q2360 q2361 q2362 q168 q2363 rfl (c_X9_from K 0 h205 (q i) (p (ui i)) (ui i) (rix (ui i) % 24) (rix (ui i) / 24 - 1) (sg.2 10 (rix (ui i) % 24)).toNat f1 f2 f3 (ci i) _ hqc hRC8 ⟨by omega, by omega⟩ (by omega)) pdX9_from ⟨Nat.le_of_ble_eq_true rfl, by decide, by omega⟩ (kk_z fun r219 h219 q219 => ?_) kx_z
          obtain ⟨rfl, rfl⟩ := q219
          refine mw_top (x' := (stI sg (rix (ui i)) (ci i))) x0.1 ?_
          refine j_iald (y := yiX1_lastReady) dX1_lastReady_222 frd (by omega) ⟨by omega, by omega⟩ ?_
          refine m_aload (y := yiX1_lastReady) dX1_lastReady_223 rfl ?_
          refine m_invV (y := yiX1_lastReady) (rB := (RX9, TX9, 3)) [] dX1_lastReady_225 hqc rfl q2364 q2365 q2366 q168 q2367 rfl (c_X9_departure K 0 h205 (q i) (p (ui i)) (ui i) (rix (ui i) % 24) (rix (ui i) / 24 - 1) (sg.2 10 (rix (ui i) % 24)).toNat f1 f2 f3 (ci i) _ hqc hRC8 ⟨by omega, by omega⟩ (by omega)) pdX9_departure ⟨Nat.le_of_ble_eq_true rfl, by decide, by omega⟩ (kk_z fun r225 h225 q225 => ?_) kx_z
          obtain ⟨rfl, rfl⟩ := q225
          refine mw_top (x' := (lvI sg (rix (ui i)) (ci i))) x0.2.2 ?_
          refine m_mmax (y := yiX1_lastReady) dX1_lastReady_228 q2368 q386 q141 q387 ⟨⟨by omega, by omega⟩, ⟨by omega, by omega⟩⟩ ⟨Nat.le_of_ble_eq_true rfl, by omega⟩ ?_
          refine j_iast (y := yiX1_lastReady) dX1_lastReady_231 frd (by omega) ⟨by omega, by omega⟩ (hp_put fun g3 g3H => ?_)
          have hxx : g3.2.2 x = some (true, .inr (0, [(.ref ch), (.ref wk), (vi (sg.1 1)), (.ref sv), (.ref tr), (.ref lt), (.ref ws), (.ref tx), (vi fl), kp])) := (g3H.2.2.2 _ (by (repeat' apply And.intro) <;> omega)).trans hxx
          have hch : g3.2.2 ch = some (true, ia K 12 (sg.2 2)) := (g3H.2.2.2 _ (by (repeat' apply And.intro) <;> omega)).trans hch
          have hwy : g3.2.2 wy = some (true, aaE K 12 fw) := (g3H.2.2.2 _ (by (repeat' apply And.intro) <;> omega)).trans hwy
          have hro : g3.2.2 a = some (true, .inr (14, [(vi mca), (.ref e), (vi m)])) := (g3H.2.2.2 _ (by (repeat' apply And.intro) <;> omega)).trans hro
          have hre : g3.2.2 e = some (wr, oaE K capr frr) := (g3H.2.2.2 _ (by (repeat' apply And.intro) <;> omega)).trans hre
          have it24 : g3.2.2 h18.1 = some (true, .inr (15, [(vi (i + 1)), (vi i), (vi mca), (.ref a)])) := (g3H.2.2.2 _ (by (repeat' apply And.intro) <;> omega)).trans it24
          have hbs2 : g3.2.2 h11.1 = some (true, .inr (16, [(.ref bw2), (vi n2), (vi 0)])) := (g3H.2.2.2 _ (by (repeat' apply And.intro) <;> omega)).trans hbs2
          have hqc : g3.2.2 (q i) = some (true, .inr (8, [(.ref (p (ui i))), (vi (ci i)), (vi (-(cmI sg (rix (ui i)) (ci i + 1))))])) := (g3H.2.2.2 _ (by (repeat' apply And.intro) <;> omega)).trans hqc
          have hpu : g3.2.2 (p (ui i)) = some (true, .inr (7, [(vi (ui i)), (vi (rix (ui i) % 24)), (vi (rix (ui i) / 24 - 1)), (.ref sa), (.ref aa), (.ref da)])) := (g3H.2.2.2 _ (by (repeat' apply And.intro) <;> omega)).trans hpu
          have hrw : g3.2.2 (wrr (stI sg (rix (ui i)) (ci i + 1))) = some (true, ia K 12 (W (stI sg (rix (ui i)) (ci i + 1)))) := (g3H.2.2.2 _ (by (repeat' apply And.intro) <;> omega)).trans hrw
          have fR : ∀ b, (b < h.1) → g3.2.2 b = h.2.2 b := fun b hb => (g3H.2.2.2 b (by (repeat' apply And.intro) <;> omega)).trans (fR b hb)
          have frd : g3.2.2 h.1 = some (true, ia K 12 (upz rd (stI sg (rix (ui i)) (ci i)) (if (rd (stI sg (rix (ui i)) (ci i))) < (lvI sg (rix (ui i)) (ci i)) then (lvI sg (rix (ui i)) (ci i)) else (rd (stI sg (rix (ui i)) (ci i)))))) := g3H.2.2.1
          have g31 := g3H.1
          have g32 := g3H.2.1
          have hwd9' : True := trivial
          refine m_goto (y := yiX1_lastReady) 31 dX1_lastReady_232 (by decide) ?_
          refine mw_forget 8 ?_
          refine mw_forget 9 ?_
          refine mw_forget 10 ?_
          refine mw_forget 11 ?_
          exact ih31 _ (by omega) _ _ _ _ _ _ _ _ rfl frd hxx hch hwy hro hre it24 hbs2 fR (by omega) (by first | exact ⟨⟨hbs2, hwd9, p2.2.2⟩, p4.2 (by omega) hBs.2.1, by omega⟩ | exact hBs') (by first | exact (fun u u0 => (p3 u u0).trans ((or_comm.trans (or_congr (hIn u u0) ⟨fun e9 => ⟨e9, hgd.y c192 hb9⟩, fun e9 => e9.1⟩)).trans (GdP_s hi.1).symm)) | exact (fun u u0 => (hIn u u0).trans ((or_iff_left (fun e9 => hgd.n c192 e9.2)).symm.trans (GdP_s hi.1).symm))) (by first | exact hRy.n hi.1 (hgd.n c192) | exact hRy.y hi.1 (hgd.y c192 hb9) ⟨hon3, by omega⟩) (by omega)
      refine j_iconst (y := yiX1_lastReady) dX1_lastReady_75 ?_
      refine j_istore (y := yiX1_lastReady) [some (.ref x), some (.ref a), some (.ref wy), some (vi to), some (vi mi), some (.ref h.1), some (.ref h11.1), some (.ref h18.1), some (.ref (q i)), some (vi (stI sg (rix (ui i)) (ci i + 1))), some (vi r70), some (vi 0), none, none] dX1_lastReady_76 (by decide) rfl rfl ?_
      have L78 : ∀ (N : Nat) (k b : Int), (sg.1 1 - k).toNat = N → (0 ≤ k ∧ k ≤ sg.1 1) → (b = 0 ∨ b = 1) → (GoI b (GdP sg to mi rix ui ci i (ui i) ∨ ∃ j, (0 ≤ j ∧ j < k) ∧ AskP sg to mi rix ui ci i (stI sg (rix (ui i)) (ci i + 1)) (cmI sg (rix (ui i)) (ci i + 1)) j)) → MW K yiX1_lastReady d h43 78 [some (.ref x), some (.ref a), some (.ref wy), some (vi to), some (vi mi), some (.ref h.1), some (.ref h11.1), some (.ref h18.1), some (.ref (q i)), some (vi (stI sg (rix (ui i)) (ci i + 1))), some (vi b), some (vi k), none, none] [] Q := by
        intro N
        induction N using Nat.strongRecOn with
        | _ N ih78 =>
        intro k b hN78 hk hb hgi
        refine j_iload (y := yiX1_lastReady) dX1_lastReady_78 rfl ?_
        refine m_aload_n (y := yiX1_lastReady) dX1_lastReady_80 rfl ?_
        refine m_getfS (y := yiX1_lastReady) kc_0 2 (by decide) dX1_lastReady_81 q300 hxx rfl ?_
        refine j_icmp_ge (y := yiX1_lastReady) 190 dX1_lastReady_84 (by decide) ⟨⟨by omega, by omega⟩, ⟨by omega, by omega⟩⟩ (fun c84 => ?_) (fun c84 => ?_)
        · exact J190 _ _ (by omega) (by first | exact hgi.to ((or_congr Iff.rfl ⟨fun ⟨j, h8, h9⟩ => ⟨j, ⟨h8.1, by omega⟩, h9⟩, fun ⟨j, h8, h9⟩ => ⟨j, ⟨h8.1, by omega⟩, h9⟩⟩).trans hsi.symm) | exact ⟨fun _ => hsi.mpr ((hgi.y c89 hb).imp id (fun ⟨j, h8, h9⟩ => ⟨j, ⟨h8.1, by omega⟩, h9⟩)), fun _ => by omega⟩)
        · refine j_iload (y := yiX1_lastReady) dX1_lastReady_87 rfl ?_
          refine j_if_ne (y := yiX1_lastReady) 190 dX1_lastReady_89 (by decide) ⟨by omega, by omega⟩ (fun c89 => ?_) (fun c89 => ?_)
          · exact J190 _ _ (by omega) (by first | exact hgi.to ((or_congr Iff.rfl ⟨fun ⟨j, h8, h9⟩ => ⟨j, ⟨h8.1, by omega⟩, h9⟩, fun ⟨j, h8, h9⟩ => ⟨j, ⟨h8.1, by omega⟩, h9⟩⟩).trans hsi.symm) | exact ⟨fun _ => hsi.mpr ((hgi.y c89 hb).imp id (fun ⟨j, h8, h9⟩ => ⟨j, ⟨h8.1, by omega⟩, h9⟩)), fun _ => by omega⟩)
          · have hWk := hWv (stI sg (rix (ui i)) (ci i + 1)) k hss.1 hss.2 hk.1 (by omega)
            have hwk9 := hwb k (by omega) (by omega) hk.1 (by omega)
            have hry := hRy k hk.1 (by omega)
            refine m_aload_n (y := yiX1_lastReady) dX1_lastReady_92 rfl ?_
            refine j_iload (y := yiX1_lastReady) dX1_lastReady_93 rfl ?_
            refine h_aald6 (y := yiX1_lastReady) dX1_lastReady_95 hwy ⟨by omega, by omega⟩ (by omega) ?_
            rw [hrs.1]
            show MW K yiX1_lastReady d h43 96 [some (.ref x), some (.ref a), some (.ref wy), some (vi to), some (vi mi), some (.ref h.1), some (.ref h11.1), some (.ref h18.1), some (.ref (q i)), some (vi (stI sg (rix (ui i)) (ci i + 1))), some (vi b), some (vi k), none, none] [(.ref (wrr (stI sg (rix (ui i)) (ci i + 1))))] Q
            refine j_iload (y := yiX1_lastReady) dX1_lastReady_96 rfl ?_
            refine j_iald (y := yiX1_lastReady) dX1_lastReady_98 hrw (by omega) ⟨by omega, by omega⟩ ?_
            refine mw_top (x' := (sg.2 4 (12 * stI sg (rix (ui i)) (ci i + 1) + k))) (hWk) ?_
            refine j_ldc (y := yiX1_lastReady) (1000000) dX1_lastReady_99 q920 (by decide) ?_
            refine j_icmp_ge (y := yiX1_lastReady) 184 dX1_lastReady_101 (by decide) ⟨⟨by omega, by omega⟩, ⟨by omega, by omega⟩⟩ (fun c101 => ?_) (fun c101 => ?_)
            · refine j_iinc (y := yiX1_lastReady) [some (.ref x), some (.ref a), some (.ref wy), some (vi to), some (vi mi), some (.ref h.1), some (.ref h11.1), some (.ref h18.1), some (.ref (q i)), some (vi (stI sg (rix (ui i)) (ci i + 1))), some (vi b), some (vi (k + 1)), none, none] dX1_lastReady_184 rfl (by decide) rfl rfl ?_
              refine m_goto (y := yiX1_lastReady) 78 dX1_lastReady_187 (by decide) ?_
              exact ih78 _ (by omega) _ _ rfl (by omega) (by omega) (by first | exact hgi.step c89 hk.1 ⟨fun h9 => by omega, fun h9 => by have := h9.1; omega⟩ | exact hgi.step c89 hk.1 ⟨fun _ => ⟨by omega, Or.inl c141⟩, fun _ => rfl⟩ | exact hgi.step c89 hk.1 ⟨fun _ => ⟨by omega, Or.inr ((hry.2 _ (by omega)).mp c174)⟩, fun _ => rfl⟩ | exact hgi.step c89 hk.1 ⟨fun h9 => by omega, fun h9 => by { rcases h9.2 with h8 | h8; { exact absurd h8 c141 }; { exact absurd ((hry.2 _ (by omega)).mpr h8) (by omega) } }⟩)
            · refine m_aload (y := yiX1_lastReady) dX1_lastReady_104 rfl ?_
              refine m_invV (y := yiX1_lastReady) (rB := (RX9, TX9, 3)) [] dX1_lastReady_106 hqc rfl q2356 q2357 q2358 q168 q2359 rfl (c_X9_arrival K 0 h43 (q i) (p (ui i)) (ui i) (rix (ui i) % 24) (rix (ui i) / 24 - 1) (sg.2 10 (rix (ui i) % 24)).toNat f1 f2 f3 (ci i) _ hqc hRC9 ⟨by omega, by omega⟩ (by omega)) pdX9_arrival ⟨Nat.le_of_ble_eq_true rfl, by decide, by omega⟩ (kk_z fun r106 h106 q106 => ?_) kx_z
              obtain ⟨rfl, rfl⟩ := q106
              refine mw_top (x' := (cmI sg (rix (ui i)) (ci i + 1))) x1.2.1 ?_
              refine m_aload_n (y := yiX1_lastReady) dX1_lastReady_109 rfl ?_
              refine j_iload (y := yiX1_lastReady) dX1_lastReady_110 rfl ?_
              refine h_aald6 (y := yiX1_lastReady) dX1_lastReady_112 hwy ⟨by omega, by omega⟩ (by omega) ?_
              rw [hrs.1]
              show MW K yiX1_lastReady d h43 113 [some (.ref x), some (.ref a), some (.ref wy), some (vi to), some (vi mi), some (.ref h.1), some (.ref h11.1), some (.ref h18.1), some (.ref (q i)), some (vi (stI sg (rix (ui i)) (ci i + 1))), some (vi b), some (vi k), none, none] [(.ref (wrr (stI sg (rix (ui i)) (ci i + 1)))), (vi (cmI sg (rix (ui i)) (ci i + 1)))] Q
              refine j_iload (y := yiX1_lastReady) dX1_lastReady_113 rfl ?_
              refine j_iald (y := yiX1_lastReady) dX1_lastReady_115 hrw (by omega) ⟨by omega, by omega⟩ ?_
              refine mw_top (x' := (sg.2 4 (12 * stI sg (rix (ui i)) (ci i + 1) + k))) (hWk) ?_
              refine j_iadd (y := yiX1_lastReady) dX1_lastReady_116 ?_
              refine j_istore (y := yiX1_lastReady) [some (.ref x), some (.ref a), some (.ref wy), some (vi to), some (vi mi), some (.ref h.1), some (.ref h11.1), some (.ref h18.1), some (.ref (q i)), some (vi (stI sg (rix (ui i)) (ci i + 1))), some (vi b), some (vi k), some (vi ((cmI sg (rix (ui i)) (ci i + 1)) + (sg.2 4 (12 * stI sg (rix (ui i)) (ci i + 1) + k)))), none] dX1_lastReady_117 (by decide) rfl rfl ?_
              have J137 : MW K yiX1_lastReady d h43 137 [some (.ref x), some (.ref a), some (.ref wy), some (vi to), some (vi mi), some (.ref h.1), some (.ref h11.1), some (.ref h18.1), some (.ref (q i)), some (vi (stI sg (rix (ui i)) (ci i + 1))), some (vi b), some (vi k), some (vi ((cmI sg (rix (ui i)) (ci i + 1)) + (sg.2 4 (12 * stI sg (rix (ui i)) (ci i + 1) + k)))), none] [(vi (bz (k = to ∧ (cmI sg (rix (ui i)) (ci i + 1)) + (sg.2 4 (12 * stI sg (rix (ui i)) (ci i + 1) + k)) ≤ mi)))] Q := by
                refine j_istore (y := yiX1_lastReady) [some (.ref x), some (.ref a), some (.ref wy), some (vi to), some (vi mi), some (.ref h.1), some (.ref h11.1), some (.ref h18.1), some (.ref (q i)), some (vi (stI sg (rix (ui i)) (ci i + 1))), some (vi b), some (vi k), some (vi ((cmI sg (rix (ui i)) (ci i + 1)) + (sg.2 4 (12 * stI sg (rix (ui i)) (ci i + 1) + k)))), some (vi (bz (k = to ∧ (cmI sg (rix (ui i)) (ci i + 1)) + (sg.2 4 (12 * stI sg (rix (ui i)) (ci i + 1) + k)) ≤ mi)))] dX1_lastReady_137 (by decide) rfl rfl ?_
                refine j_iload (y := yiX1_lastReady) dX1_lastReady_139 rfl ?_
                refine j_bz_ne (y := yiX1_lastReady) 177 dX1_lastReady_141 (by decide) (fun c141 => ?_) (fun c141 => ?_)
                · refine j_iconst (y := yiX1_lastReady) dX1_lastReady_177 ?_
                  refine m_goto (y := yiX1_lastReady) 182 dX1_lastReady_178 (by decide) ?_
                  refine j_istore (y := yiX1_lastReady) [some (.ref x), some (.ref a), some (.ref wy), some (vi to), some (vi mi), some (.ref h.1), some (.ref h11.1), some (.ref h18.1), some (.ref (q i)), some (vi (stI sg (rix (ui i)) (ci i + 1))), some (vi 1), some (vi k), some (vi ((cmI sg (rix (ui i)) (ci i + 1)) + (sg.2 4 (12 * stI sg (rix (ui i)) (ci i + 1) + k)))), some (vi (bz (k = to ∧ (cmI sg (rix (ui i)) (ci i + 1)) + (sg.2 4 (12 * stI sg (rix (ui i)) (ci i + 1) + k)) ≤ mi)))] dX1_lastReady_182 (by decide) rfl rfl ?_
                  refine j_iinc (y := yiX1_lastReady) [some (.ref x), some (.ref a), some (.ref wy), some (vi to), some (vi mi), some (.ref h.1), some (.ref h11.1), some (.ref h18.1), some (.ref (q i)), some (vi (stI sg (rix (ui i)) (ci i + 1))), some (vi 1), some (vi (k + 1)), some (vi ((cmI sg (rix (ui i)) (ci i + 1)) + (sg.2 4 (12 * stI sg (rix (ui i)) (ci i + 1) + k)))), some (vi (bz (k = to ∧ (cmI sg (rix (ui i)) (ci i + 1)) + (sg.2 4 (12 * stI sg (rix (ui i)) (ci i + 1) + k)) ≤ mi)))] dX1_lastReady_184 rfl (by decide) rfl rfl ?_
                  refine m_goto (y := yiX1_lastReady) 78 dX1_lastReady_187 (by decide) ?_
                  refine mw_forget 12 ?_
                  refine mw_forget 13 ?_
                  exact ih78 _ (by omega) _ _ rfl (by omega) (by omega) (by first | exact hgi.step c89 hk.1 ⟨fun h9 => by omega, fun h9 => by have := h9.1; omega⟩ | exact hgi.step c89 hk.1 ⟨fun _ => ⟨by omega, Or.inl c141⟩, fun _ => rfl⟩ | exact hgi.step c89 hk.1 ⟨fun _ => ⟨by omega, Or.inr ((hry.2 _ (by omega)).mp c174)⟩, fun _ => rfl⟩ | exact hgi.step c89 hk.1 ⟨fun h9 => by omega, fun h9 => by { rcases h9.2 with h8 | h8; { exact absurd h8 c141 }; { exact absurd ((hry.2 _ (by omega)).mpr h8) (by omega) } }⟩)
                · have J169 : MW K yiX1_lastReady d h43 169 [some (.ref x), some (.ref a), some (.ref wy), some (vi to), some (vi mi), some (.ref h.1), some (.ref h11.1), some (.ref h18.1), some (.ref (q i)), some (vi (stI sg (rix (ui i)) (ci i + 1))), some (vi b), some (vi k), some (vi ((cmI sg (rix (ui i)) (ci i + 1)) + (sg.2 4 (12 * stI sg (rix (ui i)) (ci i + 1) + k)))), none] [(vi (if k = (stI sg (rix (ui i)) (ci i + 1)) then (cmI sg (rix (ui i)) (ci i + 1)) + sg.2 2 (stI sg (rix (ui i)) (ci i + 1)) else (cmI sg (rix (ui i)) (ci i + 1)) + (sg.2 4 (12 * stI sg (rix (ui i)) (ci i + 1) + k))))] Q := by
                    refine m_aload (y := yiX1_lastReady) dX1_lastReady_169 rfl ?_
                    refine j_iload (y := yiX1_lastReady) dX1_lastReady_171 rfl ?_
                    refine j_iald (y := yiX1_lastReady) dX1_lastReady_173 frd (by omega) ⟨by omega, by omega⟩ ?_
                    refine j_icmp_gt (y := yiX1_lastReady) 181 dX1_lastReady_174 (by decide) ⟨⟨by omega, by omega⟩, ⟨by omega, by omega⟩⟩ (fun c174 => ?_) (fun c174 => ?_)
                    · refine j_iconst (y := yiX1_lastReady) dX1_lastReady_181 ?_
                      refine j_istore (y := yiX1_lastReady) [some (.ref x), some (.ref a), some (.ref wy), some (vi to), some (vi mi), some (.ref h.1), some (.ref h11.1), some (.ref h18.1), some (.ref (q i)), some (vi (stI sg (rix (ui i)) (ci i + 1))), some (vi 0), some (vi k), some (vi ((cmI sg (rix (ui i)) (ci i + 1)) + (sg.2 4 (12 * stI sg (rix (ui i)) (ci i + 1) + k)))), none] dX1_lastReady_182 (by decide) rfl rfl ?_
                      refine j_iinc (y := yiX1_lastReady) [some (.ref x), some (.ref a), some (.ref wy), some (vi to), some (vi mi), some (.ref h.1), some (.ref h11.1), some (.ref h18.1), some (.ref (q i)), some (vi (stI sg (rix (ui i)) (ci i + 1))), some (vi 0), some (vi (k + 1)), some (vi ((cmI sg (rix (ui i)) (ci i + 1)) + (sg.2 4 (12 * stI sg (rix (ui i)) (ci i + 1) + k)))), none] dX1_lastReady_184 rfl (by decide) rfl rfl ?_
                      refine m_goto (y := yiX1_lastReady) 78 dX1_lastReady_187 (by decide) ?_
                      refine mw_forget 12 ?_
                      exact ih78 _ (by omega) _ _ rfl (by omega) (by omega) (by first | exact hgi.step c89 hk.1 ⟨fun h9 => by omega, fun h9 => by have := h9.1; omega⟩ | exact hgi.step c89 hk.1 ⟨fun _ => ⟨by omega, Or.inl c141⟩, fun _ => rfl⟩ | exact hgi.step c89 hk.1 ⟨fun _ => ⟨by omega, Or.inr ((hry.2 _ (by omega)).mp c174)⟩, fun _ => rfl⟩ | exact hgi.step c89 hk.1 ⟨fun h9 => by omega, fun h9 => by { rcases h9.2 with h8 | h8; { exact absurd h8 c141 }; { exact absurd ((hry.2 _ (by omega)).mpr h8) (by omega) } }⟩)
                    · refine j_iconst (y := yiX1_lastReady) dX1_lastReady_177 ?_
                      refine m_goto (y := yiX1_lastReady) 182 dX1_lastReady_178 (by decide) ?_
                      refine j_istore (y := yiX1_lastReady) [some (.ref x), some (.ref a), some (.ref wy), some (vi to), some (vi mi), some (.ref h.1), some (.ref h11.1), some (.ref h18.1), some (.ref (q i)), some (vi (stI sg (rix (ui i)) (ci i + 1))), some (vi 1), some (vi k), some (vi ((cmI sg (rix (ui i)) (ci i + 1)) + (sg.2 4 (12 * stI sg (rix (ui i)) (ci i + 1) + k)))), none] dX1_lastReady_182 (by decide) rfl rfl ?_
                      refine j_iinc (y := yiX1_lastReady) [some (.ref x), some (.ref a), some (.ref wy), some (vi to), some (vi mi), some (.ref h.1), some (.ref h11.1), some (.ref h18.1), some (.ref (q i)), some (vi (stI sg (rix (ui i)) (ci i + 1))), some (vi 1), some (vi (k + 1)), some (vi ((cmI sg (rix (ui i)) (ci i + 1)) + (sg.2 4 (12 * stI sg (rix (ui i)) (ci i + 1) + k)))), none] dX1_lastReady_184 rfl (by decide) rfl rfl ?_
                      refine m_goto (y := yiX1_lastReady) 78 dX1_lastReady_187 (by decide) ?_
                      refine mw_forget 12 ?_
                      exact ih78 _ (by omega) _ _ rfl (by omega) (by omega) (by first | exact hgi.step c89 hk.1 ⟨fun h9 => by omega, fun h9 => by have := h9.1; omega⟩ | exact hgi.step c89 hk.1 ⟨fun _ => ⟨by omega, Or.inl c141⟩, fun _ => rfl⟩ | exact hgi.step c89 hk.1 ⟨fun _ => ⟨by omega, Or.inr ((hry.2 _ (by omega)).mp c174)⟩, fun _ => rfl⟩ | exact hgi.step c89 hk.1 ⟨fun h9 => by omega, fun h9 => by { rcases h9.2 with h8 | h8; { exact absurd h8 c141 }; { exact absurd ((hry.2 _ (by omega)).mpr h8) (by omega) } }⟩)
                  refine j_iload (y := yiX1_lastReady) dX1_lastReady_144 rfl ?_
                  refine j_iload (y := yiX1_lastReady) dX1_lastReady_146 rfl ?_
                  refine j_icmp_ne (y := yiX1_lastReady) 167 dX1_lastReady_148 (by decide) ⟨⟨by omega, by omega⟩, ⟨by omega, by omega⟩⟩ (fun c148 => ?_) (fun c148 => ?_)
                  · refine j_iload (y := yiX1_lastReady) dX1_lastReady_167 rfl ?_
                    refine mw_forget 13 ?_
                    refine mw_top (x' := (if k = (stI sg (rix (ui i)) (ci i + 1)) then (cmI sg (rix (ui i)) (ci i + 1)) + sg.2 2 (stI sg (rix (ui i)) (ci i + 1)) else (cmI sg (rix (ui i)) (ci i + 1)) + (sg.2 4 (12 * stI sg (rix (ui i)) (ci i + 1) + k)))) (by first | exact (if_pos (by omega)).symm | exact (if_neg (by omega)).symm) ?_
                    exact J169  
                  · refine m_aload (y := yiX1_lastReady) dX1_lastReady_151 rfl ?_
                    refine m_invV (y := yiX1_lastReady) (rB := (RX9, TX9, 3)) [] dX1_lastReady_153 hqc rfl q2356 q2357 q2358 q168 q2359 rfl (c_X9_arrival K 0 h43 (q i) (p (ui i)) (ui i) (rix (ui i) % 24) (rix (ui i) / 24 - 1) (sg.2 10 (rix (ui i) % 24)).toNat f1 f2 f3 (ci i) _ hqc hRC9 ⟨by omega, by omega⟩ (by omega)) pdX9_arrival ⟨Nat.le_of_ble_eq_true rfl, by decide, by omega⟩ (kk_z fun r153 h153 q153 => ?_) kx_z
                    obtain ⟨rfl, rfl⟩ := q153
                    refine mw_top (x' := (cmI sg (rix (ui i)) (ci i + 1))) x1.2.1 ?_
                    refine m_aload_n (y := yiX1_lastReady) dX1_lastReady_156 rfl ?_
                    refine m_getfS (y := yiX1_lastReady) kc_0 0 (by decide) dX1_lastReady_157 q296 hxx rfl ?_
                    refine j_iload (y := yiX1_lastReady) dX1_lastReady_160 rfl ?_
                    refine j_iald (y := yiX1_lastReady) dX1_lastReady_162 hch (by omega) ⟨by omega, by omega⟩ ?_
                    refine j_iadd (y := yiX1_lastReady) dX1_lastReady_163 ?_
                    refine m_goto (y := yiX1_lastReady) 169 dX1_lastReady_164 (by decide) ?_
                    refine mw_forget 13 ?_
                    refine mw_top (x' := (if k = (stI sg (rix (ui i)) (ci i + 1)) then (cmI sg (rix (ui i)) (ci i + 1)) + sg.2 2 (stI sg (rix (ui i)) (ci i + 1)) else (cmI sg (rix (ui i)) (ci i + 1)) + (sg.2 4 (12 * stI sg (rix (ui i)) (ci i + 1) + k)))) (by first | exact (if_pos (by omega)).symm | exact (if_neg (by omega)).symm) ?_
                    exact J169  
              refine j_iload (y := yiX1_lastReady) dX1_lastReady_119 rfl ?_
              refine j_iload_n (y := yiX1_lastReady) dX1_lastReady_121 rfl ?_
              refine j_icmp_ne (y := yiX1_lastReady) 136 dX1_lastReady_122 (by decide) ⟨⟨by omega, by omega⟩, ⟨by omega, by omega⟩⟩ (fun c122 => ?_) (fun c122 => ?_)
              · refine j_iconst (y := yiX1_lastReady) dX1_lastReady_136 ?_
                refine mw_top (x' := bz (k = to ∧ (cmI sg (rix (ui i)) (ci i + 1)) + (sg.2 4 (12 * stI sg (rix (ui i)) (ci i + 1) + k)) ≤ mi)) (bz_f (by omega)) ?_
                exact J137  
              · refine j_iload (y := yiX1_lastReady) dX1_lastReady_125 rfl ?_
                refine j_iload (y := yiX1_lastReady) dX1_lastReady_127 rfl ?_
                refine j_icmp_gt (y := yiX1_lastReady) 136 dX1_lastReady_129 (by decide) ⟨⟨by omega, by omega⟩, ⟨by omega, by omega⟩⟩ (fun c129 => ?_) (fun c129 => ?_)
                · refine j_iconst (y := yiX1_lastReady) dX1_lastReady_136 ?_
                  refine mw_top (x' := bz (k = to ∧ (cmI sg (rix (ui i)) (ci i + 1)) + (sg.2 4 (12 * stI sg (rix (ui i)) (ci i + 1) + k)) ≤ mi)) (bz_f (by omega)) ?_
                  exact J137  
                · refine j_iconst (y := yiX1_lastReady) dX1_lastReady_132 ?_
                  refine m_goto (y := yiX1_lastReady) 137 dX1_lastReady_133 (by decide) ?_
                  refine mw_top (x' := bz (k = to ∧ (cmI sg (rix (ui i)) (ci i + 1)) + (sg.2 4 (12 * stI sg (rix (ui i)) (ci i + 1) + k)) ≤ mi)) (bz_t (by omega)) ?_
                  exact J137  
      exact L78 _ 0 r70 rfl (by omega) e701 (e702.trans ((hIn (ui i) hqi0.1.1).trans ⟨Or.inl, fun h9 => h9.elim id (fun ⟨j, h8, _⟩ => by omega)⟩))
  exact L31 _ 0 (-1) _ 0 1 (fun _ => 0) rd0 _ rfl frd hxx hch hwy hro hre it24 hbs fR (by omega) (⟨q4b, by omega, by omega⟩) (fun u u0 => ⟨fun h9 => absurd h9 (by { unfold inB; exact bt_0 _ }), fun ⟨j, a, b, c⟩ => by omega⟩) (RdyF.z.cg (fun k a b => i11 k a b)) (by omega)
theorem c_X1_lastBy (K : KT) (d : Nat) (h : MH) (e0 x ch wk sv tr lt ws tx a e ra re wy : Nat) (fl n m : Int) (kp : Value) (W : Int → Int → Int) (sg : TS) (rix ui ci : Int → Int) (p q : Int → Nat) (fr to mi : Int) (hd : 6 ≤ d) (hF : WF sg) (hcut : sg.1 5 = -1) (h8 : kV K 8 = vi 1) (hWd : WdA K h x ch wk sv tr lt ws tx fl kp sg) (hWy : WayA K h wy W sg) (hRu : RunsA K h e0 ra re n sg rix p) (hRd : RdsA K h e0 a e m sg rix n p (fun r c => -(cmI sg r (c + 1))) q ui ci) (hm : 0 ≤ m ∧ m ≤ 63) (hf : 0 ≤ fr ∧ fr < sg.1 1) (ht : 0 ≤ to ∧ to < sg.1 1) (hmi : -1000 ≤ mi ∧ mi ≤ 10000) (hz : h.1 + 10 ≤ kC K ∧ h.2.1 + 60 ≤ kS K) : Mt K yiX1_lastBy d [.ref x, .ref a, .ref wy, vi fr, vi to, vi mi] h (Rz fun v h' => LsV sg fr to mi v ∧ (-1000000 ≤ v ∧ v ≤ 20000) ∧ (h.1 ≤ h'.1 ∧ h'.1 ≤ h.1 + 10) ∧ (h.2.1 ≤ h'.2.1 ∧ h'.2.1 ≤ h.2.1 + 60) ∧ ∀ b, b < h.1 → h'.2.2 b = h.2.2 b) := by
  have f1b := of1 (hF.1.1 1)
  have hLst := hRd.lstA hF.1 hRu.num hRu.rp.1
  have hRP := hRu.rp
  obtain ⟨hxx, hch⟩ := id hWd
  obtain ⟨⟨wrr, fw, hwy, hwr⟩, hWv, hWb⟩ := id hWy
  have hrs := hwr fr hf.1 (by omega)
  have hrw := hrs.2
  have hwt := hWb fr to hf.1 (by omega) ht.1 (by omega)
  have b0b : -1000000 ≤ (if W fr to < 1000000 then mi - W fr to else -1000000) ∧ (if W fr to < 1000000 then mi - W fr to else -1000000) ≤ 20000 := by split <;> omega
  refine mt_ofQ (by decide) (Nat.le_of_ble_eq_true rfl) (fun Q hQ => ?_)
  show MW K yiX1_lastBy d h 0 [some (.ref x), some (.ref a), some (.ref wy), some (vi fr), some (vi to), some (vi mi), none, none, none] [] Q
  refine mw_wf (fun hwf => ?_)
  have l_hxx := hwf _ _ hxx
  have l_hwy := hwf _ _ hwy
  have l_hrw := hwf _ _ hrw
  have fR : ∀ b, (b < h.1) → h.2.2 b = h.2.2 b := fun _ _ => rfl
  refine m_aload_n (y := yiX1_lastBy) dX1_lastBy_0 rfl ?_
  refine m_aload_n (y := yiX1_lastBy) dX1_lastBy_1 rfl ?_
  refine m_aload_n (y := yiX1_lastBy) dX1_lastBy_2 rfl ?_
  refine j_iload (y := yiX1_lastBy) dX1_lastBy_3 rfl ?_
  refine j_iload (y := yiX1_lastBy) dX1_lastBy_5 rfl ?_
  refine m_invV (y := yiX1_lastBy) (rB := (RX1, TX1, 10)) [(.ref a), (.ref wy), (vi to), (vi mi)] dX1_lastBy_7 hxx rfl q2347 q2349 qs52 q123 q2350 rfl (c_X1_lastReady K 5 h e0 x ch wk sv tr lt ws tx a e ra re wy fl n m kp W sg rix ui ci p q to mi (by omega) hF hcut h8 hWd hWy hRu hRd hm ht hmi hz) pdX1_lastReady ⟨Nat.le_of_ble_eq_true rfl, by decide, by omega⟩ (kk_r fun r7 h7 q7 => ?_) kx_r
  obtain ⟨rd, k7, hRy, l7, y7, z7, f7⟩ := q7
  have hxx : h7.2.2 x = some (true, .inr (0, [(.ref ch), (.ref wk), (vi (sg.1 1)), (.ref sv), (.ref tr), (.ref lt), (.ref ws), (.ref tx), (vi fl), kp])) := (f7 _ (by omega)).trans hxx
  have hwy : h7.2.2 wy = some (true, aaE K 12 fw) := (f7 _ (by omega)).trans hwy
  have hrw : h7.2.2 (wrr fr) = some (true, ia K 12 (W fr)) := (f7 _ (by omega)).trans hrw
  have fR : ∀ b, (b < h.1) → h7.2.2 b = h.2.2 b := fun b hb => (f7 b (by omega)).trans (fR b hb)
  refine mw_wf (fun hwf7 => ?_)
  have l_k77 := hwf7 _ _ k7
  refine m_astore (y := yiX1_lastBy) dX1_lastBy_10 (by decide) rfl ?_
  show MW K yiX1_lastBy d h7 12 [some (.ref x), some (.ref a), some (.ref wy), some (vi fr), some (vi to), some (vi mi), some (.ref r7), none, none] [] Q
  have J38 : MW K yiX1_lastBy d h7 38 [some (.ref x), some (.ref a), some (.ref wy), some (vi fr), some (vi to), some (vi mi), some (.ref r7), none, none] [(vi (if W fr to < 1000000 then mi - W fr to else -1000000))] Q := by
    refine j_istore (y := yiX1_lastBy) [some (.ref x), some (.ref a), some (.ref wy), some (vi fr), some (vi to), some (vi mi), some (.ref r7), some (vi (if W fr to < 1000000 then mi - W fr to else -1000000)), none] dX1_lastBy_38 (by decide) rfl rfl ?_
    refine j_iconst (y := yiX1_lastBy) dX1_lastBy_40 ?_
    refine j_istore (y := yiX1_lastBy) [some (.ref x), some (.ref a), some (.ref wy), some (vi fr), some (vi to), some (vi mi), some (.ref r7), some (vi (if W fr to < 1000000 then mi - W fr to else -1000000)), some (vi 0)] dX1_lastBy_41 (by decide) rfl rfl ?_
    have L43 : ∀ (N : Nat) (k : Nat), (sg.1 1 - k).toNat = N → ((k : Int) ≤ sg.1 1) → MW K yiX1_lastBy d h7 43 [some (.ref x), some (.ref a), some (.ref wy), some (vi fr), some (vi to), some (vi mi), some (.ref r7), some (vi (lbK (W fr) rd (if W fr to < 1000000 then mi - W fr to else -1000000) k)), some (vi (k : Int))] [] Q := by
      intro N
      induction N using Nat.strongRecOn with
      | _ N ih43 =>
      intro k hN43 hk
      refine j_iload (y := yiX1_lastBy) dX1_lastBy_43 rfl ?_
      refine m_aload_n (y := yiX1_lastBy) dX1_lastBy_45 rfl ?_
      refine m_getfS (y := yiX1_lastBy) kc_0 2 (by decide) dX1_lastBy_46 q300 hxx rfl ?_
      refine j_icmp_ge (y := yiX1_lastBy) 93 dX1_lastBy_49 (by decide) ⟨⟨by omega, by omega⟩, ⟨by omega, by omega⟩⟩ (fun c49 => ?_) (fun c49 => ?_)
      · refine j_iload (y := yiX1_lastBy) dX1_lastBy_93 rfl ?_
        subst hQ; exact j_iret (y := yiX1_lastBy) dX1_lastBy_95 rfl (by { have ek : k = (sg.1 1).toNat := by omega; have hlb := lbK_b (w := W fr) (rd := rd) b0b (fun j a b => (hWb fr j hf.1 (by omega) a b).1) (fun j a b => by have := (hRy j a b).1; omega) k (by omega); refine ⟨?_, hlb, by omega, by omega, fR⟩; rw [ek]; exact LsV.mk hF hcut hf ht hmi hLst hRP hRy (fun j a b => hWv fr j hf.1 hf.2 a b) _ rfl })
      · have J85 : MW K yiX1_lastBy d h7 85 [some (.ref x), some (.ref a), some (.ref wy), some (vi fr), some (vi to), some (vi mi), some (.ref r7), some (vi (lbK (W fr) rd (if W fr to < 1000000 then mi - W fr to else -1000000) k)), some (vi (k : Int))] [(vi (lbK (W fr) rd (if W fr to < 1000000 then mi - W fr to else -1000000) (k + 1)))] Q := by
          refine j_istore (y := yiX1_lastBy) [some (.ref x), some (.ref a), some (.ref wy), some (vi fr), some (vi to), some (vi mi), some (.ref r7), some (vi (lbK (W fr) rd (if W fr to < 1000000 then mi - W fr to else -1000000) (k + 1))), some (vi (k : Int))] dX1_lastBy_85 (by decide) rfl rfl ?_
          refine j_iinc (y := yiX1_lastBy) [some (.ref x), some (.ref a), some (.ref wy), some (vi fr), some (vi to), some (vi mi), some (.ref r7), some (vi (lbK (W fr) rd (if W fr to < 1000000 then mi - W fr to else -1000000) (k + 1))), some (vi ((k : Int) + 1))] dX1_lastBy_87 rfl (by decide) rfl rfl ?_
          refine m_goto (y := yiX1_lastBy) 43 dX1_lastBy_90 (by decide) ?_
          exact ih43 _ (by omega) (k + 1) rfl (by omega)
        have hwk := hWb fr (k : Int) hf.1 (by omega) (by omega) (by omega)
        have hrk := (hRy (k : Int) (by omega) (by omega)).1
        have hlb := lbK_b (w := W fr) (rd := rd) b0b (fun j a b => (hWb fr j hf.1 (by omega) a b).1) (fun j a b => by have := (hRy j a b).1; omega) k (by omega)
        refine m_aload_n (y := yiX1_lastBy) dX1_lastBy_52 rfl ?_
        refine j_iload_n (y := yiX1_lastBy) dX1_lastBy_53 rfl ?_
        refine h_aald6 (y := yiX1_lastBy) dX1_lastBy_54 hwy ⟨by omega, by omega⟩ (by omega) ?_
        rw [hrs.1]
        show MW K yiX1_lastBy d h7 55 [some (.ref x), some (.ref a), some (.ref wy), some (vi fr), some (vi to), some (vi mi), some (.ref r7), some (vi (lbK (W fr) rd (if W fr to < 1000000 then mi - W fr to else -1000000) k)), some (vi (k : Int))] [(.ref (wrr fr))] Q
        refine j_iload (y := yiX1_lastBy) dX1_lastBy_55 rfl ?_
        refine j_iald (y := yiX1_lastBy) dX1_lastBy_57 hrw (by omega) ⟨by omega, by omega⟩ ?_
        refine j_ldc (y := yiX1_lastBy) (1000000) dX1_lastBy_58 q920 (by decide) ?_
        refine j_icmp_ge (y := yiX1_lastBy) 83 dX1_lastBy_60 (by decide) ⟨⟨by omega, by omega⟩, ⟨by omega, by omega⟩⟩ (fun c60 => ?_) (fun c60 => ?_)
        · refine j_iload (y := yiX1_lastBy) dX1_lastBy_83 rfl ?_
          refine mw_top (x' := lbK (W fr) rd (if W fr to < 1000000 then mi - W fr to else -1000000) (k + 1)) (by (show _ = (if W fr (k : Int) < 1000000 then (if lbK (W fr) rd _ k < rd (k : Int) - W fr (k : Int) then rd (k : Int) - W fr (k : Int) else lbK (W fr) rd _ k) else lbK (W fr) rd _ k)); first | exact (if_pos (by omega)).symm | exact (if_neg (by omega)).symm) ?_
          exact J85  
        · refine j_iload (y := yiX1_lastBy) dX1_lastBy_63 rfl ?_
          refine m_aload (y := yiX1_lastBy) dX1_lastBy_65 rfl ?_
          refine j_iload (y := yiX1_lastBy) dX1_lastBy_67 rfl ?_
          refine j_iald (y := yiX1_lastBy) dX1_lastBy_69 k7 (by omega) ⟨by omega, by omega⟩ ?_
          refine m_aload_n (y := yiX1_lastBy) dX1_lastBy_70 rfl ?_
          refine j_iload_n (y := yiX1_lastBy) dX1_lastBy_71 rfl ?_
          refine h_aald6 (y := yiX1_lastBy) dX1_lastBy_72 hwy ⟨by omega, by omega⟩ (by omega) ?_
          rw [hrs.1]
          show MW K yiX1_lastBy d h7 73 [some (.ref x), some (.ref a), some (.ref wy), some (vi fr), some (vi to), some (vi mi), some (.ref r7), some (vi (lbK (W fr) rd (if W fr to < 1000000 then mi - W fr to else -1000000) k)), some (vi (k : Int))] [(.ref (wrr fr)), (vi (rd (k : Int))), (vi (lbK (W fr) rd (if W fr to < 1000000 then mi - W fr to else -1000000) k))] Q
          refine j_iload (y := yiX1_lastBy) dX1_lastBy_73 rfl ?_
          refine j_iald (y := yiX1_lastBy) dX1_lastBy_75 hrw (by omega) ⟨by omega, by omega⟩ ?_
          refine j_isub (y := yiX1_lastBy) dX1_lastBy_76 ?_
          refine m_mmax (y := yiX1_lastBy) dX1_lastBy_77 q2368 q386 q141 q387 ⟨⟨by omega, by omega⟩, ⟨by omega, by omega⟩⟩ ⟨Nat.le_of_ble_eq_true rfl, by omega⟩ ?_
          refine m_goto (y := yiX1_lastBy) 85 dX1_lastBy_80 (by decide) ?_
          refine mw_top (x' := lbK (W fr) rd (if W fr to < 1000000 then mi - W fr to else -1000000) (k + 1)) (by (show _ = (if W fr (k : Int) < 1000000 then (if lbK (W fr) rd _ k < rd (k : Int) - W fr (k : Int) then rd (k : Int) - W fr (k : Int) else lbK (W fr) rd _ k) else lbK (W fr) rd _ k)); first | exact (if_pos (by omega)).symm | exact (if_neg (by omega)).symm) ?_
          exact J85  
    exact L43 _ 0 rfl (by omega)
  refine m_aload_n (y := yiX1_lastBy) dX1_lastBy_12 rfl ?_
  refine j_iload_n (y := yiX1_lastBy) dX1_lastBy_13 rfl ?_
  refine h_aald6 (y := yiX1_lastBy) dX1_lastBy_14 hwy ⟨by omega, by omega⟩ (by omega) ?_
  rw [hrs.1]
  show MW K yiX1_lastBy d h7 15 [some (.ref x), some (.ref a), some (.ref wy), some (vi fr), some (vi to), some (vi mi), some (.ref r7), none, none] [(.ref (wrr fr))] Q
  refine j_iload (y := yiX1_lastBy) dX1_lastBy_15 rfl ?_
  refine j_iald (y := yiX1_lastBy) dX1_lastBy_17 hrw (by omega) ⟨by omega, by omega⟩ ?_
  refine j_ldc (y := yiX1_lastBy) (1000000) dX1_lastBy_18 q920 (by decide) ?_
  refine j_icmp_ge (y := yiX1_lastBy) 35 dX1_lastBy_20 (by decide) ⟨⟨by omega, by omega⟩, ⟨by omega, by omega⟩⟩ (fun c20 => ?_) (fun c20 => ?_)
  · refine j_ldcw (y := yiX1_lastBy) (-1000000) dX1_lastBy_35 q2351 (by decide) ?_
    refine mw_top (x' := (if W fr to < 1000000 then mi - W fr to else -1000000)) (by first | exact (if_pos (by omega)).symm | exact (if_neg (by omega)).symm) ?_
    exact J38  
  · refine j_iload (y := yiX1_lastBy) dX1_lastBy_23 rfl ?_
    refine m_aload_n (y := yiX1_lastBy) dX1_lastBy_25 rfl ?_
    refine j_iload_n (y := yiX1_lastBy) dX1_lastBy_26 rfl ?_
    refine h_aald6 (y := yiX1_lastBy) dX1_lastBy_27 hwy ⟨by omega, by omega⟩ (by omega) ?_
    rw [hrs.1]
    show MW K yiX1_lastBy d h7 28 [some (.ref x), some (.ref a), some (.ref wy), some (vi fr), some (vi to), some (vi mi), some (.ref r7), none, none] [(.ref (wrr fr)), (vi mi)] Q
    refine j_iload (y := yiX1_lastBy) dX1_lastBy_28 rfl ?_
    refine j_iald (y := yiX1_lastBy) dX1_lastBy_30 hrw (by omega) ⟨by omega, by omega⟩ ?_
    refine j_isub (y := yiX1_lastBy) dX1_lastBy_31 ?_
    refine m_goto (y := yiX1_lastBy) 38 dX1_lastBy_32 (by decide) ?_
    refine mw_top (x' := (if W fr to < 1000000 then mi - W fr to else -1000000)) (by first | exact (if_pos (by omega)).symm | exact (if_neg (by omega)).symm) ?_
    exact J38  
/-- what last answers -/
def lastP (sg : TS) (fr to day mi th v : Int) : Prop := (¬ ((0 ≤ fr ∧ fr ≤ sg.1 1 - 1) ∧ (0 ≤ to ∧ to ≤ sg.1 1 - 1)) ∧ th = 1) ∨ (((0 ≤ fr ∧ fr ≤ sg.1 1 - 1) ∧ (0 ≤ to ∧ to ≤ sg.1 1 - 1)) ∧ ¬ ((0 ≤ day ∧ day ≤ 27) ∧ 0 ≤ mi ∧ mi ≤ 2879) ∧ th = 2) ∨ (((0 ≤ fr ∧ fr ≤ sg.1 1 - 1) ∧ (0 ≤ to ∧ to ≤ sg.1 1 - 1)) ∧ ((0 ≤ day ∧ day ≤ 27) ∧ 0 ≤ mi ∧ mi ≤ 2879) ∧ ∃ L, LsV (sd sg day) fr to mi L ∧ ((L < 0 ∧ th = 3) ∨ (0 ≤ L ∧ th = 0 ∧ v = L)))
theorem q_last (K : KT) (d : Nat) (h : MH) (z x : Nat) (sg : TS) (fr to day mi : Int) (hd : 18 ≤ d) (hIv : Iv sg) (hW : World K h z x sg) (hz1 : z ≤ h.1) (i1 : In fr) (i2 : In to) (i3 : In day) (i4 : In mi) (hz : h.1 + 25000 ≤ kC K ∧ h.2.1 + 304000 ≤ kS K) : Mt K yiX1_last d [.ref x, vi fr, vi to, vi day, vi mi] h (Rw [RJ14, RJ12, RJ17] fun th v h' => QFr h h' ∧ lastP sg fr to day mi th v) := by
  have hcls := hIv.cls
  obtain ⟨hF, hCl, hO, hWay, hcut, -, -, -⟩ := hIv
  have f1b := of1 (hF.1.1 1)
  have := i1.1; have := i1.2; have := i2.1; have := i2.2; have := i3.1; have := i3.2; have := i4.1; have := i4.2
  have hW0 := hW
  obtain ⟨own, e0, cc, ch, wk, sv, tr, lt, ws, tx, se, te, we, kp, sp, tp, wp, T, hK, hE, hI, hx, hch, hwk, hsv, htr, hlt, hws, htx, hkp, hR0⟩ := hW
  obtain ⟨hx, hxz, -⟩ := tg_at hx
  obtain ⟨hch, hchz, -⟩ := tg_at hch
  have hE1 := hE.1
  obtain ⟨hE2, hE2z, -⟩ := tg_at hE.2
  obtain ⟨k0, k1, k3, k4, k5, k8, k9, k10, k11, k12⟩ := hK
  have hwk := And.intro hwk.1.C hwk.2
  refine mt_ofQ (by decide) (Nat.le_of_ble_eq_true rfl) (fun Q hQ => ?_)
  show MW K yiX1_last d h 0 [some (.ref x), some (vi fr), some (vi to), some (vi day), some (vi mi), none] [] Q
  refine mw_wf (fun hwf => ?_)
  have l_hx := hwf _ _ hx
  have l_hch := hwf _ _ hch
  have fR : ∀ b, (b < h.1) → h.2.2 b = h.2.2 b := fun _ _ => rfl
  refine m_aload_n (y := yiX1_last) dX1_last_0 rfl ?_
  refine j_iload_n (y := yiX1_last) dX1_last_1 rfl ?_
  refine m_invV (y := yiX1_last) (rB := (RX1, TX1, 10)) [(vi fr)] dX1_last_2 hx rfl q889 q891 qs2 q123 q892 rfl (c_X1_isStop (d := 1) fr (by omega) hx ⟨by omega, by omega⟩ ⟨by omega, by omega⟩) pdX1_isStop ⟨Nat.le_of_ble_eq_true rfl, by decide, by omega⟩ (kk_z fun r2 h2 q2 => ?_) kx_z
  obtain ⟨rfl, rfl⟩ := q2
  refine mw_top (x' := bz (0 ≤ fr ∧ fr ≤ (sg.1 1) - 1)) rfl ?_
  refine j_bz_eq (y := yiX1_last) 20 dX1_last_5 (by decide) (fun c5 => ?_) (fun c5 => ?_)
  · refine j_iconst (y := yiX1_last) dX1_last_20 ?_
    refine m_invS (y := yiX1_last) [(vi 0)] dX1_last_21 q893 q894 q123 q895 (c_X1_requireIndex_0 K 6 h (by omega) ⟨by omega, by omega⟩) pdX1_requireIndex ⟨Nat.le_of_ble_eq_true rfl, by decide, by omega⟩ kk_t (kx_t fun q21 h21 x21 => ?_)
    subst hQ; exact mx_ret rfl (Or.inr ⟨0, RJ14, q21, rfl, rfl, fun _ => ⟨QFr.th x21 ⟨by omega, by omega⟩ ⟨by omega, by omega⟩ (fun _ _ => rfl), Or.inl ⟨by omega, rfl⟩⟩⟩)
  · refine m_aload_n (y := yiX1_last) dX1_last_8 rfl ?_
    refine j_iload_n (y := yiX1_last) dX1_last_9 rfl ?_
    refine m_invV (y := yiX1_last) (rB := (RX1, TX1, 10)) [(vi to)] dX1_last_10 hx rfl q889 q891 qs2 q123 q892 rfl (c_X1_isStop (d := 1) to (by omega) hx ⟨by omega, by omega⟩ ⟨by omega, by omega⟩) pdX1_isStop ⟨Nat.le_of_ble_eq_true rfl, by decide, by omega⟩ (kk_z fun r10 h10 q10 => ?_) kx_z
    obtain ⟨rfl, rfl⟩ := q10
    refine mw_top (x' := bz (0 ≤ to ∧ to ≤ (sg.1 1) - 1)) rfl ?_
    refine j_bz_eq (y := yiX1_last) 20 dX1_last_13 (by decide) (fun c13 => ?_) (fun c13 => ?_)
    · refine j_iconst (y := yiX1_last) dX1_last_20 ?_
      refine m_invS (y := yiX1_last) [(vi 0)] dX1_last_21 q893 q894 q123 q895 (c_X1_requireIndex_0 K 6 h (by omega) ⟨by omega, by omega⟩) pdX1_requireIndex ⟨Nat.le_of_ble_eq_true rfl, by decide, by omega⟩ kk_t (kx_t fun q21 h21 x21 => ?_)
      subst hQ; exact mx_ret rfl (Or.inr ⟨0, RJ14, q21, rfl, rfl, fun _ => ⟨QFr.th x21 ⟨by omega, by omega⟩ ⟨by omega, by omega⟩ (fun _ _ => rfl), Or.inl ⟨by omega, rfl⟩⟩⟩)
    · refine j_iconst (y := yiX1_last) dX1_last_16 ?_
      refine m_goto (y := yiX1_last) 21 dX1_last_17 (by decide) ?_
      refine m_invS (y := yiX1_last) [(vi 1)] dX1_last_21 q893 q894 q123 q895 (c_X1_requireIndex_1 K 0 h) pdX1_requireIndex ⟨Nat.le_of_ble_eq_true rfl, by decide, by omega⟩ (kk_v fun h21 q21 => ?_) kx_v
      obtain rfl := q21
      refine j_iload_n (y := yiX1_last) dX1_last_24 rfl ?_
      refine m_invS (y := yiX1_last) [(vi day)] dX1_last_25 q1049 q1050 q123 q1051 (c_X1_isDay K 1 h day (by omega) ⟨by omega, by omega⟩) pdX1_isDay ⟨Nat.le_of_ble_eq_true rfl, by decide, by omega⟩ (kk_z fun r25 h25 q25 => ?_) kx_z
      obtain ⟨rfl, rfl⟩ := q25
      refine mw_top (x' := bz (0 ≤ day ∧ day ≤ 27)) rfl ?_
      refine j_bz_eq (y := yiX1_last) 47 dX1_last_28 (by decide) (fun c28 => ?_) (fun c28 => ?_)
      · refine j_iconst (y := yiX1_last) dX1_last_47 ?_
        refine m_invS (y := yiX1_last) [(vi 0)] dX1_last_48 q853 q854 q123 q855 (c_X1_require_0 K 6 h (by omega) ⟨by omega, by omega⟩) pdX1_require ⟨Nat.le_of_ble_eq_true rfl, by decide, by omega⟩ kk_t (kx_t fun q48 h48 x48 => ?_)
        subst hQ; exact mx_ret rfl (Or.inr ⟨1, RJ12, q48, rfl, rfl, fun _ => ⟨QFr.th x48 ⟨by omega, by omega⟩ ⟨by omega, by omega⟩ (fun _ _ => rfl), Or.inr (Or.inl ⟨by omega, by omega, rfl⟩)⟩⟩)
      · refine j_iload (y := yiX1_last) dX1_last_31 rfl ?_
        refine j_iconst (y := yiX1_last) dX1_last_33 ?_
        refine j_sipush (y := yiX1_last) dX1_last_34 (by decide) ?_
        refine m_invS (y := yiX1_last) [(vi mi), (vi 0), (vi 2879)] dX1_last_37 q850 q851 q123 q852 (c_X1_isBetween K 0 h mi 0 2879 ⟨by omega, by omega⟩ ⟨by omega, by omega⟩ ⟨by omega, by omega⟩) pdX1_isBetween ⟨Nat.le_of_ble_eq_true rfl, by decide, by omega⟩ (kk_z fun r37 h37 q37 => ?_) kx_z
        obtain ⟨rfl, rfl⟩ := q37
        refine mw_top (x' := bz (0 ≤ mi ∧ mi ≤ 2879)) rfl ?_
        refine j_bz_eq (y := yiX1_last) 47 dX1_last_40 (by decide) (fun c40 => ?_) (fun c40 => ?_)
        · refine j_iconst (y := yiX1_last) dX1_last_47 ?_
          refine m_invS (y := yiX1_last) [(vi 0)] dX1_last_48 q853 q854 q123 q855 (c_X1_require_0 K 6 h (by omega) ⟨by omega, by omega⟩) pdX1_require ⟨Nat.le_of_ble_eq_true rfl, by decide, by omega⟩ kk_t (kx_t fun q48 h48 x48 => ?_)
          subst hQ; exact mx_ret rfl (Or.inr ⟨1, RJ12, q48, rfl, rfl, fun _ => ⟨QFr.th x48 ⟨by omega, by omega⟩ ⟨by omega, by omega⟩ (fun _ _ => rfl), Or.inr (Or.inl ⟨by omega, by omega, rfl⟩)⟩⟩)
        · refine j_iconst (y := yiX1_last) dX1_last_43 ?_
          refine m_goto (y := yiX1_last) 48 dX1_last_44 (by decide) ?_
          refine m_invS (y := yiX1_last) [(vi 1)] dX1_last_48 q853 q854 q123 q855 (c_X1_require_1 K 0 h) pdX1_require ⟨Nat.le_of_ble_eq_true rfl, by decide, by omega⟩ (kk_v fun h48 q48 => ?_) kx_v
          obtain rfl := q48
          have hy9 : 0 ≤ day ∧ day ≤ 27 := ⟨by omega, by omega⟩
          have hFd := hF.sd hy9
          refine m_aload_n (y := yiX1_last) dX1_last_51 rfl ?_
          refine m_aload_n (y := yiX1_last) dX1_last_52 rfl ?_
          refine j_iload_n (y := yiX1_last) dX1_last_53 rfl ?_
          refine m_invV (y := yiX1_last) (rB := (RX1, TX1, 10)) [(vi day)] dX1_last_54 hx rfl q1869 q1871 qs33 q123 q1872 rfl (c_X1_runsAbout K 9 h z x sg day (by omega) hF.1 hCl hO hW0 hz1 hy9 ⟨by omega, by omega⟩) pdX1_runsAbout ⟨Nat.le_of_ble_eq_true rfl, by decide, by omega⟩ (kk_r fun r54 h54 q54 => ?_) kx_r
          obtain ⟨e0', re, n, rix, p, hRu, n3, y3, z3, f3, l3, k03⟩ := q54
          have hx : h54.2.2 x = some (true, .inr (0, [(.ref ch), (.ref wk), (vi (sg.1 1)), (.ref sv), (.ref tr), (.ref lt), (.ref ws), (.ref tx), (vi (sg.1 21)), (va_rf kp)])) := (f3 _ (by omega)).trans hx
          have hch : h54.2.2 ch = some (true, ia K 12 (sg.2 2)) := (f3 _ (by omega)).trans hch
          have fR : ∀ b, (b < h.1) → h54.2.2 b = h.2.2 b := fun b hb => (f3 b (by omega)).trans (fR b hb)
          refine mw_wf (fun hwf54 => ?_)
          obtain ⟨wr3, cap3, mc3, fr3, hro3, -⟩ := id hRu.1
          have he3 : e0' = e0 := by { have u9 := k03.symm.trans k0; injection u9 }
          rw [he3] at hRu
          have hro3 : h54.2.2 r54 = some (true, .inr (14, [(vi mc3), (.ref re), (vi n)])) := hro3
          have l_hro3 := hwf54 _ _ hro3
          refine m_invS (y := yiX1_last) [(.ref r54)] dX1_last_57 q2340 q2341 q123 q2342 (c_byArr K 14 h54 e0 r54 re n (sd sg day) rix p (by omega) hFd.1 hCl hcls.1 k11 k12 hRu ⟨k0, (f3 _ (by omega)).trans hE2⟩ ⟨by omega, by omega⟩) pdX1_byArrivalsBackward ⟨Nat.le_of_ble_eq_true rfl, by decide, by omega⟩ (kk_r fun r57 h57 q57 => ?_) kx_r
          obtain ⟨ea, m, q, ui, ci, hRd, m6, y6, z6, f6, l6⟩ := q57
          have hx : h57.2.2 x = some (true, .inr (0, [(.ref ch), (.ref wk), (vi (sg.1 1)), (.ref sv), (.ref tr), (.ref lt), (.ref ws), (.ref tx), (vi (sg.1 21)), (va_rf kp)])) := (f6 _ (by omega)).trans hx
          have hch : h57.2.2 ch = some (true, ia K 12 (sg.2 2)) := (f6 _ (by omega)).trans hch
          have hro3 : h57.2.2 r54 = some (true, .inr (14, [(vi mc3), (.ref re), (vi n)])) := (f6 _ (by omega)).trans hro3
          have fR : ∀ b, (b < h.1) → h57.2.2 b = h.2.2 b := fun b hb => (f6 b (by omega)).trans (fR b hb)
          refine mw_wf (fun hwf57 => ?_)
          refine m_aload_n (y := yiX1_last) dX1_last_60 rfl ?_
          refine j_iconst (y := yiX1_last) dX1_last_61 ?_
          refine m_invV (y := yiX1_last) (rB := (RX1, TX1, 10)) [(vi (-1))] dX1_last_62 hx rfl q916 q918 qs3 q123 q919 rfl (c_X1_closedWalks K 1 h57 x ch wk sv tr lt ws tx (sg.1 1) (sg.1 21) (-1) _ T (sg.2 3) (by omega) hx (hwk.1.up (fun b c e9 => by { have u9 := tg_at e9; exact (fR b (by omega)).trans u9.1 })) hwk.2 (hF.1.2 3) ⟨by omega, by omega⟩ ⟨by omega, by omega⟩ ⟨by omega, by omega⟩) pdX1_closedWalks ⟨Nat.le_of_ble_eq_true rfl, by decide, by omega⟩ (kk_r fun r62 h62 q62 => ?_) kx_r
          obtain ⟨rfl, y14, z14, f14, W, hW1, hW2, hW3⟩ := q62
          have hx : h62.2.2 x = some (true, .inr (0, [(.ref ch), (.ref wk), (vi (sg.1 1)), (.ref sv), (.ref tr), (.ref lt), (.ref ws), (.ref tx), (vi (sg.1 21)), (va_rf kp)])) := (f14 _ (by omega)).trans hx
          have hch : h62.2.2 ch = some (true, ia K 12 (sg.2 2)) := (f14 _ (by omega)).trans hch
          have hro3 : h62.2.2 r54 = some (true, .inr (14, [(vi mc3), (.ref re), (vi n)])) := (f14 _ (by omega)).trans hro3
          have fR : ∀ b, (b < h.1) → h62.2.2 b = h.2.2 b := fun b hb => (f14 b (by omega)).trans (fR b hb)
          refine mw_wf (fun hwf62 => ?_)
          have hup6 : ∀ b c, h57.2.2 b = some c → h62.2.2 b = some c := fr_up hwf57 f14
          have hup3 : ∀ b c, h54.2.2 b = some c → h57.2.2 b = some c := fr_up hwf54 f6
          refine j_iload_n (y := yiX1_last) dX1_last_65 rfl ?_
          refine j_iload_n (y := yiX1_last) dX1_last_66 rfl ?_
          refine j_iload (y := yiX1_last) dX1_last_67 rfl ?_
          refine m_invV (y := yiX1_last) (rB := (RX1, TX1, 10)) [(.ref r57), (.ref h57.1), (vi fr), (vi to), (vi mi)] dX1_last_69 hx rfl q2343 q2345 qs51 q123 q2346 rfl (c_X1_lastBy K 6 h62 e0 x ch wk sv tr lt ws tx r57 ea r54 re h57.1 (sg.1 21) n m _ W (sd sg day) rix ui ci p q fr to mi (by omega) hFd hcut k8 ⟨hx, hch⟩ (WayA.of (cut := -1) (show 0 ≤ sg.1 1 ∧ sg.1 1 ≤ 12 from ⟨by omega, by omega⟩) (hF.1.2 3) hWay (hW1.up (fun b c e9 => (rs_at e9).1)) hW2) ((hRu.up hup3).up hup6) (hRd.up hup6) (by omega) ⟨by omega, by show fr < sg.1 1; omega⟩ ⟨by omega, by show to < sg.1 1; omega⟩ ⟨by omega, by omega⟩ ⟨by omega, by omega⟩) pdX1_lastBy ⟨Nat.le_of_ble_eq_true rfl, by decide, by omega⟩ (kk_z fun r69 h69 q69 => ?_) kx_z
          obtain ⟨hLV, hvb, y69, z69, f69⟩ := q69
          have hx : h69.2.2 x = some (true, .inr (0, [(.ref ch), (.ref wk), (vi (sg.1 1)), (.ref sv), (.ref tr), (.ref lt), (.ref ws), (.ref tx), (vi (sg.1 21)), (va_rf kp)])) := (f69 _ (by omega)).trans hx
          have hch : h69.2.2 ch = some (true, ia K 12 (sg.2 2)) := (f69 _ (by omega)).trans hch
          have hro3 : h69.2.2 r54 = some (true, .inr (14, [(vi mc3), (.ref re), (vi n)])) := (f69 _ (by omega)).trans hro3
          have fR : ∀ b, (b < h.1) → h69.2.2 b = h.2.2 b := fun b hb => (f69 b (by omega)).trans (fR b hb)
          refine mw_wf (fun hwf69 => ?_)
          refine j_istore (y := yiX1_last) [some (.ref x), some (vi fr), some (vi to), some (vi day), some (vi mi), some (vi r69)] dX1_last_72 (by decide) rfl rfl ?_
          refine j_iload (y := yiX1_last) dX1_last_74 rfl ?_
          refine j_if_lt (y := yiX1_last) 83 dX1_last_76 (by decide) ⟨by omega, by omega⟩ (fun c76 => ?_) (fun c76 => ?_)
          · refine j_iconst (y := yiX1_last) dX1_last_83 ?_
            refine m_invS (y := yiX1_last) [(vi 0)] dX1_last_84 q922 q923 q123 q924 (c_X1_requireThere_0 K 6 h69 (by omega) ⟨by omega, by omega⟩) pdX1_requireThere ⟨Nat.le_of_ble_eq_true rfl, by decide, by omega⟩ kk_t (kx_t fun q84 h84 x84 => ?_)
            subst hQ; exact mx_ret rfl (Or.inr ⟨2, RJ17, q84, rfl, rfl, fun _ => ⟨QFr.th x84 ⟨by omega, by omega⟩ ⟨by omega, by omega⟩ fR, Or.inr (Or.inr ⟨by omega, by omega, r69, hLV, Or.inl ⟨by omega, rfl⟩⟩)⟩⟩)
          · refine j_iconst (y := yiX1_last) dX1_last_79 ?_
            refine m_goto (y := yiX1_last) 84 dX1_last_80 (by decide) ?_
            refine m_invS (y := yiX1_last) [(vi 1)] dX1_last_84 q922 q923 q123 q924 (c_X1_requireThere_1 K 0 h69) pdX1_requireThere ⟨Nat.le_of_ble_eq_true rfl, by decide, by omega⟩ (kk_v fun h84 q84 => ?_) kx_v
            obtain rfl := q84
            refine j_iload (y := yiX1_last) dX1_last_87 rfl ?_
            subst hQ; exact j_wret (y := yiX1_last) dX1_last_89 rfl (⟨QFr.of (by omega) (by omega) fR, Or.inr (Or.inr ⟨by omega, by omega, r69, hLV, Or.inr ⟨by omega, rfl, rfl⟩⟩)⟩)
