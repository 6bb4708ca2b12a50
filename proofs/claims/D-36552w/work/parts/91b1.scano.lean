/-! Lastbus.scan with a run one is in: labels ahead of walks and rides -/
theorem oa_ne_ia {K : KT} {n m : Nat} {w w' : Bool} {f : Int → Option Nat} {g : Int → Int} : ¬ (some (w, oaE K n f) = some (w', ia K m g)) := fun h => by
  injection h with h
  injection h with _ h
  injection h with h
  injection h with _ h
  injection h with _ h
  cases h
theorem rs_eqw {lo hi : Nat} {h h' : MH} (e : ∀ b, lo ≤ b → b < hi → h'.2.2 b = h.2.2 b) : rs lo hi h' = rs lo hi h := by
  unfold rs
  congr 2
  funext b
  by_cases hb : lo ≤ b ∧ b < hi
  · rw [if_pos hb, if_pos hb, e b hb.1 hb.2]
  · rw [if_neg hb, if_neg hb]
set_option maxHeartbeats 3000000 in
theorem c_scanO2 (K : KT) (d : Nat) (h : MH) (e0 x wy lb A B R ch wk sv tr lt ws tx a e ra re : Nat) (chg fl n m : Int) (kp : Value) (fa fb fr : Int → Int) (W : Int → Int → Int) (sg : TS) (f0 : Int → Int) (E : EV) (rix ui ci : Int → Int) (p q : Int → Nat) (uo co : Int) (wl wh : Nat) (hwin : lb < wl ∧ wh ≤ A) (hd : 5 ≤ d) (hF : WF sg) (hcut : -1 ≤ sg.1 5 ∧ sg.1 5 ≤ 11) (h8 : kV K 8 = vi 1) (hL : LbC K h x (sg.1 5) wy lb A B R chg fa fb fr) (hc : chg = 0 ∨ chg = 1) (hN : lb < A ∧ A < B ∧ B < R) (hx : (rs 0 lb h).2.2 x = some (true, .inr (0, [.ref ch, .ref wk, vi (sg.1 1), .ref sv, .ref tr, .ref lt, .ref ws, .ref tx, vi fl, kp]))) (hch : (rs 0 lb h).2.2 ch = some (true, ia K 12 (sg.2 2))) (hWy : WyC K (rs wl wh h) wy W) (hWv : ∀ i j, 0 ≤ i → i < sg.1 1 → 0 ≤ j → j < sg.1 1 → W i j = sg.2 4 (12 * i + j)) (hWd : ∀ i j, 0 ≤ i → i < 12 → 0 ≤ j → j < 12 → 0 ≤ W i j ∧ (W i j = 1000000 ∨ W i j ≤ 250000)) (hRu : RunsA K (rs 0 lb h) e0 ra re n sg rix p) (hRd : RdsA K h e0 a e m sg rix n p (fun r c => lvI sg r c) q ui ci) (huo : 0 ≤ uo ∧ uo < n) (hco : In co) (hown : 0 ≤ lvI sg (rix uo) co) (hm63 : m ≤ 63) (hC : ClE sg f0 (fun r c => r = rix uo ∧ c = co) E) (hCL : CLab sg f0 E0 fa fb fr) (hRg : Rng fa ∧ Rng fb ∧ Rng fr) (hz : h.1 + 5 ≤ kC K ∧ h.2.1 + 30 ≤ kS K) : Mt K yiX1_scan d [.ref x, .ref lb, .ref a, .ref (p uo), vi co] h (Rv fun h' => LbQ K h' x (sg.1 5) wy lb A B R sg f0 E ∧ (h.1 ≤ h'.1 ∧ h'.1 ≤ h.1 + 4) ∧ (h.2.1 ≤ h'.2.1 ∧ h'.2.1 ≤ h.2.1 + 10) ∧ ∀ b, (b < h.1 ∧ b ≠ lb ∧ b ≠ A ∧ b ≠ B ∧ b ≠ R) → h'.2.2 b = h.2.2 b) := by
  have hn72 := hRu.num
  have hRP := hRu.rp
  have dGo := goDec
  have dSm := smDec
  have f1b := of1 (hF.1.1 1)
  have hLst := hRd.lst hF.1 hn72 hRP.1
  have hD := hF.2.2.2
  obtain ⟨hq, hA, hB, hR⟩ := hL
  have hq0 := hq
  have hA0 := hA
  have hB0 := hB
  have hR0 := hR
  obtain ⟨wr, capr, mca, frr, hro0, hre0, hae, h0, hw, hcap, hrf, hrno⟩ := hRd.1
  have hro := hro0
  have ro1 : a ≠ lb := ne_oo hro hq (by decide)
  have ro2 : a ≠ A := ne_oa hro hA
  have ro3 : a ≠ B := ne_oa hro hB
  have ro4 : a ≠ R := ne_oa hro hR
  have hre := hre0
  have re1 : e ≠ lb := (ne_oa hq hre).symm
  have re2 : e ≠ A := fun e9 => by rw [e9, hA] at hre; exact oa_ne_ia hre.symm
  have re3 : e ≠ B := fun e9 => by rw [e9, hB] at hre; exact oa_ne_ia hre.symm
  have re4 : e ≠ R := fun e9 => by rw [e9, hR] at hre; exact oa_ne_ia hre.symm
  have hown0 : ∀ r c, (fun r c => r = rix uo ∧ c = co) r c → 0 ≤ lvI sg r c := fun r c hh => by rw [hh.1, hh.2]; exact hown
  have hbWs : bW W := fun i j a b c d => by have := hWd i j a b c d; omega
  have hchb := fun j a b => oa2 (hF.1.2 2) j a b
  have hco1 := hco.1
  have hco2 := hco.2
  have hrj : ∀ u, 0 ≤ u → u < n → rix u = rix uo → u = uo := fun u a b e9 => by
    by_cases l1 : u < uo
    · have := hRu.2.2.1 u uo a l1 huo.2; omega
    · by_cases l2 : uo < u
      · have := hRu.2.2.1 uo u huo.1 l2 b; omega
      · omega
  obtain ⟨hoko, g1o, g2o, g3o, hRCo, -⟩ := hRu.run huo
  obtain ⟨sao, aao, dao, hpo0, -⟩ := hRCo
  obtain ⟨hpo, -, lpo⟩ := rs_at hpo0
  refine mt_ofQ (by decide) (Nat.le_of_ble_eq_true rfl) (fun Q hQ => ?_)
  show MW K yiX1_scan d h 0 [some (.ref x), some (.ref lb), some (.ref a), some (.ref (p uo)), some (vi co), none, none, none, none] [] Q
  refine mw_wf (fun hwf => ?_)
  have l_hq := hwf _ _ hq
  have l_hA := hwf _ _ hA
  have l_hB := hwf _ _ hB
  have l_hR := hwf _ _ hR
  have l_hro := hwf _ _ hro
  have l_hre := hwf _ _ hre
  have l_hpo := hwf _ _ hpo
  have fR : ∀ b, (b < h.1 ∧ b ≠ lb ∧ b ≠ A ∧ b ≠ B ∧ b ≠ R) → h.2.2 b = h.2.2 b := fun _ _ => rfl
  refine m_new (y := yiX1_scan) kc_16 3 dX1_scan_0 q808 q834 q143 _ rfl ⟨by omega, by omega⟩ (hp_new fun g1 g1H => ?_)
  have hq : g1.2.2 lb = some (true, .inr (9, [(vi (sg.1 5)), (.ref wy), (.ref A), (.ref B), (.ref R), (vi chg), (.ref x)])) := (g1H.2.2.2 _ (by (repeat' apply And.intro) <;> omega)).trans hq
  have hA : g1.2.2 A = some (true, ia K 12 fa) := (g1H.2.2.2 _ (by (repeat' apply And.intro) <;> omega)).trans hA
  have hB : g1.2.2 B = some (true, ia K 12 fb) := (g1H.2.2.2 _ (by (repeat' apply And.intro) <;> omega)).trans hB
  have hR : g1.2.2 R = some (true, ia K 12 fr) := (g1H.2.2.2 _ (by (repeat' apply And.intro) <;> omega)).trans hR
  have hro : g1.2.2 a = some (true, .inr (14, [(vi mca), (.ref e), (vi m)])) := (g1H.2.2.2 _ (by (repeat' apply And.intro) <;> omega)).trans hro
  have hre : g1.2.2 e = some (wr, oaE K capr frr) := (g1H.2.2.2 _ (by (repeat' apply And.intro) <;> omega)).trans hre
  have hpo : g1.2.2 (p uo) = some (true, .inr (7, [(vi uo), (vi (rix uo % 24)), (vi (rix uo / 24 - 1)), (.ref sao), (.ref aao), (.ref dao)])) := (g1H.2.2.2 _ (by (repeat' apply And.intro) <;> omega)).trans hpo
  have fR : ∀ b, (b < h.1 ∧ b ≠ lb ∧ b ≠ A ∧ b ≠ B ∧ b ≠ R) → g1.2.2 b = h.2.2 b := fun b hb => (g1H.2.2.2 b (by (repeat' apply And.intro) <;> omega)).trans (fR b hb)
  have fg1 : g1.2.2 h.1 = some (true, .inr (16, [.null, (vi 0), (vi 0)])) := g1H.2.2.1
  have g11 := g1H.1
  have g12 := g1H.2.1
  refine m_dup (y := yiX1_scan) dX1_scan_3 rfl ?_
  refine m_invI (y := yiX1_scan) [] dX1_scan_4 q934 q935 q143 q936 rfl rfl (c_J18_init K 3 g1 h.1 (by omega) fg1 ⟨by omega, by omega⟩) pdJ18_init ⟨Nat.le_of_ble_eq_true rfl, by decide, by omega⟩ (kk_v fun h4 q4 => ?_) kx_v
  obtain ⟨q4, y4, z4, f4⟩ := q4
  have hbs := q4.1
  have hq : h4.2.2 lb = some (true, .inr (9, [(vi (sg.1 5)), (.ref wy), (.ref A), (.ref B), (.ref R), (vi chg), (.ref x)])) := (f4 _ (by (repeat' apply And.intro) <;> omega)).trans hq
  have hA : h4.2.2 A = some (true, ia K 12 fa) := (f4 _ (by (repeat' apply And.intro) <;> omega)).trans hA
  have hB : h4.2.2 B = some (true, ia K 12 fb) := (f4 _ (by (repeat' apply And.intro) <;> omega)).trans hB
  have hR : h4.2.2 R = some (true, ia K 12 fr) := (f4 _ (by (repeat' apply And.intro) <;> omega)).trans hR
  have hro : h4.2.2 a = some (true, .inr (14, [(vi mca), (.ref e), (vi m)])) := (f4 _ (by (repeat' apply And.intro) <;> omega)).trans hro
  have hre : h4.2.2 e = some (wr, oaE K capr frr) := (f4 _ (by (repeat' apply And.intro) <;> omega)).trans hre
  have hpo : h4.2.2 (p uo) = some (true, .inr (7, [(vi uo), (vi (rix uo % 24)), (vi (rix uo / 24 - 1)), (.ref sao), (.ref aao), (.ref dao)])) := (f4 _ (by (repeat' apply And.intro) <;> omega)).trans hpo
  have fR : ∀ b, (b < h.1 ∧ b ≠ lb ∧ b ≠ A ∧ b ≠ B ∧ b ≠ R) → h4.2.2 b = h.2.2 b := fun b hb => (f4 b (by (repeat' apply And.intro) <;> omega)).trans (fR b hb)
  refine mw_wf (fun hwf4 => ?_)
  have l_hbs4 := hwf4 _ _ hbs
  refine m_astore (y := yiX1_scan) dX1_scan_7 (by decide) rfl ?_
  show MW K yiX1_scan d h4 9 [some (.ref x), some (.ref lb), some (.ref a), some (.ref (p uo)), some (vi co), some (.ref h.1), none, none, none] [] Q
  refine m_aload_n (y := yiX1_scan) dX1_scan_9 rfl ?_
  refine m_invF (y := yiX1_scan) (rB := (RJ2, TJ2, 3)) [] dX1_scan_10 hro rfl q1932 q1934 q1933 rfl q1936 q717 q1938 q1937 q1935 q126 q719 ⟨by decide, by decide⟩ (by show _ = some 0; decide +kernel) (c_J2_iterator K 2 h4 _ _ _ _ (by omega) hro ⟨by omega, by omega⟩) pdJ2_iterator ⟨Nat.le_of_ble_eq_true rfl, by decide, by omega⟩ (kk_r fun r10 h10 q10 => ?_) kx_r
  obtain ⟨rfl, q10⟩ := q10
  have y10 := q10.1
  have z10 := q10.2.1
  have it10 := q10.2.2.1
  have hq : h10.2.2 lb = some (true, .inr (9, [(vi (sg.1 5)), (.ref wy), (.ref A), (.ref B), (.ref R), (vi chg), (.ref x)])) := (q10.2.2.2 _ (by (repeat' apply And.intro) <;> omega)).trans hq
  have hA : h10.2.2 A = some (true, ia K 12 fa) := (q10.2.2.2 _ (by (repeat' apply And.intro) <;> omega)).trans hA
  have hB : h10.2.2 B = some (true, ia K 12 fb) := (q10.2.2.2 _ (by (repeat' apply And.intro) <;> omega)).trans hB
  have hR : h10.2.2 R = some (true, ia K 12 fr) := (q10.2.2.2 _ (by (repeat' apply And.intro) <;> omega)).trans hR
  have hro : h10.2.2 a = some (true, .inr (14, [(vi mca), (.ref e), (vi m)])) := (q10.2.2.2 _ (by (repeat' apply And.intro) <;> omega)).trans hro
  have hre : h10.2.2 e = some (wr, oaE K capr frr) := (q10.2.2.2 _ (by (repeat' apply And.intro) <;> omega)).trans hre
  have hpo : h10.2.2 (p uo) = some (true, .inr (7, [(vi uo), (vi (rix uo % 24)), (vi (rix uo / 24 - 1)), (.ref sao), (.ref aao), (.ref dao)])) := (q10.2.2.2 _ (by (repeat' apply And.intro) <;> omega)).trans hpo
  have hbs : h10.2.2 h.1 = some (true, .inr (16, [(.ref g1.1), (vi 0), (vi 0)])) := (q10.2.2.2 _ (by (repeat' apply And.intro) <;> omega)).trans hbs
  have fR : ∀ b, (b < h.1 ∧ b ≠ lb ∧ b ≠ A ∧ b ≠ B ∧ b ≠ R) → h10.2.2 b = h.2.2 b := fun b hb => (q10.2.2.2 b (by (repeat' apply And.intro) <;> omega)).trans (fR b hb)
  refine mw_wf (fun hwf10 => ?_)
  have l_it1010 := hwf10 _ _ it10
  have hrs : ∀ g' : MH, (∀ b, (b < h.1 ∧ b ≠ lb ∧ b ≠ A ∧ b ≠ B ∧ b ≠ R) → g'.2.2 b = h.2.2 b) → rs 0 lb g' = rs 0 lb h := fun g' q9 => rs_eq (fun b hb => q9 b (by omega))
  have hrw9 : ∀ g' : MH, (∀ b, (b < h.1 ∧ b ≠ lb ∧ b ≠ A ∧ b ≠ B ∧ b ≠ R) → g'.2.2 b = h.2.2 b) → rs wl wh g' = rs wl wh h := fun g' q9 => rs_eqw (fun b b1 b2 => q9 b (by omega))
  have q4b : BsA K h10 h.1 g1.1 0 1 (fun _ => 0) := ⟨hbs, (q10.2.2.2 _ (by omega)).trans q4.2.1, q4.2.2⟩
  refine m_astore (y := yiX1_scan) dX1_scan_15 (by decide) rfl ?_
  show MW K yiX1_scan d h10 17 [some (.ref x), some (.ref lb), some (.ref a), some (.ref (p uo)), some (vi co), some (.ref h.1), some (.ref h4.1), none, none] [] Q
  have L17 : ∀ (N : Nat) (i l : Int) (bw : Nat) (nn : Int) (len : Nat) (fB : Int → Int64) (chg : Int) (fa fb fr : Int → Int) (g : MH), (m - i).toNat = N → (g.2.2 lb = some (true, .inr (9, [(vi (sg.1 5)), (.ref wy), (.ref A), (.ref B), (.ref R), (vi chg), (.ref x)]))) → (g.2.2 A = some (true, ia K 12 fa)) → (g.2.2 B = some (true, ia K 12 fb)) → (g.2.2 R = some (true, ia K 12 fr)) → (g.2.2 a = some (true, .inr (14, [(vi mca), (.ref e), (vi m)]))) → (g.2.2 e = some (wr, oaE K capr frr)) → (g.2.2 (p uo) = some (true, .inr (7, [(vi uo), (vi (rix uo % 24)), (vi (rix uo / 24 - 1)), (.ref sao), (.ref aao), (.ref dao)]))) → (g.2.2 h4.1 = some (true, .inr (15, [(vi i), (vi l), (vi mca), (.ref a)]))) → (g.2.2 h.1 = some (true, .inr (16, [(.ref bw), (vi nn), (vi 0)]))) → (∀ b, (b < h.1 ∧ b ≠ lb ∧ b ≠ A ∧ b ≠ B ∧ b ≠ R) → g.2.2 b = h.2.2 b) → (0 ≤ i ∧ i ≤ m) → (BsA K g h.1 bw nn len fB ∧ len ≤ 2 ∧ (bw = h.1 + 1 ∨ h.1 + 3 ≤ bw)) → (∀ u, 0 ≤ u → (inB fB u ↔ InP sg f0 (fun r c => r = rix uo ∧ c = co) E rix ui ci i u)) → (CLab sg f0 (ScP sg f0 (fun r c => r = rix uo ∧ c = co) E rix ui ci i) fa fb fr) → (Rng fa ∧ Rng fb ∧ Rng fr) → (chg = 0 ∨ chg = 1) → ((h.1 + 3 ≤ g.1 ∧ g.1 ≤ h.1 + 2 + len) ∧ h.2.1 + 8 ≤ g.2.1 ∧ g.2.1 + 2 ≤ h.2.1 + 8 + 2 * len) → MW K yiX1_scan d g 17 [some (.ref x), some (.ref lb), some (.ref a), some (.ref (p uo)), some (vi co), some (.ref h.1), some (.ref h4.1), none, none] [] Q := by
    intro N
    induction N using Nat.strongRecOn with
    | _ N ih17 =>
    intro i l bw nn len fB chg fa fb fr g hN17 hq hA hB hR hro hre hpo it10 hbs fR hi hBs hIn hCL hRg hc hg
    refine mw_wf (fun hwf17 => ?_)
    have l_hq17 := hwf17 _ _ hq
    have l_hA17 := hwf17 _ _ hA
    have l_hB17 := hwf17 _ _ hB
    have l_hR17 := hwf17 _ _ hR
    have l_hro17 := hwf17 _ _ hro
    have l_hre17 := hwf17 _ _ hre
    have l_hpo17 := hwf17 _ _ hpo
    have l_it1017 := hwf17 _ _ it10
    have l_hbs17 := hwf17 _ _ hbs
    refine m_aload (y := yiX1_scan) dX1_scan_17 rfl ?_
    refine m_invF (y := yiX1_scan) (rB := (RJ28, TJ28, 4)) [] dX1_scan_19 it10 rfl q744 q746 q745 rfl q748 q750 q751 q749 q747 q156 q752 ⟨by decide, by decide⟩ (by show _ = some 0; decide +kernel) (c_J28_hasNext K 0 g _ _ _ _ _ _ _ it10 hro ⟨by omega, by omega, by omega⟩) pdJ28_hasNext ⟨Nat.le_of_ble_eq_true rfl, by decide, by omega⟩ (kk_z fun r19 h19 q19 => ?_) kx_z
    obtain ⟨rfl, rfl⟩ := q19
    refine mw_top (x' := bz (i ≠ m)) rfl ?_
    refine j_bz_eq (y := yiX1_scan) 145 dX1_scan_24 (by decide) (fun c24 => ?_) (fun c24 => ?_)
    · subst hQ; exact j_vret (y := yiX1_scan) dX1_scan_145 rfl (by { have em : i = m := (by omega); refine ⟨⟨chg, fa, fb, fr, ⟨hq, hA, hB, hR⟩, hc, hCL.cg ?_, hRg⟩, by omega, by omega, fR⟩; rw [em]; exact ScP.all hF hown0 hC hRP hLst })
    · refine m_aload (y := yiX1_scan) dX1_scan_27 rfl ?_
      refine m_invF (y := yiX1_scan) (rB := (RJ28, TJ28, 4)) [] dX1_scan_29 it10 rfl q757 q759 q758 rfl q760 q762 q763 q761 q747 q156 q764 ⟨by decide, by decide⟩ (by show _ = some 0; decide +kernel) (c_J28_next K 1 g _ _ _ _ _ _ _ _ _ _ _ (by omega) it10 hro hre ⟨by omega, by omega, by omega⟩ ⟨by omega, by omega, by omega, by omega⟩ (hrf _ (by omega) (by omega))) pdJ28_next ⟨Nat.le_of_ble_eq_true rfl, by decide, by omega⟩ (kk_r fun r29 h29 q29 => ?_) kx_r
      obtain ⟨rfl, q29⟩ := q29
      have y29 := q29.1
      have z29 := q29.2.1
      have it10 := q29.2.2.1
      have hq : h29.2.2 lb = some (true, .inr (9, [(vi (sg.1 5)), (.ref wy), (.ref A), (.ref B), (.ref R), (vi chg), (.ref x)])) := (q29.2.2.2 _ (by (repeat' apply And.intro) <;> omega)).trans hq
      have hA : h29.2.2 A = some (true, ia K 12 fa) := (q29.2.2.2 _ (by (repeat' apply And.intro) <;> omega)).trans hA
      have hB : h29.2.2 B = some (true, ia K 12 fb) := (q29.2.2.2 _ (by (repeat' apply And.intro) <;> omega)).trans hB
      have hR : h29.2.2 R = some (true, ia K 12 fr) := (q29.2.2.2 _ (by (repeat' apply And.intro) <;> omega)).trans hR
      have hro : h29.2.2 a = some (true, .inr (14, [(vi mca), (.ref e), (vi m)])) := (q29.2.2.2 _ (by (repeat' apply And.intro) <;> omega)).trans hro
      have hre : h29.2.2 e = some (wr, oaE K capr frr) := (q29.2.2.2 _ (by (repeat' apply And.intro) <;> omega)).trans hre
      have hpo : h29.2.2 (p uo) = some (true, .inr (7, [(vi uo), (vi (rix uo % 24)), (vi (rix uo / 24 - 1)), (.ref sao), (.ref aao), (.ref dao)])) := (q29.2.2.2 _ (by (repeat' apply And.intro) <;> omega)).trans hpo
      have hbs : h29.2.2 h.1 = some (true, .inr (16, [(.ref bw), (vi nn), (vi 0)])) := (q29.2.2.2 _ (by (repeat' apply And.intro) <;> omega)).trans hbs
      have fR : ∀ b, (b < h.1 ∧ b ≠ lb ∧ b ≠ A ∧ b ≠ B ∧ b ≠ R) → h29.2.2 b = h.2.2 b := fun b hb => (q29.2.2.2 b (by (repeat' apply And.intro) <;> omega)).trans (fR b hb)
      refine mw_wf (fun hwf29 => ?_)
      have l_it1029 := hwf29 _ _ it10
      have hqi0 := (hRd.2.1 i (by omega) (by omega))
      have hqi1 := hqi0.2.2
      have lqi := hwf _ _ hqi1
      have qi1 : q i ≠ lb := ne_oo hqi1 hq0 (by decide)
      have qi2 : q i ≠ A := ne_oa hqi1 hA0
      have qi3 : q i ≠ B := ne_oa hqi1 hB0
      have qi4 : q i ≠ R := ne_oa hqi1 hR0
      have hBs' : BsA K h29 h.1 bw nn len fB ∧ len ≤ 2 ∧ (bw = h.1 + 1 ∨ h.1 + 3 ≤ bw) := ⟨⟨hbs, (q29.2.2.2 _ (by omega)).trans hBs.1.2.1, hBs.1.2.2⟩, hBs.2⟩
      obtain ⟨hok, f1, f2, f3, hRC, hfx⟩ := hRu.run (u := ui i) hqi0.1
      have hok1 := hok.1
      have hok2 := hok.2.1
      have hnb := oa10 (hF.1.2 10) (rix (ui i) % 24) (by omega) (by omega)
      have hon1 := hqi0.2.1.1
      have hon2 := hqi0.2.1.2.1
      have hon3 := hqi0.2.1.2.2
      obtain ⟨sa, aa, da, hpu0, hsa0, haa0, hda0⟩ := id hRC
      obtain ⟨hpu1, -, lpu⟩ := rs_at hpu0
      have x0 := hfx (ci i) (by omega) (by omega)
      have x1 := hfx (ci i + 1) (by omega) (by omega)
      have hst := hF.2.1.run hok ⟨hon1, show ci i < sg.2 10 (rix (ui i) % 24) by omega⟩
      have hss := hF.2.1.run hok ⟨show 0 ≤ ci i + 1 by omega, show ci i + 1 < sg.2 10 (rix (ui i) % 24) by omega⟩
      have hlb := lvI_b hF.1 (r := rix (ui i)) (c := ci i) ⟨hok1, hok2⟩ ⟨hon1, by omega⟩
      have hcb := cmI_b hF.1 (r := rix (ui i)) (c := ci i + 1) ⟨hok1, hok2⟩ ⟨by omega, by omega⟩
      have hwv9 : ∀ j, 0 ≤ j → j < 12 → W (f1 (ci i + 1)) j < 1000000 → 0 ≤ W (f1 (ci i + 1)) j ∧ W (f1 (ci i + 1)) j ≤ 250000 := fun j a b c => by { have := hWd (f1 (ci i + 1)) j (by omega) (by omega) a b; omega }
      have hvv9 : ∀ j, 0 ≤ j → j < 12 → W (f1 (ci i + 1)) j < 1000000 → 0 ≤ vsO (f1 (ci i + 1)) (sg.2 2 (f1 (ci i + 1))) (W (f1 (ci i + 1))) j ∧ vsO (f1 (ci i + 1)) (sg.2 2 (f1 (ci i + 1))) (W (f1 (ci i + 1))) j ≤ 250000 := fun j a b c => by { have := hwv9 j a b c; have := hchb (f1 (ci i + 1)) (by omega) (by omega); unfold vsO; split <;> omega }
      have hsi := scan_iff hF hown0 hC hRP hLst (i := i) ⟨by omega, by omega⟩
      have hqc : h29.2.2 (q i) = some (true, .inr (8, [(.ref (p (ui i))), (vi (ci i)), (vi (lvI sg (rix (ui i)) (ci i)))])) := (fR _ (by omega)).trans hqi1
      have l_hqc := hwf29 _ _ hqc
      have hpu : h29.2.2 (p (ui i)) = some (true, .inr (7, [(vi (ui i)), (vi (rix (ui i) % 24)), (vi (rix (ui i) / 24 - 1)), (.ref sa), (.ref aa), (.ref da)])) := (fR _ (by omega)).trans hpu1
      have l_hpu := hwf29 _ _ hpu
      refine m_cast (y := yiX1_scan) dX1_scan_34 hqc rfl q1948 (Or.inl rfl) ?_
      refine m_astore (y := yiX1_scan) dX1_scan_37 (by decide) rfl ?_
      show MW K yiX1_scan d h29 39 [some (.ref x), some (.ref lb), some (.ref a), some (.ref (p uo)), some (vi co), some (.ref h.1), some (.ref h4.1), some (.ref (q i)), none] [] Q
      have J73 : ∀ (v : Int), (v = bz (SmP (ui i) uo (ci i) co)) → MW K yiX1_scan d h29 73 [some (.ref x), some (.ref lb), some (.ref a), some (.ref (p uo)), some (vi co), some (.ref h.1), some (.ref h4.1), some (.ref (q i)), none] [(vi v)] Q := by
        intro v hv
        refine mw_top (x' := bz (SmP (ui i) uo (ci i) co)) (hv) ?_
        refine j_istore (y := yiX1_scan) [some (.ref x), some (.ref lb), some (.ref a), some (.ref (p uo)), some (vi co), some (.ref h.1), some (.ref h4.1), some (.ref (q i)), some (vi (bz (SmP (ui i) uo (ci i) co)))] dX1_scan_73 (by decide) rfl rfl ?_
        have J113 : (RcP sg f0 (fun r c => r = rix uo ∧ c = co) E (rix (ui i)) (ci i + 1)) → MW K yiX1_scan d h29 113 [some (.ref x), some (.ref lb), some (.ref a), some (.ref (p uo)), some (vi co), some (.ref h.1), some (.ref h4.1), some (.ref (q i)), none] [] Q := by
          intro hrc
          refine m_aload (y := yiX1_scan) dX1_scan_113 rfl ?_
          refine m_aload (y := yiX1_scan) dX1_scan_115 rfl ?_
          refine m_getfN (y := yiX1_scan) kc_8 0 (by decide) dX1_scan_117 q1955 hqc rfl ?_
          refine m_getfN (y := yiX1_scan) kc_7 0 (by decide) dX1_scan_120 q1898 hpu rfl ?_
          refine m_invV (y := yiX1_scan) (rB := (RJ18, TJ18, 3)) [(vi (ui i))] dX1_scan_123 hbs rfl q1052 q1053 q1054 q143 q1055 rfl (c_J18_set K 4 h29 h.1 bw nn (ui i) len fB (by omega) h8 hBs'.1 ⟨by omega, by omega⟩ ⟨by omega, by omega⟩) pdJ18_set ⟨Nat.le_of_ble_eq_true rfl, by decide, by omega⟩ (kk_v fun h123 q123 => ?_) kx_v
          obtain ⟨bw2, len2, n2, fB2, p1, p2, p3, p4, p5, p6, p7⟩ := q123
          have hbs2 := p2.1
          have hq : h123.2.2 lb = some (true, .inr (9, [(vi (sg.1 5)), (.ref wy), (.ref A), (.ref B), (.ref R), (vi chg), (.ref x)])) := (p7 _ (by (repeat' apply And.intro) <;> omega)).trans hq
          have hA : h123.2.2 A = some (true, ia K 12 fa) := (p7 _ (by (repeat' apply And.intro) <;> omega)).trans hA
          have hB : h123.2.2 B = some (true, ia K 12 fb) := (p7 _ (by (repeat' apply And.intro) <;> omega)).trans hB
          have hR : h123.2.2 R = some (true, ia K 12 fr) := (p7 _ (by (repeat' apply And.intro) <;> omega)).trans hR
          have hro : h123.2.2 a = some (true, .inr (14, [(vi mca), (.ref e), (vi m)])) := (p7 _ (by (repeat' apply And.intro) <;> omega)).trans hro
          have hre : h123.2.2 e = some (wr, oaE K capr frr) := (p7 _ (by (repeat' apply And.intro) <;> omega)).trans hre
          have hpo : h123.2.2 (p uo) = some (true, .inr (7, [(vi uo), (vi (rix uo % 24)), (vi (rix uo / 24 - 1)), (.ref sao), (.ref aao), (.ref dao)])) := (p7 _ (by (repeat' apply And.intro) <;> omega)).trans hpo
          have it10 : h123.2.2 h4.1 = some (true, .inr (15, [(vi (i + 1)), (vi i), (vi mca), (.ref a)])) := (p7 _ (by (repeat' apply And.intro) <;> omega)).trans it10
          have hqc : h123.2.2 (q i) = some (true, .inr (8, [(.ref (p (ui i))), (vi (ci i)), (vi (lvI sg (rix (ui i)) (ci i)))])) := (p7 _ (by (repeat' apply And.intro) <;> omega)).trans hqc
          have hpu : h123.2.2 (p (ui i)) = some (true, .inr (7, [(vi (ui i)), (vi (rix (ui i) % 24)), (vi (rix (ui i) / 24 - 1)), (.ref sa), (.ref aa), (.ref da)])) := (p7 _ (by (repeat' apply And.intro) <;> omega)).trans hpu
          have fR : ∀ b, (b < h.1 ∧ b ≠ lb ∧ b ≠ A ∧ b ≠ B ∧ b ≠ R) → h123.2.2 b = h.2.2 b := fun b hb => (p7 b (by (repeat' apply And.intro) <;> omega)).trans (fR b hb)
          refine mw_wf (fun hwf123 => ?_)
          have l_hbs2123 := hwf123 _ _ hbs2
          have e1s : f1 (ci i + 1) = stI sg (rix (ui i)) (ci i + 1) := x1.1
          have e2s : f2 (ci i + 1) = cmI sg (rix (ui i)) (ci i + 1) := x1.2.1
          have hrs9 := hrs _ fR
          have hrw8 := hrw9 _ fR
          have lbw := hwf123 _ _ p2.2.1
          refine m_aload_n (y := yiX1_scan) dX1_scan_126 rfl ?_
          refine m_aload (y := yiX1_scan) dX1_scan_127 rfl ?_
          refine m_getfN (y := yiX1_scan) kc_8 0 (by decide) dX1_scan_129 q1955 hqc rfl ?_
          refine m_aload (y := yiX1_scan) dX1_scan_132 rfl ?_
          refine m_getfN (y := yiX1_scan) kc_8 1 (by decide) dX1_scan_134 q1957 hqc rfl ?_
          refine j_iconst (y := yiX1_scan) dX1_scan_137 ?_
          refine j_iadd (y := yiX1_scan) dX1_scan_138 ?_
          refine m_invV (y := yiX1_scan) (rB := (RX10, TX10, 7)) [(.ref (p (ui i))), (vi ((ci i) + 1))] dX1_scan_139 hq rfl q2157 q2158 q2159 q175 q2160 rfl (c_X10_comes K 2 h123 x (sg.1 5) wy lb A B R chg fa fb fr W wl wh lb ch wk sv tr lt ws tx (sg.1 1) fl kp (sg.2 2) (p (ui i)) (ui i) (rix (ui i) % 24) (rix (ui i) / 24 - 1) (sg.2 10 (rix (ui i) % 24)).toNat f1 f2 f3 (ci i + 1) (by omega) ⟨hq, hA, hB, hR⟩ hc (by rw [hrw8]; exact hWy) (Or.inr ⟨by omega, by omega⟩) ⟨Nat.le_refl _, by omega, by omega, by omega⟩ (by rw [hrs9]; exact hx) (by rw [hrs9]; exact hch) (by rw [hrs9]; exact hRC) ⟨by omega, by omega⟩ (by omega) ⟨by omega, by omega⟩ (by rw [e1s]; omega) (by rw [e2s]; omega) hcut hbWs hchb hRg.1.b hRg.2.1.b hRg.2.2.b) pdX10_comes ⟨Nat.le_of_ble_eq_true rfl, by decide, by omega⟩ (kk_v fun h139 q139 => ?_) kx_v
          obtain ⟨chg', fa', fb', fr', c1, ⟨k1, k2, k3, k4⟩, c2, c3, c4, c5, c6, c7, z1, z2, f9⟩ := q139
          have hro : h139.2.2 a = some (true, .inr (14, [(vi mca), (.ref e), (vi m)])) := (f9 _ (by (repeat' apply And.intro) <;> omega)).trans hro
          have hre : h139.2.2 e = some (wr, oaE K capr frr) := (f9 _ (by (repeat' apply And.intro) <;> omega)).trans hre
          have hpo : h139.2.2 (p uo) = some (true, .inr (7, [(vi uo), (vi (rix uo % 24)), (vi (rix uo / 24 - 1)), (.ref sao), (.ref aao), (.ref dao)])) := (f9 _ (by (repeat' apply And.intro) <;> omega)).trans hpo
          have it10 : h139.2.2 h4.1 = some (true, .inr (15, [(vi (i + 1)), (vi i), (vi mca), (.ref a)])) := (f9 _ (by (repeat' apply And.intro) <;> omega)).trans it10
          have hbs2 : h139.2.2 h.1 = some (true, .inr (16, [(.ref bw2), (vi n2), (vi 0)])) := (f9 _ (by (repeat' apply And.intro) <;> omega)).trans hbs2
          have hqc : h139.2.2 (q i) = some (true, .inr (8, [(.ref (p (ui i))), (vi (ci i)), (vi (lvI sg (rix (ui i)) (ci i)))])) := (f9 _ (by (repeat' apply And.intro) <;> omega)).trans hqc
          have hpu : h139.2.2 (p (ui i)) = some (true, .inr (7, [(vi (ui i)), (vi (rix (ui i) % 24)), (vi (rix (ui i) / 24 - 1)), (.ref sa), (.ref aa), (.ref da)])) := (f9 _ (by (repeat' apply And.intro) <;> omega)).trans hpu
          have fR : ∀ b, (b < h.1 ∧ b ≠ lb ∧ b ≠ A ∧ b ≠ B ∧ b ≠ R) → h139.2.2 b = h.2.2 b := fun b hb => (f9 b (by (repeat' apply And.intro) <;> omega)).trans (fR b hb)
          refine mw_wf (fun hwf139 => ?_)
          have l_k1139 := hwf139 _ _ k1
          have l_k2139 := hwf139 _ _ k2
          have l_k3139 := hwf139 _ _ k3
          have l_k4139 := hwf139 _ _ k4
          have hwd9 := (f9 bw2 (by omega)).trans p2.2.1
          rw [e1s, e2s] at c2 c3 c4
          rw [e1s] at hwv9 hvv9
          refine m_goto (y := yiX1_scan) 17 dX1_scan_142 (by decide) ?_
          refine mw_forget 7 ?_
          exact ih17 _ (by omega) _ _ _ _ _ _ _ _ _ _ _ rfl k1 k2 k3 k4 hro hre hpo it10 hbs2 fR (by omega) (by first | exact ⟨⟨hbs2, hwd9, p2.2.2⟩, p4.2 (by omega) hBs.2.1, by omega⟩ | exact hBs') (by first | exact fun u u0 => (p3 u u0).trans ((or_congr Iff.rfl (hIn u u0)).trans (InP.y hi.1 hrc).symm) | exact fun u u0 => (hIn u u0).trans (InP.no (fun h9 => by { rcases hsi.mpr h9 with a9 | a9 | a9; { have e9 := e852.mpr ((hIn (ui i) hqi0.1.1).mpr a9); rw [c88] at e9; exact absurd e9 (by decide) }; { exact c93 ⟨hrj _ hqi0.1.1 hqi0.1.2 a9.1, a9.2⟩ }; { exact c110 ⟨by rw [x0.1]; exact a9.1, ⟨by omega, by rw [x0.2.2]; exact a9.2.1⟩, by rw [x0.1, x0.2.2]; exact hgo.mpr a9.2.2⟩ } })).symm) (by first | (rw [c2, c3, c4]; exact hCL.ride hD hi.1 hrc rfl rfl hss (by omega) (fun j a b => hWv _ j hss.1 hss.2 a b)) | exact hCL.cg (ScP.no (fun h8 => (fun h9 => by { rcases hsi.mpr h9 with a9 | a9 | a9; { have e9 := e852.mpr ((hIn (ui i) hqi0.1.1).mpr a9); rw [c88] at e9; exact absurd e9 (by decide) }; { exact c93 ⟨hrj _ hqi0.1.1 hqi0.1.2 a9.1, a9.2⟩ }; { exact c110 ⟨by rw [x0.1]; exact a9.1, ⟨by omega, by rw [x0.2.2]; exact a9.2.1⟩, by rw [x0.1, x0.2.2]; exact hgo.mpr a9.2.2⟩ } }) h8.1))) (by first | (rw [c2, c3, c4]; exact ⟨hRg.1.rc (by omega) hwv9, hRg.2.1.rc (by omega) hwv9, hRg.2.2.rc (by omega) hvv9⟩) | exact hRg) (by first | exact c1 | exact hc) (by omega)
        refine m_aload (y := yiX1_scan) dX1_scan_75 rfl ?_
        refine m_aload (y := yiX1_scan) dX1_scan_77 rfl ?_
        refine m_getfN (y := yiX1_scan) kc_8 0 (by decide) dX1_scan_79 q1955 hqc rfl ?_
        refine m_getfN (y := yiX1_scan) kc_7 0 (by decide) dX1_scan_82 q1898 hpu rfl ?_
        refine m_invV (y := yiX1_scan) (rB := (RJ18, TJ18, 3)) [(vi (ui i))] dX1_scan_85 hbs rfl q809 q810 q811 q143 q812 rfl (c_J18_get K 1 h29 h.1 bw nn (ui i) len fB (by omega) h8 hBs'.1 ⟨by omega, by omega⟩) pdJ18_get ⟨Nat.le_of_ble_eq_true rfl, by decide, by omega⟩ (kk_z fun r85 h85 q85 => ?_) kx_z
        obtain ⟨rfl, e851, e852⟩ := q85
        refine j_if_ne (y := yiX1_scan) 113 dX1_scan_88 (by decide) ⟨by omega, by omega⟩ (fun c88 => ?_) (fun c88 => ?_)
        · refine mw_forget 8 ?_
          exact J113  (by first | exact hsi.mp (Or.inr (Or.inr ⟨by rw [← x0.1]; exact c110.1, hon3, hgo.mp (by rw [← x0.1, ← x0.2.2]; exact c110.2.2)⟩)) | exact hsi.mp (Or.inr (Or.inl ⟨by rw [c93.1], c93.2⟩)) | exact hsi.mp (Or.inl ((hIn (ui i) hqi0.1.1).mp (e852.mp (e851.resolve_left c88)))))
        · refine j_iload (y := yiX1_scan) dX1_scan_91 rfl ?_
          refine j_bz_ne (y := yiX1_scan) 113 dX1_scan_93 (by decide) (fun c93 => ?_) (fun c93 => ?_)
          · refine mw_forget 8 ?_
            exact J113  (by first | exact hsi.mp (Or.inr (Or.inr ⟨by rw [← x0.1]; exact c110.1, hon3, hgo.mp (by rw [← x0.1, ← x0.2.2]; exact c110.2.2)⟩)) | exact hsi.mp (Or.inr (Or.inl ⟨by rw [c93.1], c93.2⟩)) | exact hsi.mp (Or.inl ((hIn (ui i) hqi0.1.1).mp (e852.mp (e851.resolve_left c88)))))
          · have hgo := (hCL (stI sg (rix (ui i)) (ci i)) (by omega) (by omega) (lvI sg (rix (ui i)) (ci i)) (by omega)).1
            refine m_aload_n (y := yiX1_scan) dX1_scan_96 rfl ?_
            refine m_aload (y := yiX1_scan) dX1_scan_97 rfl ?_
            refine m_getfN (y := yiX1_scan) kc_8 0 (by decide) dX1_scan_99 q1955 hqc rfl ?_
            refine m_aload (y := yiX1_scan) dX1_scan_102 rfl ?_
            refine m_getfN (y := yiX1_scan) kc_8 1 (by decide) dX1_scan_104 q1957 hqc rfl ?_
            refine m_invV (y := yiX1_scan) (rB := (RX10, TX10, 7)) [(.ref (p (ui i))), (vi (ci i))] dX1_scan_107 hq rfl q2152 q2153 q2154 q175 q2155 rfl (c_X10_canGetOn K 2 h29 x (sg.1 5) wy lb A B R chg fa fb fr (p (ui i)) (ui i) (rix (ui i) % 24) (rix (ui i) / 24 - 1) (sg.2 10 (rix (ui i) % 24)).toNat f1 f2 f3 (ci i) (by omega) ⟨hq, hA, hB, hR⟩ (hRC.up (fun b c e9 => by { have u9 := rs_at e9; exact (fR b (by omega)).trans u9.1 })) ⟨by omega, by omega⟩ (by omega) (by rw [x0.1]; omega) (by rw [x0.2.2]; omega) hcut (by rw [x0.1]; have := hRg.2.2.b (stI sg (rix (ui i)) (ci i)) (by omega) (by omega); exact ⟨by omega, by omega⟩)) pdX10_canGetOn ⟨Nat.le_of_ble_eq_true rfl, by decide, by omega⟩ (kk_z fun r107 h107 q107 => ?_) kx_z
            obtain ⟨rfl, rfl⟩ := q107
            refine mw_top (x' := bz (GoP (sg.1 5) (((sg.2 10 (rix (ui i) % 24)).toNat : Nat) : Int) (ci i) f1 f3 fr)) (bz_iff Iff.rfl) ?_
            refine j_bz_eq (y := yiX1_scan) 142 dX1_scan_110 (by decide) (fun c110 => ?_) (fun c110 => ?_)
            · refine m_goto (y := yiX1_scan) 17 dX1_scan_142 (by decide) ?_
              refine mw_forget 7 ?_
              refine mw_forget 8 ?_
              exact ih17 _ (by omega) _ _ _ _ _ _ _ _ _ _ _ rfl hq hA hB hR hro hre hpo it10 hbs fR (by omega) (by first | exact ⟨⟨hbs2, hwd9, p2.2.2⟩, p4.2 (by omega) hBs.2.1, by omega⟩ | exact hBs') (by first | exact fun u u0 => (p3 u u0).trans ((or_congr Iff.rfl (hIn u u0)).trans (InP.y hi.1 hrc).symm) | exact fun u u0 => (hIn u u0).trans (InP.no (fun h9 => by { rcases hsi.mpr h9 with a9 | a9 | a9; { have e9 := e852.mpr ((hIn (ui i) hqi0.1.1).mpr a9); rw [c88] at e9; exact absurd e9 (by decide) }; { exact c93 ⟨hrj _ hqi0.1.1 hqi0.1.2 a9.1, a9.2⟩ }; { exact c110 ⟨by rw [x0.1]; exact a9.1, ⟨by omega, by rw [x0.2.2]; exact a9.2.1⟩, by rw [x0.1, x0.2.2]; exact hgo.mpr a9.2.2⟩ } })).symm) (by first | (rw [c2, c3, c4]; exact hCL.ride hD hi.1 hrc rfl rfl hss (by omega) (fun j a b => hWv _ j hss.1 hss.2 a b)) | exact hCL.cg (ScP.no (fun h8 => (fun h9 => by { rcases hsi.mpr h9 with a9 | a9 | a9; { have e9 := e852.mpr ((hIn (ui i) hqi0.1.1).mpr a9); rw [c88] at e9; exact absurd e9 (by decide) }; { exact c93 ⟨hrj _ hqi0.1.1 hqi0.1.2 a9.1, a9.2⟩ }; { exact c110 ⟨by rw [x0.1]; exact a9.1, ⟨by omega, by rw [x0.2.2]; exact a9.2.1⟩, by rw [x0.1, x0.2.2]; exact hgo.mpr a9.2.2⟩ } }) h8.1))) (by first | (rw [c2, c3, c4]; exact ⟨hRg.1.rc (by omega) hwv9, hRg.2.1.rc (by omega) hwv9, hRg.2.2.rc (by omega) hvv9⟩) | exact hRg) (by first | exact c1 | exact hc) (by omega)
            · refine mw_forget 8 ?_
              exact J113  (by first | exact hsi.mp (Or.inr (Or.inr ⟨by rw [← x0.1]; exact c110.1, hon3, hgo.mp (by rw [← x0.1, ← x0.2.2]; exact c110.2.2)⟩)) | exact hsi.mp (Or.inr (Or.inl ⟨by rw [c93.1], c93.2⟩)) | exact hsi.mp (Or.inl ((hIn (ui i) hqi0.1.1).mp (e852.mp (e851.resolve_left c88)))))
      refine m_aload_n (y := yiX1_scan) dX1_scan_39 rfl ?_
      refine m_ifnull (y := yiX1_scan) (x := (some (p uo))) 72 dX1_scan_40 (by decide) (fun h9 => nomatch h9) (fun _ _ => ?_)
      refine m_aload (y := yiX1_scan) dX1_scan_43 rfl ?_
      refine m_getfN (y := yiX1_scan) kc_8 0 (by decide) dX1_scan_45 q1955 hqc rfl ?_
      refine m_getfN (y := yiX1_scan) kc_7 0 (by decide) dX1_scan_48 q1898 hpu rfl ?_
      refine m_aload_n (y := yiX1_scan) dX1_scan_51 rfl ?_
      refine m_getfN (y := yiX1_scan) kc_7 0 (by decide) dX1_scan_52 q1898 hpo rfl ?_
      refine j_icmp_ne (y := yiX1_scan) 72 dX1_scan_55 (by decide) ⟨⟨by omega, by omega⟩, ⟨by omega, by omega⟩⟩ (fun c55 => ?_) (fun c55 => ?_)
      · refine j_iconst (y := yiX1_scan) dX1_scan_72 ?_
        exact J73 _ (by first | exact bz_t ⟨c55, c65⟩ | exact bz_f (fun h9 => c65 h9.2) | exact bz_f (fun h9 => c55 h9.1))
      · refine m_aload (y := yiX1_scan) dX1_scan_58 rfl ?_
        refine m_getfN (y := yiX1_scan) kc_8 1 (by decide) dX1_scan_60 q1957 hqc rfl ?_
        refine j_iload (y := yiX1_scan) dX1_scan_63 rfl ?_
        refine j_icmp_ne (y := yiX1_scan) 72 dX1_scan_65 (by decide) ⟨⟨by omega, by omega⟩, ⟨by omega, by omega⟩⟩ (fun c65 => ?_) (fun c65 => ?_)
        · refine j_iconst (y := yiX1_scan) dX1_scan_72 ?_
          exact J73 _ (by first | exact bz_t ⟨c55, c65⟩ | exact bz_f (fun h9 => c65 h9.2) | exact bz_f (fun h9 => c55 h9.1))
        · refine j_iconst (y := yiX1_scan) dX1_scan_68 ?_
          refine m_goto (y := yiX1_scan) 73 dX1_scan_69 (by decide) ?_
          exact J73 _ (by first | exact bz_t ⟨c55, c65⟩ | exact bz_f (fun h9 => c65 h9.2) | exact bz_f (fun h9 => c55 h9.1))
  exact L17 _ 0 (-1) _ 0 1 (fun _ => 0) chg fa fb fr _ rfl hq hA hB hR hro hre hpo it10 hbs fR (by omega) (⟨q4b, by omega, by omega⟩) (fun u u0 => ⟨fun h9 => absurd h9 (by { unfold inB; exact bt_0 _ }), fun ⟨j, a, b, c⟩ => by omega⟩) (hCL.cg (fun s t => ⟨fun h9 => h9.elim, fun ⟨j, a, b, c⟩ => by omega⟩)) hRg hc (by omega)
