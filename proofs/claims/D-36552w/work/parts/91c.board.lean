/-! Lastbus.runOf, onBoard -/
theorem c_X1_runOf (K : KT) (d : Nat) (h : MH) (e0 ra re : Nat) (n t : Int) (sg : TS) (rix : Int → Int) (p : Int → Nat) (hd : 2 ≤ d) (hRu : RunsA K h e0 ra re n sg rix p) (ht : 0 ≤ t ∧ t < 24) (hr : okR sg (24 + t)) (hz : h.1 + 1 ≤ kC K ∧ h.2.1 + 4 ≤ kS K) : Mt K yiX1_runOf d [.ref ra, vi t] h (Rr fun r h' => (∃ u, (0 ≤ u ∧ u < n) ∧ rix u = 24 + t ∧ r = p u) ∧ (h.1 ≤ h'.1 ∧ h'.1 ≤ h.1 + 1) ∧ (h.2.1 ≤ h'.2.1 ∧ h'.2.1 ≤ h.2.1 + 4) ∧ ∀ b, b < h.1 → h'.2.2 b = h.2.2 b) := by
  have hn72 := hRu.num
  obtain ⟨uo, u0, u1, u2⟩ := hRu.2.2.2 _ hr
  obtain ⟨wr, capr, mca, frr, hro, hre, hae, h0, hw, hcap, hrf, hrno⟩ := hRu.1
  refine mt_ofQ (by decide) (Nat.le_of_ble_eq_true rfl) (fun Q hQ => ?_)
  show MW K yiX1_runOf d h 0 [some (.ref ra), some (vi t), none, none] [] Q
  refine mw_wf (fun hwf => ?_)
  have l_hro := hwf _ _ hro
  have l_hre := hwf _ _ hre
  have fR : ∀ b, (b < h.1) → h.2.2 b = h.2.2 b := fun _ _ => rfl
  refine m_aload_n (y := yiX1_runOf) dX1_runOf_0 rfl ?_
  refine m_invF (y := yiX1_runOf) (rB := (RJ2, TJ2, 3)) [] dX1_runOf_1 hro rfl q1932 q1934 q1933 rfl q1936 q717 q1938 q1937 q1935 q126 q719 ⟨by decide, by decide⟩ (by show _ = some 0; decide +kernel) (c_J2_iterator K 2 h _ _ _ _ (by omega) hro ⟨by omega, by omega⟩) pdJ2_iterator ⟨Nat.le_of_ble_eq_true rfl, by decide, by omega⟩ (kk_r fun r1 h1 q1 => ?_) kx_r
  obtain ⟨rfl, q1⟩ := q1
  have y1 := q1.1
  have z1 := q1.2.1
  have it1 := q1.2.2.1
  have hro : h1.2.2 ra = some (true, .inr (14, [(vi mca), (.ref re), (vi n)])) := (q1.2.2.2 _ (by omega)).trans hro
  have hre : h1.2.2 re = some (wr, oaE K capr frr) := (q1.2.2.2 _ (by omega)).trans hre
  have fR : ∀ b, (b < h.1) → h1.2.2 b = h.2.2 b := fun b hb => (q1.2.2.2 b (by omega)).trans (fR b hb)
  refine mw_wf (fun hwf1 => ?_)
  have l_it11 := hwf1 _ _ it1
  refine m_astore_n (y := yiX1_runOf) dX1_runOf_6 (by decide) rfl ?_
  show MW K yiX1_runOf d h1 7 [some (.ref ra), some (vi t), some (.ref h.1), none] [] Q
  have L7 : ∀ (N : Nat) (i l : Int) (g : MH), (n - i).toNat = N → (g.2.2 ra = some (true, .inr (14, [(vi mca), (.ref re), (vi n)]))) → (g.2.2 re = some (wr, oaE K capr frr)) → (g.2.2 h.1 = some (true, .inr (15, [(vi i), (vi l), (vi mca), (.ref ra)]))) → (∀ b, (b < h.1) → g.2.2 b = h.2.2 b) → (0 ≤ i ∧ i ≤ uo) → (g.1 = h.1 + 1 ∧ g.2.1 = h.2.1 + 4) → MW K yiX1_runOf d g 7 [some (.ref ra), some (vi t), some (.ref h.1), none] [] Q := by
    intro N
    induction N using Nat.strongRecOn with
    | _ N ih7 =>
    intro i l g hN7 hro hre it1 fR hi hg
    refine mw_wf (fun hwf7 => ?_)
    have l_hro7 := hwf7 _ _ hro
    have l_hre7 := hwf7 _ _ hre
    have l_it17 := hwf7 _ _ it1
    refine m_aload_n (y := yiX1_runOf) dX1_runOf_7 rfl ?_
    refine m_invF (y := yiX1_runOf) (rB := (RJ28, TJ28, 4)) [] dX1_runOf_8 it1 rfl q744 q746 q745 rfl q748 q750 q751 q749 q747 q156 q752 ⟨by decide, by decide⟩ (by show _ = some 0; decide +kernel) (c_J28_hasNext K 0 g _ _ _ _ _ _ _ it1 hro ⟨by omega, by omega, by omega⟩) pdJ28_hasNext ⟨Nat.le_of_ble_eq_true rfl, by decide, by omega⟩ (kk_z fun r8 h8 q8 => ?_) kx_z
    obtain ⟨rfl, rfl⟩ := q8
    refine mw_top (x' := bz (i ≠ n)) rfl ?_
    refine j_bz_eq (y := yiX1_runOf) 46 dX1_runOf_13 (by decide) (fun c13 => ?_) (fun c13 => ?_)
    · exfalso; omega
    · have hqi0 := hRu.2.1 i (by omega) (by omega)
      obtain ⟨hok, f1, f2, f3, hRC, hfx⟩ := hRu.run (u := i) ⟨by omega, by omega⟩
      have hok1 := hok.1
      have hok2 := hok.2.1
      obtain ⟨sa, aa, da, hpu0, hsa0, haa0, hda0⟩ := id hRC
      refine m_aload_n (y := yiX1_runOf) dX1_runOf_16 rfl ?_
      refine m_invF (y := yiX1_runOf) (rB := (RJ28, TJ28, 4)) [] dX1_runOf_17 it1 rfl q757 q759 q758 rfl q760 q762 q763 q761 q747 q156 q764 ⟨by decide, by decide⟩ (by show _ = some 0; decide +kernel) (c_J28_next K 1 g _ _ _ _ _ _ _ _ _ _ _ (by omega) it1 hro hre ⟨by omega, by omega, by omega⟩ ⟨by omega, by omega, by omega, by omega⟩ (hrf _ (by omega) (by omega))) pdJ28_next ⟨Nat.le_of_ble_eq_true rfl, by decide, by omega⟩ (kk_r fun r17 h17 q17 => ?_) kx_r
      obtain ⟨rfl, q17⟩ := q17
      have y17 := q17.1
      have z17 := q17.2.1
      have it1 := q17.2.2.1
      have hro : h17.2.2 ra = some (true, .inr (14, [(vi mca), (.ref re), (vi n)])) := (q17.2.2.2 _ (by omega)).trans hro
      have hre : h17.2.2 re = some (wr, oaE K capr frr) := (q17.2.2.2 _ (by omega)).trans hre
      have fR : ∀ b, (b < h.1) → h17.2.2 b = h.2.2 b := fun b hb => (q17.2.2.2 b (by omega)).trans (fR b hb)
      refine mw_wf (fun hwf17 => ?_)
      have l_it117 := hwf17 _ _ it1
      have hpu : h17.2.2 (p i) = some (true, .inr (7, [(vi i), (vi (rix i % 24)), (vi (rix i / 24 - 1)), (.ref sa), (.ref aa), (.ref da)])) := (fR _ (hwf _ _ hpu0)).trans hpu0
      have l_hpu := hwf17 _ _ hpu
      refine m_cast (y := yiX1_runOf) dX1_runOf_22 hpu rfl q1881 (Or.inl rfl) ?_
      refine m_astore_n (y := yiX1_runOf) dX1_runOf_25 (by decide) rfl ?_
      show MW K yiX1_runOf d h17 26 [some (.ref ra), some (vi t), some (.ref h.1), some (.ref (p i))] [] Q
      refine m_aload_n (y := yiX1_runOf) dX1_runOf_26 rfl ?_
      refine m_getfN (y := yiX1_runOf) kc_7 1 (by decide) dX1_runOf_27 q1900 hpu rfl ?_
      refine j_iload_n (y := yiX1_runOf) dX1_runOf_30 rfl ?_
      refine j_icmp_ne (y := yiX1_runOf) 43 dX1_runOf_31 (by decide) ⟨⟨by omega, by omega⟩, ⟨by omega, by omega⟩⟩ (fun c31 => ?_) (fun c31 => ?_)
      · have hne9 : i ≠ uo := fun e9 => by { subst e9; omega }
        refine m_goto (y := yiX1_runOf) 7 dX1_runOf_43 (by decide) ?_
        refine mw_forget 3 ?_
        exact ih7 _ (by omega) _ _ _ rfl hro hre it1 fR (by omega) (by omega)
      · refine m_aload_n (y := yiX1_runOf) dX1_runOf_34 rfl ?_
        refine m_getfN (y := yiX1_runOf) kc_7 2 (by decide) dX1_runOf_35 q1902 hpu rfl ?_
        refine j_if_ne (y := yiX1_runOf) 43 dX1_runOf_38 (by decide) ⟨by omega, by omega⟩ (fun c38 => ?_) (fun c38 => ?_)
        · have hne9 : i ≠ uo := fun e9 => by { subst e9; omega }
          refine m_goto (y := yiX1_runOf) 7 dX1_runOf_43 (by decide) ?_
          refine mw_forget 3 ?_
          exact ih7 _ (by omega) _ _ _ rfl hro hre it1 fR (by omega) (by omega)
        · refine m_aload_n (y := yiX1_runOf) dX1_runOf_41 rfl ?_
          subst hQ; exact m_aret (y := yiX1_runOf) (x := (some (p i))) dX1_runOf_42 rfl (Or.inl ⟨_, rfl⟩) ⟨(p i), rfl, ⟨⟨i, ⟨by omega, by omega⟩, by omega, rfl⟩, by omega, by omega, fR⟩⟩
  exact L7 _ 0 (-1) _ rfl hro hre it1 fR (by omega) (by omega)
def EvOI (sg : TS) (E0 : EV) : EV := fun s t => ∃ n, EvO sg E0 n s t
theorem ClE_O {sg : TS} (hF : WF sg) (hc : sg.1 5 = -1) {R c k : Int} (hR : okR sg R) (h0 : 0 ≤ c) (hk : k = sg.2 10 (R % 24)) : ClE sg BG (fun r c' => r = R ∧ c' = c) (EvOI sg (obK sg R c k)) := by
  have n5 : ∀ {r j : Int}, okR sg r → 0 ≤ j → j < sg.2 10 (r % 24) → stI sg r j ≠ sg.1 5 := fun a b e => stN hF hc a ⟨b, e⟩
  have ob1 : ∀ s t, obK sg R c k s t → ∃ r c2, okR sg r ∧ c2 < sg.2 10 (r % 24) ∧ RcP sg BG (fun r c' => r = R ∧ c' = c) (EvOI sg (obK sg R c k)) r c2 ∧ stI sg r c2 = s ∧ cmI sg r c2 = t ∧ s ≠ sg.1 5 := by
    rintro s t ⟨j, j0, j1, j2, j3⟩
    exact ⟨R, j, hR, by omega, ⟨c, h0, j0, Or.inl ⟨rfl, rfl⟩⟩, j2, j3, by rw [← j2]; exact n5 hR (by omega) (by omega)⟩
  intro s t
  constructor
  · rintro ⟨n, hn⟩
    cases n with
    | zero => exact ob1 s t hn
    | succ n =>
      rcases hn with hn | ⟨r, c2, c', h1, h2, h3, h4, h5, h6, h7, h8, h9, h10⟩
      · exact ob1 s t hn
      · exact ⟨r, c2, h1, h4, ⟨c', h2, h3, Or.inr ⟨h8, h9, h10.mono (fun s t x => ⟨n, x⟩)⟩⟩, h5, h6, h7⟩
  · rintro ⟨r, c2, h1, h2, ⟨c', h3, h4, ⟨e1, e2⟩ | ⟨h5, h6, h7⟩⟩, h8, h9, h10⟩
    · subst e1; subst e2
      exact ⟨0, c2, h4, by omega, h8, h9⟩
    · have hN : ∃ n, RdE sg BG BG (EvO sg (obK sg R c k) n) (stI sg r c') (lvI sg r c') := by
        rcases h7 with g1 | g1 | ⟨t', ⟨n, g1⟩, g2⟩ | ⟨s', t', g0, ⟨n, g1⟩, g2, g3⟩
        · exact ⟨0, Or.inl g1⟩
        · exact ⟨0, Or.inr (Or.inl g1)⟩
        · exact ⟨n, Or.inr (Or.inr (Or.inl ⟨t', g1, g2⟩))⟩
        · exact ⟨n, Or.inr (Or.inr (Or.inr ⟨s', t', g0, g1, g2, g3⟩))⟩
      obtain ⟨n, hn⟩ := hN
      exact ⟨n + 1, Or.inr ⟨r, c2, c', h1, h3, h4, h2, h8, h9, h10, h5, h6, hn⟩⟩
theorem CLab.eao {sg : TS} (hF : WF sg) {E0 : EV} {fa fb fd : Int → Int} (h : CLab sg BG (EvOI sg E0) fa fb fd) (hR : Rng fa) {s : Int} (hs : 0 ≤ s ∧ s < sg.1 1) : EAo sg E0 s (fa s) := by
  have hn1 := of1 (hF.1.1 1)
  have h0 := hF.2.2.2.2 s hs.1 hs.2
  refine ⟨hR s hs.1 (by omega), fun t ht => ?_⟩
  rw [(h s hs.1 hs.2 t ht).2.1]
  constructor
  · rintro (h1 | ⟨s', t', h1, ⟨n, h2⟩, h3⟩)
    · unfold BG at h1; omega
    · by_cases e : s' = s
      · subst e; exact ⟨n, Or.inl ⟨t', h2, by omega⟩⟩
      · exact ⟨n, Or.inr ⟨s', t', h1, h2, e, h3⟩⟩
  · rintro ⟨n, ⟨t', h1, h2⟩ | ⟨s', t', h1, h2, h3, h4⟩⟩
    · exact Or.inr ⟨s, t', hs, ⟨n, h1⟩, by omega⟩
    · exact Or.inr ⟨s', t', h1, ⟨n, h2⟩, h4⟩
theorem RunsA.rsup {K : KT} {h h' : MH} {e0 a e : Nat} {n : Int} {sg : TS} {rix : Int → Int} {p : Int → Nat} (L : RunsA K h e0 a e n sg rix p) (e1 : ∀ b c, h.2.2 b = some c → h'.2.2 b = some c) : RunsA K h' e0 a e n sg rix p := L.up e1
/-- what onBoard answers -/
def obP (sg : TS) (day t c to th v : Int) : Prop := (¬ (((0 ≤ t ∧ t ≤ sg.1 8 - 1) ∧ (0 ≤ c ∧ c ≤ sg.2 10 t - 1)) ∧ (0 ≤ to ∧ to ≤ sg.1 1 - 1)) ∧ th = 1) ∨ ((((0 ≤ t ∧ t ≤ sg.1 8 - 1) ∧ (0 ≤ c ∧ c ≤ sg.2 10 t - 1)) ∧ (0 ≤ to ∧ to ≤ sg.1 1 - 1)) ∧ ¬ (0 ≤ day ∧ day ≤ 27) ∧ th = 2) ∨ ((((0 ≤ t ∧ t ≤ sg.1 8 - 1) ∧ (0 ≤ c ∧ c ≤ sg.2 10 t - 1)) ∧ (0 ≤ to ∧ to ≤ sg.1 1 - 1)) ∧ (0 ≤ day ∧ day ≤ 27) ∧ ¬ (sg.2 7 (28 * sg.2 9 t + day) ≠ 0 ∧ c ≠ sg.2 10 t - 1) ∧ th = 3) ∨ ((((0 ≤ t ∧ t ≤ sg.1 8 - 1) ∧ (0 ≤ c ∧ c ≤ sg.2 10 t - 1)) ∧ (0 ≤ to ∧ to ≤ sg.1 1 - 1)) ∧ (0 ≤ day ∧ day ≤ 27) ∧ (sg.2 7 (28 * sg.2 9 t + day) ≠ 0 ∧ c ≠ sg.2 10 t - 1) ∧ ∃ a, EAo (sd sg day) (obK (sd sg day) (24 + t) c (sg.2 10 t)) to a ∧ th = (if 1000000 ≤ a then 4 else 0) ∧ (a < 1000000 → v = a))
set_option maxHeartbeats 1000000 in
theorem q_onBoard (K : KT) (d : Nat) (h : MH) (z x : Nat) (sg : TS) (day t c to : Int) (hd : 18 ≤ d) (hIv : Iv sg) (hW : World K h z x sg) (hz1 : z ≤ h.1) (i1 : In day) (i2 : In t) (i3 : In c) (i4 : In to) (hz : h.1 + 25000 ≤ kC K ∧ h.2.1 + 304000 ≤ kS K) : Mt K yiX1_onBoard d [.ref x, vi day, vi t, vi c, vi to] h (Rw [RJ14, RJ12, RJ31, RJ17] fun th v h' => QFr h h' ∧ obP sg day t c to th v) := by
  have hcls := hIv.cls
  obtain ⟨hF, hCl, hO, hWay, hcut, -, -, -⟩ := hIv
  have f1b := of1 (hF.1.1 1)
  have f8b := of8 (hF.1.1 8)
  have := i1.1; have := i1.2; have := i2.1; have := i2.2; have := i3.1; have := i3.2; have := i4.1; have := i4.2
  have hW0 := hW
  obtain ⟨own, e0, cc, ch, wk, sv, tr, lt, ws, tx, se, te, we, kp, sp, tp, wp, T, hK, hE, hI, hx, hch, hwk, hsv, htr, hlt, hws, htx, hkp, hR0⟩ := hW
  obtain ⟨hx, hxz, -⟩ := tg_at hx
  obtain ⟨hch, hchz, -⟩ := tg_at hch
  have hE1 := hE.1
  obtain ⟨hE2, hE2z, -⟩ := tg_at hE.2
  obtain ⟨k0, k1, k3, k4, k5, k8, k9, k10, k11, k12⟩ := hK
  have hwk := And.intro hwk.1.C hwk.2
  obtain ⟨⟨wt, capt, mct, ft, hto, hte, htne, ht0, htw, htcap, htf, htno⟩, htt⟩ := htr
  obtain ⟨hto, htoz, -⟩ := tg_at hto
  obtain ⟨hte, htez, -⟩ := tg_at hte
  refine mt_ofQ (by decide) (Nat.le_of_ble_eq_true rfl) (fun Q hQ => ?_)
  show MW K yiX1_onBoard d h 0 [some (.ref x), some (vi day), some (vi t), some (vi c), some (vi to), none, none, none] [] Q
  refine mw_wf (fun hwf => ?_)
  have l_hx := hwf _ _ hx
  have l_hch := hwf _ _ hch
  have l_hto := hwf _ _ hto
  have l_hte := hwf _ _ hte
  have fR : ∀ b, (b < h.1) → h.2.2 b = h.2.2 b := fun _ _ => rfl
  refine m_aload_n (y := yiX1_onBoard) dX1_onBoard_0 rfl ?_
  refine j_iload_n (y := yiX1_onBoard) dX1_onBoard_1 rfl ?_
  refine j_iload_n (y := yiX1_onBoard) dX1_onBoard_2 rfl ?_
  by_cases c3 : (0 ≤ t ∧ t ≤ sg.1 8 - 1) ∧ (0 ≤ c ∧ c ≤ sg.2 10 t - 1)
  · refine m_invV (y := yiX1_onBoard) (rB := (RX1, TX1, 10)) [(vi t), (vi c)] dX1_onBoard_3 hx rfl q1205 q1207 qs13 q123 q1208 rfl (c_callOf_1 K 4 h z x sg t c (by omega) hF.1 hW0 c3.1 c3.2) pdX1_callOf ⟨Nat.le_of_ble_eq_true rfl, by decide, by omega⟩ (kk_r fun r3 h3 q3 => ?_) kx_r
    obtain ⟨rfl, -⟩ := q3
    refine m_astore (y := yiX1_onBoard) dX1_onBoard_6 (by decide) rfl ?_
    show MW K yiX1_onBoard d h 8 [some (.ref x), some (vi day), some (vi t), some (vi c), some (vi to), some (.ref r3), none, none] [] Q
    have hcnb := oa10 (hF.1.2 10) t (by omega) (by omega)
    have hsv9 := hO t (by omega) (by omega)
    obtain ⟨l, el, pl, htq, ⟨wl, cl, ml, fl9, hlo, hle, hlae, hl0, hlw, hlc, hlf, hlno⟩, hcl9⟩ := htt t (by omega) (by omega)
    obtain ⟨htq, htqz, -⟩ := tg_at htq
    obtain ⟨hlo, hloz, -⟩ := tg_at hlo
    have htq : h.2.2 (tp t) = some (true, .inr (2, [(vi (sg.2 9 t)), (.ref l)])) := htq
    have l_htq := hwf _ _ htq
    have hlo : h.2.2 l = some (true, .inr (14, [(vi ml), (.ref el), (vi (sg.2 10 t))])) := hlo
    have l_hlo := hwf _ _ hlo
    refine m_aload_n (y := yiX1_onBoard) dX1_onBoard_8 rfl ?_
    refine j_iload (y := yiX1_onBoard) dX1_onBoard_9 rfl ?_
    refine m_invV (y := yiX1_onBoard) (rB := (RX1, TX1, 10)) [(vi to)] dX1_onBoard_11 hx rfl q889 q891 qs2 q123 q892 rfl (c_X1_isStop (d := 1) to (by omega) hx ⟨by omega, by omega⟩ ⟨by omega, by omega⟩) pdX1_isStop ⟨Nat.le_of_ble_eq_true rfl, by decide, by omega⟩ (kk_z fun r11 h11 q11 => ?_) kx_z
    obtain ⟨rfl, rfl⟩ := q11
    refine mw_top (x' := bz (0 ≤ to ∧ to ≤ (sg.1 1) - 1)) rfl ?_
    by_cases c14 : (0 ≤ to ∧ to ≤ (sg.1 1) - 1)
    · refine mw_top (x' := 1) ((bz_t c14).symm) ?_
      refine m_invS (y := yiX1_onBoard) [(vi 1)] dX1_onBoard_14 q893 q894 q123 q895 (c_X1_requireIndex_1 K 0 h) pdX1_requireIndex ⟨Nat.le_of_ble_eq_true rfl, by decide, by omega⟩ (kk_v fun h14 q14 => ?_) kx_v
      obtain rfl := q14
      refine j_iload_n (y := yiX1_onBoard) dX1_onBoard_17 rfl ?_
      refine m_invS (y := yiX1_onBoard) [(vi day)] dX1_onBoard_18 q1049 q1050 q123 q1051 (c_X1_isDay K 1 h day (by omega) ⟨by omega, by omega⟩) pdX1_isDay ⟨Nat.le_of_ble_eq_true rfl, by decide, by omega⟩ (kk_z fun r18 h18 q18 => ?_) kx_z
      obtain ⟨rfl, rfl⟩ := q18
      refine mw_top (x' := bz (0 ≤ day ∧ day ≤ 27)) rfl ?_
      by_cases c21 : (0 ≤ day ∧ day ≤ 27)
      · refine mw_top (x' := 1) ((bz_t c21).symm) ?_
        refine m_invS (y := yiX1_onBoard) [(vi 1)] dX1_onBoard_21 q853 q854 q123 q855 (c_X1_require_1 K 0 h) pdX1_require ⟨Nat.le_of_ble_eq_true rfl, by decide, by omega⟩ (kk_v fun h21 q21 => ?_) kx_v
        obtain rfl := q21
        refine m_aload_n (y := yiX1_onBoard) dX1_onBoard_24 rfl ?_
        refine j_iload_n (y := yiX1_onBoard) dX1_onBoard_25 rfl ?_
        refine j_iload_n (y := yiX1_onBoard) dX1_onBoard_26 rfl ?_
        refine m_invV (y := yiX1_onBoard) (rB := (RX1, TX1, 10)) [(vi t), (vi day)] dX1_onBoard_27 hx rfl q1877 q1879 qs35 q123 q1880 rfl (c_X1_runs K 4 h z x sg t day (by omega) hF.1 hW0 ⟨by omega, by omega⟩ hsv9 i1) pdX1_runs ⟨Nat.le_of_ble_eq_true rfl, by decide, by omega⟩ (kk_z fun r27 h27 q27 => ?_) kx_z
        obtain ⟨rfl, rfl⟩ := q27
        refine mw_top (x' := bz ((0 ≤ day ∧ day ≤ 27) ∧ sg.2 7 (28 * sg.2 9 t + day) ≠ 0)) rfl ?_
        refine j_bz_eq (y := yiX1_onBoard) 60 dX1_onBoard_30 (by decide) (fun c30 => ?_) (fun c30 => ?_)
        · refine j_iconst (y := yiX1_onBoard) dX1_onBoard_60 ?_
          refine m_invS (y := yiX1_onBoard) [(vi 0)] dX1_onBoard_61 q1449 q1450 q123 q1451 (c_X1_requireSupported_0 K 6 h (by omega) ⟨by omega, by omega⟩) pdX1_requireSupported ⟨Nat.le_of_ble_eq_true rfl, by decide, by omega⟩ kk_t (kx_t fun q61 h61 x61 => ?_)
          subst hQ; exact mx_ret rfl (Or.inr ⟨2, RJ31, q61, rfl, rfl, fun _ => ⟨QFr.th x61 ⟨by omega, by omega⟩ ⟨by omega, by omega⟩ (fun _ _ => rfl), Or.inr (Or.inr (Or.inl ⟨⟨c3, c14⟩, c21, (by first | exact fun h9 => c30 ⟨c21, h9.1⟩ | exact fun h9 => c61 h9.2), rfl⟩))⟩⟩)
        · have J61 : MW K yiX1_onBoard d h 61 [some (.ref x), some (vi day), some (vi t), some (vi c), some (vi to), none, none, none] [(vi (bz (c ≠ sg.2 10 t - 1)))] Q := by
            by_cases c61 : (c ≠ sg.2 10 t - 1)
            · refine mw_top (x' := 1) ((bz_t c61).symm) ?_
              refine m_invS (y := yiX1_onBoard) [(vi 1)] dX1_onBoard_61 q1449 q1450 q123 q1451 (c_X1_requireSupported_1 K 0 h) pdX1_requireSupported ⟨Nat.le_of_ble_eq_true rfl, by decide, by omega⟩ (kk_v fun h61 q61 => ?_) kx_v
              obtain rfl := q61
              have hon9 : sg.2 7 (28 * sg.2 9 t + day) ≠ 0 := c30.2
              have hFd := hF.sd c21
              have hokR : okR (sd sg day) (24 + t) := by { have h9 := (okR_i (sg := sg) (y := day) (s := 0) (k := t) ⟨by omega, by omega⟩ ⟨by omega, by omega⟩).mpr ⟨by omega, ⟨by omega, by omega⟩, by rw [Int.add_zero]; exact hon9⟩; exact h9 }
              refine m_aload_n (y := yiX1_onBoard) dX1_onBoard_64 rfl ?_
              refine j_iload_n (y := yiX1_onBoard) dX1_onBoard_65 rfl ?_
              refine m_invV (y := yiX1_onBoard) (rB := (RX1, TX1, 10)) [(vi day)] dX1_onBoard_66 hx rfl q1869 q1871 qs33 q123 q1872 rfl (c_X1_runsAbout K 9 h z x sg day (by omega) hF.1 hCl hO hW0 hz1 c21 ⟨by omega, by omega⟩) pdX1_runsAbout ⟨Nat.le_of_ble_eq_true rfl, by decide, by omega⟩ (kk_r fun r66 h66 q66 => ?_) kx_r
              obtain ⟨e0', re, n, rix, p, hRu, n3, y3, z3, f3, l3, k03⟩ := q66
              have hx : h66.2.2 x = some (true, .inr (0, [(.ref ch), (.ref wk), (vi (sg.1 1)), (.ref sv), (.ref tr), (.ref lt), (.ref ws), (.ref tx), (vi (sg.1 21)), (va_rf kp)])) := (f3 _ (by omega)).trans hx
              have hch : h66.2.2 ch = some (true, ia K 12 (sg.2 2)) := (f3 _ (by omega)).trans hch
              have hto : h66.2.2 tr = some (true, .inr (14, [(vi mct), (.ref te), (vi (sg.1 8))])) := (f3 _ (by omega)).trans hto
              have hte : h66.2.2 te = some (wt, oaE K capt ft) := (f3 _ (by omega)).trans hte
              have htq : h66.2.2 (tp t) = some (true, .inr (2, [(vi (sg.2 9 t)), (.ref l)])) := (f3 _ (by omega)).trans htq
              have hlo : h66.2.2 l = some (true, .inr (14, [(vi ml), (.ref el), (vi (sg.2 10 t))])) := (f3 _ (by omega)).trans hlo
              have fR : ∀ b, (b < h.1) → h66.2.2 b = h.2.2 b := fun b hb => (f3 b (by omega)).trans (fR b hb)
              refine mw_wf (fun hwf66 => ?_)
              obtain ⟨wr3, cap3, mc3, fr3, hro3, -⟩ := id hRu.1
              have he3 : e0' = e0 := by { have u9 := k03.symm.trans k0; injection u9 }
              rw [he3] at hRu
              have hro3 : h66.2.2 r66 = some (true, .inr (14, [(vi mc3), (.ref re), (vi n)])) := hro3
              have l_hro3 := hwf66 _ _ hro3
              refine m_astore (y := yiX1_onBoard) dX1_onBoard_69 (by decide) rfl ?_
              show MW K yiX1_onBoard d h66 71 [some (.ref x), some (vi day), some (vi t), some (vi c), some (vi to), none, some (.ref r66), none] [] Q
              refine m_new (y := yiX1_onBoard) kc_9 7 dX1_onBoard_71 q2100 q2101 q175 _ rfl ⟨by omega, by omega⟩ (hp_new fun g1 g1H => ?_)
              have hx : g1.2.2 x = some (true, .inr (0, [(.ref ch), (.ref wk), (vi (sg.1 1)), (.ref sv), (.ref tr), (.ref lt), (.ref ws), (.ref tx), (vi (sg.1 21)), (va_rf kp)])) := (g1H.2.2.2 _ (by omega)).trans hx
              have hch : g1.2.2 ch = some (true, ia K 12 (sg.2 2)) := (g1H.2.2.2 _ (by omega)).trans hch
              have hto : g1.2.2 tr = some (true, .inr (14, [(vi mct), (.ref te), (vi (sg.1 8))])) := (g1H.2.2.2 _ (by omega)).trans hto
              have hte : g1.2.2 te = some (wt, oaE K capt ft) := (g1H.2.2.2 _ (by omega)).trans hte
              have htq : g1.2.2 (tp t) = some (true, .inr (2, [(vi (sg.2 9 t)), (.ref l)])) := (g1H.2.2.2 _ (by omega)).trans htq
              have hlo : g1.2.2 l = some (true, .inr (14, [(vi ml), (.ref el), (vi (sg.2 10 t))])) := (g1H.2.2.2 _ (by omega)).trans hlo
              have hro3 : g1.2.2 r66 = some (true, .inr (14, [(vi mc3), (.ref re), (vi n)])) := (g1H.2.2.2 _ (by omega)).trans hro3
              have fR : ∀ b, (b < h.1) → g1.2.2 b = h.2.2 b := fun b hb => (g1H.2.2.2 b (by omega)).trans (fR b hb)
              have fg1 : g1.2.2 h66.1 = some (true, .inr (9, [(vi 0), .null, .null, .null, .null, (vi 0), .null])) := g1H.2.2.1
              have g11 := g1H.1
              have g12 := g1H.2.1
              refine m_dup (y := yiX1_onBoard) dX1_onBoard_74 rfl ?_
              refine m_aload_n (y := yiX1_onBoard) dX1_onBoard_75 rfl ?_
              refine j_iconst (y := yiX1_onBoard) dX1_onBoard_76 ?_
              refine m_aload_n (y := yiX1_onBoard) dX1_onBoard_77 rfl ?_
              refine j_iconst (y := yiX1_onBoard) dX1_onBoard_78 ?_
              refine m_invV (y := yiX1_onBoard) (rB := (RX1, TX1, 10)) [(vi (-1))] dX1_onBoard_79 hx rfl q916 q918 qs3 q123 q919 rfl (c_X1_closedWalks K 1 g1 x ch wk sv tr lt ws tx (sg.1 1) (sg.1 21) (-1) _ T (sg.2 3) (by omega) hx (hwk.1.up (fun b c e9 => by { have u9 := tg_at e9; exact (fR b (by omega)).trans u9.1 })) hwk.2 (hF.1.2 3) ⟨by omega, by omega⟩ ⟨by omega, by omega⟩ ⟨by omega, by omega⟩) pdX1_closedWalks ⟨Nat.le_of_ble_eq_true rfl, by decide, by omega⟩ (kk_r fun r79 h79 q79 => ?_) kx_r
              obtain ⟨rfl, y14, z14, f14, W, hW1, hW2, hW3⟩ := q79
              have hx : h79.2.2 x = some (true, .inr (0, [(.ref ch), (.ref wk), (vi (sg.1 1)), (.ref sv), (.ref tr), (.ref lt), (.ref ws), (.ref tx), (vi (sg.1 21)), (va_rf kp)])) := (f14 _ (by omega)).trans hx
              have hch : h79.2.2 ch = some (true, ia K 12 (sg.2 2)) := (f14 _ (by omega)).trans hch
              have hto : h79.2.2 tr = some (true, .inr (14, [(vi mct), (.ref te), (vi (sg.1 8))])) := (f14 _ (by omega)).trans hto
              have hte : h79.2.2 te = some (wt, oaE K capt ft) := (f14 _ (by omega)).trans hte
              have htq : h79.2.2 (tp t) = some (true, .inr (2, [(vi (sg.2 9 t)), (.ref l)])) := (f14 _ (by omega)).trans htq
              have hlo : h79.2.2 l = some (true, .inr (14, [(vi ml), (.ref el), (vi (sg.2 10 t))])) := (f14 _ (by omega)).trans hlo
              have hro3 : h79.2.2 r66 = some (true, .inr (14, [(vi mc3), (.ref re), (vi n)])) := (f14 _ (by omega)).trans hro3
              have fg1 : h79.2.2 h66.1 = some (true, .inr (9, [(vi 0), .null, .null, .null, .null, (vi 0), .null])) := (f14 _ (by omega)).trans fg1
              have fR : ∀ b, (b < h.1) → h79.2.2 b = h.2.2 b := fun b hb => (f14 b (by omega)).trans (fR b hb)
              refine mw_wf (fun hwf79 => ?_)
              refine m_invI (y := yiX1_onBoard) [(.ref x), (vi (-1)), (.ref g1.1)] dX1_onBoard_82 q2102 q2103 q175 q2104 rfl rfl (c_X10_init K 2 h79 x g1.1 h66.1 (-1) (by omega) fg1 ⟨by omega, by omega⟩) pdX10_init ⟨Nat.le_of_ble_eq_true rfl, by decide, by omega⟩ (kk_v fun h82 q82 => ?_) kx_v
              obtain ⟨fa, fb, fd, q82, i82, y82, z82, f82⟩ := q82
              obtain ⟨hq, hA, hB, hR⟩ := q82
              have hx : h82.2.2 x = some (true, .inr (0, [(.ref ch), (.ref wk), (vi (sg.1 1)), (.ref sv), (.ref tr), (.ref lt), (.ref ws), (.ref tx), (vi (sg.1 21)), (va_rf kp)])) := (f82 _ (by omega)).trans hx
              have hch : h82.2.2 ch = some (true, ia K 12 (sg.2 2)) := (f82 _ (by omega)).trans hch
              have hto : h82.2.2 tr = some (true, .inr (14, [(vi mct), (.ref te), (vi (sg.1 8))])) := (f82 _ (by omega)).trans hto
              have hte : h82.2.2 te = some (wt, oaE K capt ft) := (f82 _ (by omega)).trans hte
              have htq : h82.2.2 (tp t) = some (true, .inr (2, [(vi (sg.2 9 t)), (.ref l)])) := (f82 _ (by omega)).trans htq
              have hlo : h82.2.2 l = some (true, .inr (14, [(vi ml), (.ref el), (vi (sg.2 10 t))])) := (f82 _ (by omega)).trans hlo
              have hro3 : h82.2.2 r66 = some (true, .inr (14, [(vi mc3), (.ref re), (vi n)])) := (f82 _ (by omega)).trans hro3
              have fR : ∀ b, (b < h.1) → h82.2.2 b = h.2.2 b := fun b hb => (f82 b (by omega)).trans (fR b hb)
              refine mw_wf (fun hwf82 => ?_)
              have l_hq82 := hwf82 _ _ hq
              have l_hA82 := hwf82 _ _ hA
              have l_hB82 := hwf82 _ _ hB
              have l_hR82 := hwf82 _ _ hR
              have hupR : ∀ b c, h66.2.2 b = some c → h82.2.2 b = some c := fun b c e9 => by { have l9 := hwf66 b c e9; exact (f82 b (by omega)).trans ((f14 b (by omega)).trans ((g1H.2.2.2 b (by omega)).trans e9)) }
              refine m_astore (y := yiX1_onBoard) dX1_onBoard_85 (by decide) rfl ?_
              show MW K yiX1_onBoard d h82 87 [some (.ref x), some (vi day), some (vi t), some (vi c), some (vi to), none, some (.ref r66), some (.ref h66.1)] [] Q
              refine m_aload_n (y := yiX1_onBoard) dX1_onBoard_87 rfl ?_
              refine m_aload (y := yiX1_onBoard) dX1_onBoard_88 rfl ?_
              refine m_aload (y := yiX1_onBoard) dX1_onBoard_90 rfl ?_
              refine m_invS (y := yiX1_onBoard) [(.ref r66)] dX1_onBoard_92 q1928 q1929 q123 q1930 (c_byDep K 14 h82 e0 r66 re n (sd sg day) rix p (by omega) hFd.1 hCl hcls.1 k11 k12 (hRu.up hupR) ⟨k0, (fR e0 (by omega)).trans hE2⟩ ⟨by omega, by omega⟩) pdX1_byDepartures ⟨Nat.le_of_ble_eq_true rfl, by decide, by omega⟩ (kk_r fun r92 h92 q92 => ?_) kx_r
              obtain ⟨ea, m, q, ui, ci, hRd, m6, y6, z6, f6, l6⟩ := q92
              have hx : h92.2.2 x = some (true, .inr (0, [(.ref ch), (.ref wk), (vi (sg.1 1)), (.ref sv), (.ref tr), (.ref lt), (.ref ws), (.ref tx), (vi (sg.1 21)), (va_rf kp)])) := (f6 _ (by omega)).trans hx
              have hch : h92.2.2 ch = some (true, ia K 12 (sg.2 2)) := (f6 _ (by omega)).trans hch
              have hto : h92.2.2 tr = some (true, .inr (14, [(vi mct), (.ref te), (vi (sg.1 8))])) := (f6 _ (by omega)).trans hto
              have hte : h92.2.2 te = some (wt, oaE K capt ft) := (f6 _ (by omega)).trans hte
              have htq : h92.2.2 (tp t) = some (true, .inr (2, [(vi (sg.2 9 t)), (.ref l)])) := (f6 _ (by omega)).trans htq
              have hlo : h92.2.2 l = some (true, .inr (14, [(vi ml), (.ref el), (vi (sg.2 10 t))])) := (f6 _ (by omega)).trans hlo
              have hro3 : h92.2.2 r66 = some (true, .inr (14, [(vi mc3), (.ref re), (vi n)])) := (f6 _ (by omega)).trans hro3
              have hq : h92.2.2 h66.1 = some (true, .inr (9, [(vi (-1)), (.ref g1.1), (.ref h79.1), (.ref (h79.1 + 1)), (.ref (h79.1 + 2)), (vi 0), (.ref x)])) := (f6 _ (by omega)).trans hq
              have hA : h92.2.2 h79.1 = some (true, ia K 12 fa) := (f6 _ (by omega)).trans hA
              have hB : h92.2.2 (h79.1 + 1) = some (true, ia K 12 fb) := (f6 _ (by omega)).trans hB
              have hR : h92.2.2 (h79.1 + 2) = some (true, ia K 12 fd) := (f6 _ (by omega)).trans hR
              have fR : ∀ b, (b < h.1) → h92.2.2 b = h.2.2 b := fun b hb => (f6 b (by omega)).trans (fR b hb)
              refine mw_wf (fun hwf92 => ?_)
              have hupD : ∀ b c, h82.2.2 b = some c → h92.2.2 b = some c := fr_up hwf82 f6
              refine m_aload (y := yiX1_onBoard) dX1_onBoard_95 rfl ?_
              refine j_iload_n (y := yiX1_onBoard) dX1_onBoard_97 rfl ?_
              refine m_invS (y := yiX1_onBoard) [(.ref r66), (vi t)] dX1_onBoard_98 q2503 q2504 q123 q2505 (c_X1_runOf K 2 h92 e0 r66 re n t (sd sg day) rix p (by omega) ((hRu.up hupR).up hupD) ⟨by omega, by omega⟩ hokR ⟨by omega, by omega⟩) pdX1_runOf ⟨Nat.le_of_ble_eq_true rfl, by decide, by omega⟩ (kk_r fun r98 h98 q98 => ?_) kx_r
              obtain ⟨⟨uo, huo, hru, hrp⟩, y98, z98, f98⟩ := q98
              have hx : h98.2.2 x = some (true, .inr (0, [(.ref ch), (.ref wk), (vi (sg.1 1)), (.ref sv), (.ref tr), (.ref lt), (.ref ws), (.ref tx), (vi (sg.1 21)), (va_rf kp)])) := (f98 _ (by omega)).trans hx
              have hch : h98.2.2 ch = some (true, ia K 12 (sg.2 2)) := (f98 _ (by omega)).trans hch
              have hto : h98.2.2 tr = some (true, .inr (14, [(vi mct), (.ref te), (vi (sg.1 8))])) := (f98 _ (by omega)).trans hto
              have hte : h98.2.2 te = some (wt, oaE K capt ft) := (f98 _ (by omega)).trans hte
              have htq : h98.2.2 (tp t) = some (true, .inr (2, [(vi (sg.2 9 t)), (.ref l)])) := (f98 _ (by omega)).trans htq
              have hlo : h98.2.2 l = some (true, .inr (14, [(vi ml), (.ref el), (vi (sg.2 10 t))])) := (f98 _ (by omega)).trans hlo
              have hro3 : h98.2.2 r66 = some (true, .inr (14, [(vi mc3), (.ref re), (vi n)])) := (f98 _ (by omega)).trans hro3
              have hq : h98.2.2 h66.1 = some (true, .inr (9, [(vi (-1)), (.ref g1.1), (.ref h79.1), (.ref (h79.1 + 1)), (.ref (h79.1 + 2)), (vi 0), (.ref x)])) := (f98 _ (by omega)).trans hq
              have hA : h98.2.2 h79.1 = some (true, ia K 12 fa) := (f98 _ (by omega)).trans hA
              have hB : h98.2.2 (h79.1 + 1) = some (true, ia K 12 fb) := (f98 _ (by omega)).trans hB
              have hR : h98.2.2 (h79.1 + 2) = some (true, ia K 12 fd) := (f98 _ (by omega)).trans hR
              have fR : ∀ b, (b < h.1) → h98.2.2 b = h.2.2 b := fun b hb => (f98 b (by omega)).trans (fR b hb)
              refine mw_wf (fun hwf98 => ?_)
              subst hrp
              have hlb9 : h66.1 < h79.1 := by omega
              have hw101 : ∀ b, b < h92.1 → h98.2.2 b = h92.2.2 b := f98
              have hchg : ∀ i, 0 ≤ i → i < 12 → fa i = 1000000 ∧ fb i = 1000000 ∧ fd i = 1000000 := i82
              have hRg9 : Rng fa ∧ Rng fb ∧ Rng fd := ⟨Rng.none (fun i a b => (i82 i a b).1), Rng.none (fun i a b => (i82 i a b).2.1), Rng.none (fun i a b => (i82 i a b).2.2)⟩
              have hup0 : ∀ b c, b < h66.1 → h66.2.2 b = some c → (rs 0 h66.1 h98).2.2 b = some c := fun b c l e9 => rs_mk ((hw101 b (by omega)).trans ((f6 b (by omega)).trans (hupR b c e9))) (Nat.zero_le _) l
              have hupW : ∀ b c, (rs g1.1 (g1.1 + 13) h79).2.2 b = some c → (rs g1.1 h79.1 h98).2.2 b = some c := fun b c e9 => by { have u9 := rs_at e9; exact rs_mk ((hw101 b (by omega)).trans ((f6 b (by omega)).trans ((f82 b (by omega)).trans u9.1))) u9.2.1 (by omega) }
              have hnk : sg.2 10 t = (sd sg day).2 10 ((24 + t) % 24) := by { show sg.2 10 t = sg.2 10 ((24 + t) % 24); rw [show (24 + t) % 24 = t by omega] }
              have hlv9 : 0 ≤ lvI (sd sg day) (rix uo) c := by { rw [hru]; have h1 := oa13 (hF.1.2 13) (8 * t + c) (by omega) (by omega); have h2 := latOf_b hF.1 (day + ((24 + t) / 24 - 1)) ((24 + t) % 24) c; unfold lvI; rw [show (24 + t) % 24 = t by omega] at h2 ⊢; rw [show (24 + t) / 24 - 1 = 0 by omega] at h2 ⊢; have h3 : latOf (sd sg day) ((sd sg day).1 22 + 0) t c = latOf sg (day + 0) t c := rfl; rw [h3]; show 0 ≤ sg.2 13 (8 * t + c) + 1440 * 0 + latOf sg (day + 0) t c; omega }
              refine j_iload_n (y := yiX1_onBoard) dX1_onBoard_101 rfl ?_
              refine m_invV (y := yiX1_onBoard) (rB := (RX1, TX1, 10)) [(.ref h66.1), (.ref r92), (.ref r98), (vi c)] dX1_onBoard_102 hx rfl q2148 q2150 qs46 q123 q2151 rfl (c_scanO2 K 5 h98 e0 x g1.1 h66.1 h79.1 (h79.1 + 1) (h79.1 + 2) ch wk sv tr lt ws tx r92 ea r66 re 0 (sg.1 21) n m _ fa fb fd W (sd sg day) BG (EvOI (sd sg day) (obK (sd sg day) (24 + t) c (sg.2 10 t))) rix ui ci p q uo c g1.1 h79.1 ⟨by omega, by omega⟩ (by omega) hFd ⟨by show -1 ≤ sg.1 5; omega, by show sg.1 5 ≤ 11; omega⟩ k8 (by { show LbC K h98 x (sd sg day |>.1 5) _ _ _ _ _ _ _ _ _; rw [show (sd sg day).1 5 = -1 from hcut]; exact ⟨hq, hA, hB, hR⟩ }) (Or.inl rfl) ⟨by omega, by omega, by omega⟩ (hup0 _ _ (by omega) ((f3 _ (by omega)).trans hx)) (hup0 _ _ (by omega) ((f3 _ (by omega)).trans hch)) (hW1.up hupW) (WayA.of (K := K) (h := h98) (wy := g1.1) (W := W) (sg := sd sg day) (cut := -1) (show 0 ≤ sg.1 1 ∧ sg.1 1 ≤ 12 from ⟨by omega, by omega⟩) (hF.1.2 3) hWay (hW1.up (fun b c e9 => (rs_at (hupW b c e9)).1)) hW2).2.1 (WayA.of (K := K) (h := h98) (wy := g1.1) (W := W) (sg := sd sg day) (cut := -1) (show 0 ≤ sg.1 1 ∧ sg.1 1 ≤ 12 from ⟨by omega, by omega⟩) (hF.1.2 3) hWay (hW1.up (fun b c e9 => (rs_at (hupW b c e9)).1)) hW2).2.2 (RunsA.rsup hRu (fun b c e9 => hup0 b c (hwf66 b c e9) e9)) (hRd.up (fr_up hwf92 f98)) huo i3 hlv9 (by omega) (by { rw [hru]; exact ClE_O hFd hcut hokR (by omega) hnk }) (CLab.none hFd.1 (by omega) i82) hRg9 ⟨by omega, by omega⟩) pdX1_scan ⟨Nat.le_of_ble_eq_true rfl, by decide, by omega⟩ (kk_v fun h102 q102 => ?_) kx_v
              obtain ⟨⟨cg9, fa9, fb9, fd9, k102, c102, hCL9, hRg8⟩, y102, z102, f102⟩ := q102
              obtain ⟨hq, hA, hB, hR⟩ := id (show LbC K h102 x (-1) g1.1 h66.1 h79.1 (h79.1 + 1) (h79.1 + 2) cg9 fa9 fb9 fd9 from by { have u9 := k102; rw [show (sd sg day).1 5 = -1 from hcut] at u9; exact u9 })
              have hx : h102.2.2 x = some (true, .inr (0, [(.ref ch), (.ref wk), (vi (sg.1 1)), (.ref sv), (.ref tr), (.ref lt), (.ref ws), (.ref tx), (vi (sg.1 21)), (va_rf kp)])) := (f102 _ (by omega)).trans hx
              have hch : h102.2.2 ch = some (true, ia K 12 (sg.2 2)) := (f102 _ (by omega)).trans hch
              have hto : h102.2.2 tr = some (true, .inr (14, [(vi mct), (.ref te), (vi (sg.1 8))])) := (f102 _ (by omega)).trans hto
              have hte : h102.2.2 te = some (wt, oaE K capt ft) := (f102 _ (by omega)).trans hte
              have htq : h102.2.2 (tp t) = some (true, .inr (2, [(vi (sg.2 9 t)), (.ref l)])) := (f102 _ (by omega)).trans htq
              have hlo : h102.2.2 l = some (true, .inr (14, [(vi ml), (.ref el), (vi (sg.2 10 t))])) := (f102 _ (by omega)).trans hlo
              have hro3 : h102.2.2 r66 = some (true, .inr (14, [(vi mc3), (.ref re), (vi n)])) := (f102 _ (by omega)).trans hro3
              have fR : ∀ b, (b < h.1) → h102.2.2 b = h.2.2 b := fun b hb => (f102 b (by omega)).trans (fR b hb)
              refine mw_wf (fun hwf102 => ?_)
              have l_hq102 := hwf102 _ _ hq
              have l_hA102 := hwf102 _ _ hA
              have l_hB102 := hwf102 _ _ hB
              have l_hR102 := hwf102 _ _ hR
              refine m_aload (y := yiX1_onBoard) dX1_onBoard_105 rfl ?_
              refine m_getfN (y := yiX1_onBoard) kc_9 2 (by decide) dX1_onBoard_107 q2113 hq rfl ?_
              refine j_iload (y := yiX1_onBoard) dX1_onBoard_110 rfl ?_
              refine j_iald (y := yiX1_onBoard) dX1_onBoard_112 hA (by omega) ⟨by omega, by omega⟩ ?_
              have hvt := hRg8.1.v (s := to) ⟨by omega, by omega⟩
              have hea := CLab.eao hFd hCL9 hRg8.1 (s := to) ⟨by omega, by show to < sg.1 1; omega⟩
              by_cases c113 : fa9 to < 1000000
              · refine m_invS (y := yiX1_onBoard) [(vi (fa9 to))] dX1_onBoard_113 q2161 q2162 q123 q2163 (c_X1_told_1 K 1 h102 (fa9 to) (by omega) ⟨by omega, by omega⟩ c113) pdX1_told ⟨Nat.le_of_ble_eq_true rfl, by decide, by omega⟩ (kk_z fun r113 h113 q113 => ?_) kx_z
                obtain ⟨rfl, rfl⟩ := q113
                refine mw_top (x' := fa9 to) rfl ?_
                subst hQ; exact j_wret (y := yiX1_onBoard) dX1_onBoard_116 rfl (⟨QFr.of (by omega) (by omega) fR, Or.inr (Or.inr (Or.inr ⟨⟨c3, c14⟩, c21, ⟨hon9, c61⟩, fa9 to, hea, by rw [if_neg (by omega)], fun _ => rfl⟩))⟩)
              · refine m_invS (y := yiX1_onBoard) [(vi (fa9 to))] dX1_onBoard_113 q2161 q2162 q123 q2163 (c_X1_told_0 K 7 h102 (fa9 to) (by omega) ⟨by omega, by omega⟩ c113 ⟨by omega, by omega⟩) pdX1_told ⟨Nat.le_of_ble_eq_true rfl, by decide, by omega⟩ kk_t (kx_t fun q113 h113 x113 => ?_)
                subst hQ; exact mx_ret rfl (Or.inr ⟨3, RJ17, q113, rfl, rfl, fun _ => ⟨QFr.th x113 ⟨by omega, by omega⟩ ⟨by omega, by omega⟩ fR, Or.inr (Or.inr (Or.inr ⟨⟨c3, c14⟩, c21, ⟨hon9, c61⟩, fa9 to, hea, by rw [if_pos (by omega)]; rfl, fun h9 => absurd h9 c113⟩))⟩⟩)
            · refine mw_top (x' := 0) ((bz_f c61).symm) ?_
              refine m_invS (y := yiX1_onBoard) [(vi 0)] dX1_onBoard_61 q1449 q1450 q123 q1451 (c_X1_requireSupported_0 K 6 h (by omega) ⟨by omega, by omega⟩) pdX1_requireSupported ⟨Nat.le_of_ble_eq_true rfl, by decide, by omega⟩ kk_t (kx_t fun q61 h61 x61 => ?_)
              subst hQ; exact mx_ret rfl (Or.inr ⟨2, RJ31, q61, rfl, rfl, fun _ => ⟨QFr.th x61 ⟨by omega, by omega⟩ ⟨by omega, by omega⟩ (fun _ _ => rfl), Or.inr (Or.inr (Or.inl ⟨⟨c3, c14⟩, c21, (by first | exact fun h9 => c30 ⟨c21, h9.1⟩ | exact fun h9 => c61 h9.2), rfl⟩))⟩⟩)
          refine j_iload_n (y := yiX1_onBoard) dX1_onBoard_33 rfl ?_
          refine m_aload_n (y := yiX1_onBoard) dX1_onBoard_34 rfl ?_
          refine m_getfS (y := yiX1_onBoard) kc_0 4 (by decide) dX1_onBoard_35 q302 hx rfl ?_
          refine j_iload_n (y := yiX1_onBoard) dX1_onBoard_38 rfl ?_
          refine m_invV (y := yiX1_onBoard) (rB := (RJ2, TJ2, 3)) [(vi t)] dX1_onBoard_39 hto rfl q1035 q1036 q1037 q126 q1038 rfl (c_J2_get K 2 h _ _ _ _ _ _ _ _ _ (by omega) hto hte ⟨by omega, by omega⟩ ⟨by omega, by omega⟩ (htf _ (by omega) (by omega))) pdJ2_get ⟨Nat.le_of_ble_eq_true rfl, by decide, by omega⟩ (kk_r fun r39 h39 q39 => ?_) kx_r
          obtain ⟨rfl, rfl⟩ := q39
          refine m_cast (y := yiX1_onBoard) dX1_onBoard_42 htq rfl q794 (Or.inl rfl) ?_
          refine m_getfN (y := yiX1_onBoard) kc_2 1 (by decide) dX1_onBoard_45 q1146 htq rfl ?_
          refine m_invV (y := yiX1_onBoard) (rB := (RJ2, TJ2, 3)) [] dX1_onBoard_48 hlo rfl q333 q334 q335 q126 q336 rfl (c_J2_size K 0 h _ _ _ _ hlo) pdJ2_size ⟨Nat.le_of_ble_eq_true rfl, by decide, by omega⟩ (kk_z fun r48 h48 q48 => ?_) kx_z
          obtain ⟨rfl, rfl⟩ := q48
          refine mw_top (x' := sg.2 10 t) rfl ?_
          refine j_iconst (y := yiX1_onBoard) dX1_onBoard_51 ?_
          refine j_isub (y := yiX1_onBoard) dX1_onBoard_52 ?_
          refine j_icmp_ge (y := yiX1_onBoard) 60 dX1_onBoard_53 (by decide) ⟨⟨by omega, by omega⟩, ⟨by omega, by omega⟩⟩ (fun c53 => ?_) (fun c53 => ?_)
          · refine j_iconst (y := yiX1_onBoard) dX1_onBoard_60 ?_
            refine mw_forget 5 ?_
            refine mw_top (x' := bz (c ≠ sg.2 10 t - 1)) (bz_f (by omega)) ?_
            exact J61  
          · refine j_iconst (y := yiX1_onBoard) dX1_onBoard_56 ?_
            refine m_goto (y := yiX1_onBoard) 61 dX1_onBoard_57 (by decide) ?_
            refine mw_forget 5 ?_
            refine mw_top (x' := bz (c ≠ sg.2 10 t - 1)) (bz_t (by omega)) ?_
            exact J61  
      · refine mw_top (x' := 0) ((bz_f c21).symm) ?_
        refine m_invS (y := yiX1_onBoard) [(vi 0)] dX1_onBoard_21 q853 q854 q123 q855 (c_X1_require_0 K 6 h (by omega) ⟨by omega, by omega⟩) pdX1_require ⟨Nat.le_of_ble_eq_true rfl, by decide, by omega⟩ kk_t (kx_t fun q21 h21 x21 => ?_)
        subst hQ; exact mx_ret rfl (Or.inr ⟨1, RJ12, q21, rfl, rfl, fun _ => ⟨QFr.th x21 ⟨by omega, by omega⟩ ⟨by omega, by omega⟩ (fun _ _ => rfl), Or.inr (Or.inl ⟨⟨c3, c14⟩, c21, rfl⟩)⟩⟩)
    · refine mw_top (x' := 0) ((bz_f c14).symm) ?_
      refine m_invS (y := yiX1_onBoard) [(vi 0)] dX1_onBoard_14 q893 q894 q123 q895 (c_X1_requireIndex_0 K 6 h (by omega) ⟨by omega, by omega⟩) pdX1_requireIndex ⟨Nat.le_of_ble_eq_true rfl, by decide, by omega⟩ kk_t (kx_t fun q14 h14 x14 => ?_)
      subst hQ; exact mx_ret rfl (Or.inr ⟨0, RJ14, q14, rfl, rfl, fun _ => ⟨QFr.th x14 ⟨by omega, by omega⟩ ⟨by omega, by omega⟩ (fun _ _ => rfl), Or.inl ⟨fun h9 => c14 h9.2, rfl⟩⟩⟩)
  · refine m_invV (y := yiX1_onBoard) (rB := (RX1, TX1, 10)) [(vi t), (vi c)] dX1_onBoard_3 hx rfl q1205 q1207 qs13 q123 q1208 rfl (c_callOf_0 K 8 h z x sg t c (by omega) hF.1 hW0 i2 i3 c3 ⟨by omega, by omega⟩) pdX1_callOf ⟨Nat.le_of_ble_eq_true rfl, by decide, by omega⟩ kk_t (kx_t fun q3 h3 x3 => ?_)
    subst hQ; exact mx_ret rfl (Or.inr ⟨0, RJ14, q3, rfl, rfl, fun _ => ⟨QFr.th x3 ⟨by omega, by omega⟩ ⟨by omega, by omega⟩ (fun _ _ => rfl), Or.inl ⟨fun h9 => c3 h9.1, rfl⟩⟩⟩)
