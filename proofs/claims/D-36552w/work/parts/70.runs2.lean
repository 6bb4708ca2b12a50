/-! Lastbus.runsAbout: the walk -/
theorem LatR.hl {h' : MH} {z : Nat} {sg : TS} {y t : Int} {r : Option Nat} (H : LatR h' z sg y t r) : (r = none ∧ lmI sg y t = 0) ∨ ∃ lq, r = some lq ∧ h'.2.2 lq = some (true, .inr (6, [vi (lcI sg y t), vi (lmI sg y t)])) := by
  rcases H with ⟨h1, h2⟩ | ⟨q, h1, -, h3, h4⟩
  · exact Or.inl ⟨h2, by unfold lmI; rw [if_pos h1]⟩
  · refine Or.inr ⟨q, h1, ?_⟩
    unfold lcI lmI
    rw [if_neg (by omega), if_neg (by omega)]
    exact h4
/-- the list so far: all runs below B -/
def RunI (K : KT) (h g : MH) (e0 : Nat) (sg : TS) (B n : Int) (e2 : Nat) (rix : Int → Int) (p2 : Int → Nat) : Prop := LsB K g e0 h.1 e2 n p2 ∧ (e2 = e0 ∨ h.1 < e2) ∧ (∀ i, 0 ≤ i → i < n → okR sg (rix i) ∧ RunE K (exc h.1 e2 g) sg i (rix i) (p2 i)) ∧ (∀ i j, 0 ≤ i → i < j → j < n → rix i < rix j) ∧ (∀ i, 0 ≤ i → i < n → rix i < B) ∧ (∀ r, okR sg r → r < B → ∃ i, 0 ≤ i ∧ i < n ∧ rix i = r) ∧ (0 ≤ n ∧ n ≤ B) ∧ (h.1 + 1 ≤ g.1 ∧ (g.1 : Int) ≤ h.1 + 1 + 6 * n) ∧ (h.2.1 + 3 ≤ g.2.1 ∧ (g.2.1 : Int) ≤ h.2.1 + 3 + 150 * n)
theorem RunI.skip {K : KT} {h g : MH} {e0 : Nat} {sg : TS} {B n : Int} {e2 : Nat} {rix : Int → Int} {p2 : Int → Nat} (I : RunI K h g e0 sg B n e2 rix p2) {B' : Int} (hb : B ≤ B') (hn : ∀ r, B ≤ r → r < B' → ¬ okR sg r) : RunI K h g e0 sg B' n e2 rix p2 := by
  obtain ⟨i1, i2, i3, i4, i5, i6, i7, i8⟩ := I
  refine ⟨i1, i2, i3, i4, fun i a b => by have := i5 i a b; omega, fun r hr hrB => ?_, by omega, i8⟩
  by_cases e : r < B
  · exact i6 r hr e
  · exact absurd hr (hn r (by omega) hrB)
def upi (f : Int → Int) (n v : Int) : Int → Int := fun i => if i = n then v else f i
theorem RunI.add {K : KT} {h g g' : MH} {e0 : Nat} {sg : TS} {B n : Int} {e2 v e' : Nat} {rix : Int → Int} {p2 : Int → Nat} (I : RunI K h g e0 sg B n e2 rix p2) (hB : okR sg B) (L : LsB K g' e0 h.1 e' (n + 1) (upn p2 n v)) (he : e' = e2 ∨ g.1 ≤ e') (hEx : ∀ b c, (exc h.1 e2 g).2.2 b = some c → (exc h.1 e' g').2.2 b = some c) (hrun : RunE K (exc h.1 e' g') sg n B v) (z1 : g.1 ≤ g'.1 ∧ g'.1 ≤ g.1 + 6) (z2 : g.2.1 ≤ g'.2.1 ∧ g'.2.1 ≤ g.2.1 + 150) : RunI K h g' e0 sg (B + 1) (n + 1) e' (upi rix n B) (upn p2 n v) := by
  obtain ⟨i1, i2, i3, i4, i5, i6, i7, i8, i9⟩ := I
  refine ⟨L, by omega, fun i a b => ?_, fun i j a b c => ?_, fun i a b => ?_, fun r hr hrB => ?_, by omega, by omega, by omega⟩
  · unfold upi
    by_cases e : i = n
    · rw [if_pos e, e, upn_at]; exact ⟨hB, hrun⟩
    · rw [if_neg e, upn_ne e]
      have q := i3 i a (by omega)
      exact ⟨q.1, q.2.up hEx⟩
  · unfold upi
    by_cases e : j = n
    · rw [if_neg (by omega), if_pos e]; exact i5 i a (by omega)
    · rw [if_neg (by omega), if_neg e]; exact i4 i j a b (by omega)
  · unfold upi
    by_cases e : i = n
    · rw [if_pos e]; omega
    · rw [if_neg e]; have := i5 i a (by omega); omega
  · unfold upi
    by_cases e : r = B
    · exact ⟨n, by omega, by omega, by rw [if_pos rfl, e]⟩
    · obtain ⟨i, a, b, c⟩ := i6 r hr (by omega)
      exact ⟨i, a, by omega, by rw [if_neg (by omega)]; exact c⟩
theorem RunI.add' {K : KT} {h g g' : MH} {e0 : Nat} {sg : TS} {A k n : Int} {e2 v e' : Nat} {rix : Int → Int} {p2 : Int → Nat} (I : RunI K h g e0 sg (A + k) n e2 rix p2) (hB : okR sg (A + k)) (L : LsB K g' e0 h.1 e' (n + 1) (upn p2 n v)) (he : e' = e2 ∨ g.1 ≤ e') (hEx : ∀ b c, (exc h.1 e2 g).2.2 b = some c → (exc h.1 e' g').2.2 b = some c) (hrun : RunE K (exc h.1 e' g') sg n (A + k) v) (z1 : g.1 ≤ g'.1 ∧ g'.1 ≤ g.1 + 6) (z2 : g.2.1 ≤ g'.2.1 ∧ g'.2.1 ≤ g.2.1 + 150) : RunI K h g' e0 sg (A + (k + 1)) (n + 1) e' (upi rix n (A + k)) (upn p2 n v) := by
  have := I.add hB L he hEx hrun z1 z2
  rw [Int.add_assoc] at this
  exact this
theorem okR_i {sg : TS} {y s k : Int} (hk : 0 ≤ k ∧ k < 24) (hs : -1 ≤ s ∧ s ≤ 1) : okR (sd sg y) (24 * (s + 1) + k) ↔ k < sg.1 8 ∧ (0 ≤ y + s ∧ y + s ≤ 27) ∧ sg.2 7 (28 * sg.2 9 k + (y + s)) ≠ 0 := by
  have e1 : (24 * (s + 1) + k) % 24 = k := by omega
  have e2 : (24 * (s + 1) + k) / 24 = s + 1 := by omega
  unfold okR isRunP
  rw [e1, e2]
  have e3 : (sd sg y).1 22 + (s + 1) - 1 = y + s := by show y + (s + 1) - 1 = _; omega
  rw [e3]
  show (0 ≤ _ ∧ _ < 72 ∧ k < sg.1 8 ∧ _ ∧ sg.2 7 (28 * sg.2 9 k + (y + s)) ≠ 0) ↔ _
  constructor
  · rintro ⟨-, -, a, b, c⟩; exact ⟨a, b, c⟩
  · rintro ⟨a, b, c⟩; exact ⟨by omega, by omega, a, b, c⟩
theorem c_X1_runsAbout_2N (K : KT) (d : Nat) (h : MH) (z x : Nat) (sg : TS) (y : Int) (hd : 8 ≤ d) (hT : TB sg) (hC : clOk sg) (hO : svOk sg) (hW : World K h z x sg) (hz1 : z ≤ h.1) (hy : 0 ≤ y ∧ y ≤ 27) (hz : h.1 + 440 ≤ kC K ∧ h.2.1 + 11000 ≤ kS K) : Mt K yiX1_runsAbout_2 d [.ref x, vi y, vi (-1), .null] h (Rr fun r h' => RunsQ K h h' (sd sg y) r) := by
  have f8 := of8 (hT.1 8)
  have hW0 := hW
  obtain ⟨own, e0, cc, ch, wk, sv, tr, lt, ws, tx, se, te, we, kp, sp, tp, wp, T, hK, hE, hI, hx, hch, hwk, hsv, htr, hlt, hws, htx, hkp, hR0⟩ := hW
  obtain ⟨hx, hxz, -⟩ := tg_at hx
  obtain ⟨hch, hchz, -⟩ := tg_at hch
  have hE1 := hE.1
  obtain ⟨hE2, hE2z, -⟩ := tg_at hE.2
  obtain ⟨k0, k1, k3, k4, k5, k8, k9, k10, k11, k12⟩ := hK
  have hwk := And.intro hwk.1.C hwk.2
  obtain ⟨⟨wt, capt, mct, ft, hto, hte, htne, ht0, htw, htcap, htf, htno⟩, htt⟩ := htr
  obtain ⟨hto, htoz, -⟩ := tg_at hto
  obtain ⟨hte, htez, -⟩ := tg_at hte
  have ht2 : ∀ b c, (tg own z 5 h).2.2 b = some c → True := fun _ _ _ => trivial
  refine mt_ofQ (by decide) (Nat.le_of_ble_eq_true rfl) (fun Q hQ => ?_)
  show MW K yiX1_runsAbout_2 d h 0 [some (.ref x), some (vi y), some (vi (-1)), some .null, none, none, none] [] Q
  refine mw_wf (fun hwf => ?_)
  have l_hx := hwf _ _ hx
  have l_hto := hwf _ _ hto
  have l_hte := hwf _ _ hte
  have l_hE2 := hwf _ _ hE2
  have fR : ∀ b, (b < h.1) → h.2.2 b = h.2.2 b := fun _ _ => rfl
  refine m_new (y := yiX1_runsAbout_2) kc_14 3 dX1_runsAbout_2_0 q199 q200 q126 _ rfl ⟨by omega, by omega⟩ (hp_new fun g1 g1H => ?_)
  have hx : g1.2.2 x = some (true, .inr (0, [(.ref ch), (.ref wk), (vi (sg.1 1)), (.ref sv), (.ref tr), (.ref lt), (.ref ws), (.ref tx), (vi (sg.1 21)), (va_rf kp)])) := (g1H.2.2.2 _ (by omega)).trans hx
  have hto : g1.2.2 tr = some (true, .inr (14, [(vi mct), (.ref te), (vi (sg.1 8))])) := (g1H.2.2.2 _ (by omega)).trans hto
  have hte : g1.2.2 te = some (wt, oaE K capt ft) := (g1H.2.2.2 _ (by omega)).trans hte
  have hE2 : g1.2.2 e0 = some (false, oaE K 0 (fun _ => none)) := (g1H.2.2.2 _ (by omega)).trans hE2
  have fR : ∀ b, (b < h.1) → g1.2.2 b = h.2.2 b := fun b hb => (g1H.2.2.2 b (by omega)).trans (fR b hb)
  have fg1 : g1.2.2 h.1 = some (true, .inr (14, [(vi 0), .null, (vi 0)])) := g1H.2.2.1
  have g11 := g1H.1
  have g12 := g1H.2.1
  refine m_dup (y := yiX1_runsAbout_2) dX1_runsAbout_2_3 rfl ?_
  refine m_invI (y := yiX1_runsAbout_2) [] dX1_runsAbout_2_4 q201 q202 q126 q203 rfl rfl (c_J2_init K 3 g1 h.1 e0 (by omega) k0 fg1) pdJ2_init ⟨Nat.le_of_ble_eq_true rfl, by decide, by omega⟩ (kk_v fun h4 q4 => ?_) kx_v
  obtain q4 := q4
  have y4 := q4.1
  have z4 := q4.2.1
  have u4 := q4.2.2.1
  have hx : h4.2.2 x = some (true, .inr (0, [(.ref ch), (.ref wk), (vi (sg.1 1)), (.ref sv), (.ref tr), (.ref lt), (.ref ws), (.ref tx), (vi (sg.1 21)), (va_rf kp)])) := (q4.2.2.2 _ (by omega)).trans hx
  have hto : h4.2.2 tr = some (true, .inr (14, [(vi mct), (.ref te), (vi (sg.1 8))])) := (q4.2.2.2 _ (by omega)).trans hto
  have hte : h4.2.2 te = some (wt, oaE K capt ft) := (q4.2.2.2 _ (by omega)).trans hte
  have hE2 : h4.2.2 e0 = some (false, oaE K 0 (fun _ => none)) := (q4.2.2.2 _ (by omega)).trans hE2
  have fR : ∀ b, (b < h.1) → h4.2.2 b = h.2.2 b := fun b hb => (q4.2.2.2 b (by omega)).trans (fR b hb)
  refine mw_wf (fun hwf4 => ?_)
  have l_u44 := hwf4 _ _ u4
  refine m_astore (y := yiX1_runsAbout_2) dX1_runsAbout_2_7 (by decide) rfl ?_
  show MW K yiX1_runsAbout_2 d h4 9 [some (.ref x), some (vi y), some (vi (-1)), some .null, some (.ref h.1), none, none] [] Q
  refine j_iconst (y := yiX1_runsAbout_2) dX1_runsAbout_2_9 ?_
  refine j_istore (y := yiX1_runsAbout_2) [some (.ref x), some (vi y), some (vi (-1)), some .null, some (.ref h.1), some (vi (-1)), none] dX1_runsAbout_2_10 (by decide) rfl rfl ?_
  have L12 : ∀ (N : Nat) (s n : Int) (e2 : Nat) (rix : Int → Int) (p2 : Int → Nat) (g : MH), (2 - s).toNat = N → (g.2.2 x = some (true, .inr (0, [(.ref ch), (.ref wk), (vi (sg.1 1)), (.ref sv), (.ref tr), (.ref lt), (.ref ws), (.ref tx), (vi (sg.1 21)), (va_rf kp)]))) → (g.2.2 tr = some (true, .inr (14, [(vi mct), (.ref te), (vi (sg.1 8))]))) → (g.2.2 te = some (wt, oaE K capt ft)) → (g.2.2 e0 = some (false, oaE K 0 (fun _ => none))) → (∀ b, (b < h.1) → g.2.2 b = h.2.2 b) → (-1 ≤ s ∧ s ≤ 2) → (RunI K h g e0 (sd sg y) (24 * (s + 1)) n e2 rix p2) → MW K yiX1_runsAbout_2 d g 12 [some (.ref x), some (vi y), some (vi (-1)), some .null, some (.ref h.1), some (vi s), none] [] Q := by
    intro N
    induction N using Nat.strongRecOn with
    | _ N ih12 =>
    intro s n e2 rix p2 g hN12 hx hto hte hE2 fR hs hI
    refine mw_wf (fun hwf12 => ?_)
    have l_hx12 := hwf12 _ _ hx
    have l_hto12 := hwf12 _ _ hto
    have l_hte12 := hwf12 _ _ hte
    have l_hE212 := hwf12 _ _ hE2
    refine j_iload (y := yiX1_runsAbout_2) dX1_runsAbout_2_12 rfl ?_
    refine j_iconst (y := yiX1_runsAbout_2) dX1_runsAbout_2_14 ?_
    refine j_icmp_gt (y := yiX1_runsAbout_2) 112 dX1_runsAbout_2_15 (by decide) ⟨⟨by omega, by omega⟩, ⟨by omega, by omega⟩⟩ (fun c15 => ?_) (fun c15 => ?_)
    · refine m_aload (y := yiX1_runsAbout_2) dX1_runsAbout_2_112 rfl ?_
      subst hQ; exact m_aret (y := yiX1_runsAbout_2) (x := (some h.1)) dX1_runsAbout_2_114 rfl (Or.inl ⟨_, rfl⟩) ⟨h.1, rfl, ⟨e0, e2, n, rix, p2, ⟨hI.1, fun i a b => ⟨(hI.2.2.1 i a b).1, (hI.2.2.1 i a b).2.up (fun b c e => (exc_at e).1)⟩, hI.2.2.2.1, fun r hr => hI.2.2.2.2.2.1 r hr (by { have := hr.2.1; omega })⟩, by { have := hI.2.2.2.2.2.2.1; omega }, by { have := hI.2.2.2.2.2.2.2.1; omega }, by { have := hI.2.2.2.2.2.2.2.2; omega }, fR, Nat.le_refl _, k0⟩⟩
    · refine j_iconst (y := yiX1_runsAbout_2) dX1_runsAbout_2_18 ?_
      refine j_istore (y := yiX1_runsAbout_2) [some (.ref x), some (vi y), some (vi (-1)), some .null, some (.ref h.1), some (vi s), some (vi 0)] dX1_runsAbout_2_19 (by decide) rfl rfl ?_
      have L21 : ∀ (N : Nat) (k n : Int) (e2 : Nat) (rix : Int → Int) (p2 : Int → Nat) (gb : MH), (sg.1 8 - k).toNat = N → (gb.2.2 x = some (true, .inr (0, [(.ref ch), (.ref wk), (vi (sg.1 1)), (.ref sv), (.ref tr), (.ref lt), (.ref ws), (.ref tx), (vi (sg.1 21)), (va_rf kp)]))) → (gb.2.2 tr = some (true, .inr (14, [(vi mct), (.ref te), (vi (sg.1 8))]))) → (gb.2.2 te = some (wt, oaE K capt ft)) → (gb.2.2 e0 = some (false, oaE K 0 (fun _ => none))) → (∀ b, (b < h.1) → gb.2.2 b = h.2.2 b) → (0 ≤ k ∧ k ≤ sg.1 8) → (RunI K h gb e0 (sd sg y) (24 * (s + 1) + k) n e2 rix p2) → MW K yiX1_runsAbout_2 d gb 21 [some (.ref x), some (vi y), some (vi (-1)), some .null, some (.ref h.1), some (vi s), some (vi k)] [] Q := by
        intro N
        induction N using Nat.strongRecOn with
        | _ N ih21 =>
        intro k n e2 rix p2 gb hN21 hx hto hte hE2 fR hk hJ
        refine mw_wf (fun hwf21 => ?_)
        have l_hx21 := hwf21 _ _ hx
        have l_hto21 := hwf21 _ _ hto
        have l_hte21 := hwf21 _ _ hte
        have l_hE221 := hwf21 _ _ hE2
        have hJ0 := hJ
        obtain ⟨⟨w2, cap2, mc2, f2, ho2, he2, hae2, h02, hw2, hcap2, hf2, hno2⟩, j2, j3, j4, j5, j6, j7, j8, j9⟩ := hJ
        have l_he2 := hwf21 _ _ he2
        have ho2 : gb.2.2 h.1 = some (true, .inr (14, [(vi mc2), (.ref e2), (vi n)])) := ho2
        have l_ho2 := hwf21 _ _ ho2
        have he2 : gb.2.2 e2 = some (w2, oaE K cap2 f2) := he2
        have l_he2 := hwf21 _ _ he2
        refine j_iload (y := yiX1_runsAbout_2) dX1_runsAbout_2_21 rfl ?_
        refine m_aload_n (y := yiX1_runsAbout_2) dX1_runsAbout_2_23 rfl ?_
        refine m_getfS (y := yiX1_runsAbout_2) kc_0 4 (by decide) dX1_runsAbout_2_24 q302 hx rfl ?_
        refine m_invV (y := yiX1_runsAbout_2) (rB := (RJ2, TJ2, 3)) [] dX1_runsAbout_2_27 hto rfl q333 q334 q335 q126 q336 rfl (c_J2_size K 0 gb _ _ _ _ hto) pdJ2_size ⟨Nat.le_of_ble_eq_true rfl, by decide, by omega⟩ (kk_z fun r27 h27 q27 => ?_) kx_z
        obtain ⟨rfl, rfl⟩ := q27
        refine mw_top (x' := sg.1 8) rfl ?_
        refine j_icmp_ge (y := yiX1_runsAbout_2) 106 dX1_runsAbout_2_30 (by decide) ⟨⟨by omega, by omega⟩, ⟨by omega, by omega⟩⟩ (fun c30 => ?_) (fun c30 => ?_)
        · refine j_iinc (y := yiX1_runsAbout_2) [some (.ref x), some (vi y), some (vi (-1)), some .null, some (.ref h.1), some (vi (s + 1)), some (vi k)] dX1_runsAbout_2_106 rfl (by decide) rfl rfl ?_
          refine m_goto (y := yiX1_runsAbout_2) 12 dX1_runsAbout_2_109 (by decide) ?_
          refine mw_forget 6 ?_
          exact ih12 _ (by omega) _ _ _ _ _ _ rfl hx hto hte hE2 fR (by omega) (by { have := hJ0.skip (B' := 24 * (s + 1 + 1)) (by omega) (fun r a b hr => by { have e : r = 24 * (s + 1) + (r - 24 * (s + 1)) := (by omega); rw [e] at hr; have := ((okR_i (by omega) (by omega)).mp hr).1; omega }); exact this })
        · refine m_aload_n (y := yiX1_runsAbout_2) dX1_runsAbout_2_33 rfl ?_
          refine j_iload (y := yiX1_runsAbout_2) dX1_runsAbout_2_34 rfl ?_
          refine j_iload_n (y := yiX1_runsAbout_2) dX1_runsAbout_2_36 rfl ?_
          refine j_iload (y := yiX1_runsAbout_2) dX1_runsAbout_2_37 rfl ?_
          refine j_iadd (y := yiX1_runsAbout_2) dX1_runsAbout_2_39 ?_
          refine m_invV (y := yiX1_runsAbout_2) (rB := (RX1, TX1, 10)) [(vi k), (vi (y + s))] dX1_runsAbout_2_40 hx rfl q1877 q1879 qs35 q123 q1880 rfl (c_X1_runs K 4 gb z x sg k (y + s) (by omega) hT (hW0.cg (fun b hb => fR b (by omega))) ⟨by omega, by omega⟩ (hO k (by omega) (by omega)) ⟨by omega, by omega⟩) pdX1_runs ⟨Nat.le_of_ble_eq_true rfl, by decide, by omega⟩ (kk_z fun r40 h40 q40 => ?_) kx_z
          obtain ⟨rfl, rfl⟩ := q40
          refine mw_top (x' := bz ((0 ≤ y + s ∧ y + s ≤ 27) ∧ sg.2 7 (28 * sg.2 9 k + (y + s)) ≠ 0)) rfl ?_
          refine j_bz_eq (y := yiX1_runsAbout_2) 100 dX1_runsAbout_2_43 (by decide) (fun c43 => ?_) (fun c43 => ?_)
          · refine j_iinc (y := yiX1_runsAbout_2) [some (.ref x), some (vi y), some (vi (-1)), some .null, some (.ref h.1), some (vi s), some (vi (k + 1))] dX1_runsAbout_2_100 rfl (by decide) rfl rfl ?_
            refine m_goto (y := yiX1_runsAbout_2) 21 dX1_runsAbout_2_103 (by decide) ?_
            exact ih21 _ (by omega) _ _ _ _ _ _ rfl hx hto hte hE2 fR (by omega) (by first | exact (hJ0.skip (B' := 24 * (s + 1) + (k + 1)) (by omega) (fun r a b hr => by { have e : r = 24 * (s + 1) + k := (by omega); rw [e] at hr; exact c43 ((okR_i (by omega) (by omega)).mp hr).2 })) | exact (hJ0.add' ((okR_i (by omega) (by omega)).mpr ⟨by omega, c43⟩) p4 (by omega) (fun b c e => by { have u := exc_at e; have v := hwf21 _ _ u.1; exact exc_mk ((p5 b ⟨by omega, u.2.1, Or.inl u.2.2⟩).trans ((fg2 b v).trans u.1)) u.2.1 (by omega) }) (hre.up (fun b c e => by { have u := rsq_at e; have v := hwf93 _ _ u.1; exact exc_mk ((p5 b ⟨by omega, by omega, by omega⟩).trans u.1) (by omega) (by omega) })) (by omega) (by omega)))
          · refine m_aload (y := yiX1_runsAbout_2) dX1_runsAbout_2_46 rfl ?_
            refine m_new (y := yiX1_runsAbout_2) kc_7 6 dX1_runsAbout_2_48 q1881 q1882 q167 _ rfl ⟨by omega, by omega⟩ (hp_new fun g2 g2H => ?_)
            have hx : g2.2.2 x = some (true, .inr (0, [(.ref ch), (.ref wk), (vi (sg.1 1)), (.ref sv), (.ref tr), (.ref lt), (.ref ws), (.ref tx), (vi (sg.1 21)), (va_rf kp)])) := (g2H.2.2.2 _ (by omega)).trans hx
            have hto : g2.2.2 tr = some (true, .inr (14, [(vi mct), (.ref te), (vi (sg.1 8))])) := (g2H.2.2.2 _ (by omega)).trans hto
            have hte : g2.2.2 te = some (wt, oaE K capt ft) := (g2H.2.2.2 _ (by omega)).trans hte
            have hE2 : g2.2.2 e0 = some (false, oaE K 0 (fun _ => none)) := (g2H.2.2.2 _ (by omega)).trans hE2
            have ho2 : g2.2.2 h.1 = some (true, .inr (14, [(vi mc2), (.ref e2), (vi n)])) := (g2H.2.2.2 _ (by omega)).trans ho2
            have he2 : g2.2.2 e2 = some (w2, oaE K cap2 f2) := (g2H.2.2.2 _ (by omega)).trans he2
            have fR : ∀ b, (b < h.1) → g2.2.2 b = h.2.2 b := fun b hb => (g2H.2.2.2 b (by omega)).trans (fR b hb)
            have fg2 : g2.2.2 gb.1 = some (true, .inr (7, [(vi 0), (vi 0), (vi 0), .null, .null, .null])) := g2H.2.2.1
            have g21 := g2H.1
            have g22 := g2H.2.1
            have fg0 : ∀ b, b < gb.1 → g2.2.2 b = gb.2.2 b := fun b hb => g2H.2.2.2 b (by omega)
            refine m_dup (y := yiX1_runsAbout_2) dX1_runsAbout_2_51 rfl ?_
            refine m_aload (y := yiX1_runsAbout_2) dX1_runsAbout_2_52 rfl ?_
            refine m_invV (y := yiX1_runsAbout_2) (rB := (RJ2, TJ2, 3)) [] dX1_runsAbout_2_54 ho2 rfl q333 q334 q335 q126 q336 rfl (c_J2_size K 0 g2 _ _ _ _ ho2) pdJ2_size ⟨Nat.le_of_ble_eq_true rfl, by decide, by omega⟩ (kk_z fun r54 h54 q54 => ?_) kx_z
            obtain ⟨rfl, rfl⟩ := q54
            refine mw_top (x' := n) rfl ?_
            refine j_iload (y := yiX1_runsAbout_2) dX1_runsAbout_2_57 rfl ?_
            refine j_iload (y := yiX1_runsAbout_2) dX1_runsAbout_2_59 rfl ?_
            refine j_iload (y := yiX1_runsAbout_2) dX1_runsAbout_2_61 rfl ?_
            refine j_iload_n (y := yiX1_runsAbout_2) dX1_runsAbout_2_63 rfl ?_
            refine j_icmp_ne (y := yiX1_runsAbout_2) 71 dX1_runsAbout_2_64 (by decide) ⟨⟨by omega, by omega⟩, ⟨by omega, by omega⟩⟩ (fun c64 => ?_) (fun c64 => False.elim (by omega))
            refine m_aload_n (y := yiX1_runsAbout_2) dX1_runsAbout_2_71 rfl ?_
            refine m_getfS (y := yiX1_runsAbout_2) kc_0 4 (by decide) dX1_runsAbout_2_72 q302 hx rfl ?_
            refine j_iload (y := yiX1_runsAbout_2) dX1_runsAbout_2_75 rfl ?_
            have htn := oa10 (hT.2 10) k (by omega) (by omega)
            have htn1 := hC k (by omega) (by omega)
            have hlb := lcI_b hT (y + s) k
            obtain ⟨lk, ek, pk, htq0, -⟩ := htt k (by omega) (by omega)
            refine m_invV (y := yiX1_runsAbout_2) (rB := (RJ2, TJ2, 3)) [(vi k)] dX1_runsAbout_2_77 hto rfl q1035 q1036 q1037 q126 q1038 rfl (c_J2_get K 2 g2 _ _ _ _ _ _ _ _ _ (by omega) hto hte ⟨by omega, by omega⟩ ⟨by omega, by omega⟩ (htf _ (by omega) (by omega))) pdJ2_get ⟨Nat.le_of_ble_eq_true rfl, by decide, by omega⟩ (kk_r fun r77 h77 q77 => ?_) kx_r
            obtain ⟨rfl, rfl⟩ := q77
            have htkz := (tg_at htq0).2.1
            have htq : g2.2.2 (tp k) = some (true, .inr (2, [(vi (sg.2 9 k)), (.ref lk)])) := (fR _ (by omega)).trans (tg_h _ _ htq0)
            refine mw_wf (fun hwfk3 => ?_)
            have l_htq := hwfk3 _ _ htq
            refine m_cast (y := yiX1_runsAbout_2) dX1_runsAbout_2_80 htq rfl q794 (Or.inl rfl) ?_
            refine m_aload_n (y := yiX1_runsAbout_2) dX1_runsAbout_2_83 rfl ?_
            refine j_iload_n (y := yiX1_runsAbout_2) dX1_runsAbout_2_84 rfl ?_
            refine j_iload (y := yiX1_runsAbout_2) dX1_runsAbout_2_85 rfl ?_
            refine j_iadd (y := yiX1_runsAbout_2) dX1_runsAbout_2_87 ?_
            refine j_iload (y := yiX1_runsAbout_2) dX1_runsAbout_2_88 rfl ?_
            refine m_invV (y := yiX1_runsAbout_2) (rB := (RX1, TX1, 10)) [(vi (y + s)), (vi k)] dX1_runsAbout_2_90 hx rfl q1489 q1491 qs20 q123 q1492 rfl (c_X1_lateOf K 5 g2 z x sg (y + s) k (by omega) hT (hW0.cg (fun b hb => fR b (by omega))) (by omega) ⟨by omega, by omega⟩ ⟨by omega, by omega⟩ ⟨by omega, by omega⟩) pdX1_lateOf ⟨Nat.le_of_ble_eq_true rfl, by decide, by omega⟩ (kk_q fun r90 h90 q90 => ?_) kx_q
            obtain ⟨l1, l2, l3, l4⟩ := q90
            have hx : h90.2.2 x = some (true, .inr (0, [(.ref ch), (.ref wk), (vi (sg.1 1)), (.ref sv), (.ref tr), (.ref lt), (.ref ws), (.ref tx), (vi (sg.1 21)), (va_rf kp)])) := (l4 _ (by omega)).trans hx
            have hto : h90.2.2 tr = some (true, .inr (14, [(vi mct), (.ref te), (vi (sg.1 8))])) := (l4 _ (by omega)).trans hto
            have hte : h90.2.2 te = some (wt, oaE K capt ft) := (l4 _ (by omega)).trans hte
            have hE2 : h90.2.2 e0 = some (false, oaE K 0 (fun _ => none)) := (l4 _ (by omega)).trans hE2
            have ho2 : h90.2.2 h.1 = some (true, .inr (14, [(vi mc2), (.ref e2), (vi n)])) := (l4 _ (by omega)).trans ho2
            have he2 : h90.2.2 e2 = some (w2, oaE K cap2 f2) := (l4 _ (by omega)).trans he2
            have fg2 : h90.2.2 gb.1 = some (true, .inr (7, [(vi 0), (vi 0), (vi 0), .null, .null, .null])) := (l4 _ (by omega)).trans fg2
            have htq : h90.2.2 (tp k) = some (true, .inr (2, [(vi (sg.2 9 k)), (.ref lk)])) := (l4 _ (by omega)).trans htq
            have fR : ∀ b, (b < h.1) → h90.2.2 b = h.2.2 b := fun b hb => (l4 b (by omega)).trans (fR b hb)
            refine mw_wf (fun hwf90 => ?_)
            have fg1 : ∀ b, b < gb.1 → h90.2.2 b = gb.2.2 b := fun b hb => (l4 b (by omega)).trans (fg0 b hb)
            refine m_invI (y := yiX1_runsAbout_2) [(vi n), (vi k), (vi s), (.ref (tp k)), (va_rf r90)] dX1_runsAbout_2_93 q1883 q1884 q167 q1885 rfl rfl (c_X8_init K 3 h90 e0 gb.1 (tp k) r90 n k s (sg.2 9 k) (sg.2 10 k) (lcI sg (y + s) k) (lmI sg (y + s) k) (trS sg k) (trA sg k) (trD sg k) (by omega) fg2 ((htt k (by omega) (by omega)).up (fun b c e => by { have u := tg_at e; exact (fR b (by omega)).trans u.1 })) l1.hl ⟨by omega, by omega⟩ ⟨by omega, by omega, by omega⟩ ⟨by omega, by omega⟩) pdX8_init ⟨Nat.le_of_ble_eq_true rfl, by decide, by omega⟩ (kk_v fun h93 q93 => ?_) kx_v
            obtain q93 := q93
            have y93 := q93.2.1
            have z93 := q93.2.2.1
            have hx : h93.2.2 x = some (true, .inr (0, [(.ref ch), (.ref wk), (vi (sg.1 1)), (.ref sv), (.ref tr), (.ref lt), (.ref ws), (.ref tx), (vi (sg.1 21)), (va_rf kp)])) := (q93.2.2.2 _ (by omega)).trans hx
            have hto : h93.2.2 tr = some (true, .inr (14, [(vi mct), (.ref te), (vi (sg.1 8))])) := (q93.2.2.2 _ (by omega)).trans hto
            have hte : h93.2.2 te = some (wt, oaE K capt ft) := (q93.2.2.2 _ (by omega)).trans hte
            have hE2 : h93.2.2 e0 = some (false, oaE K 0 (fun _ => none)) := (q93.2.2.2 _ (by omega)).trans hE2
            have ho2 : h93.2.2 h.1 = some (true, .inr (14, [(vi mc2), (.ref e2), (vi n)])) := (q93.2.2.2 _ (by omega)).trans ho2
            have he2 : h93.2.2 e2 = some (w2, oaE K cap2 f2) := (q93.2.2.2 _ (by omega)).trans he2
            have htq : h93.2.2 (tp k) = some (true, .inr (2, [(vi (sg.2 9 k)), (.ref lk)])) := (q93.2.2.2 _ (by omega)).trans htq
            have fR : ∀ b, (b < h.1) → h93.2.2 b = h.2.2 b := fun b hb => (q93.2.2.2 b (by omega)).trans (fR b hb)
            refine mw_wf (fun hwf93 => ?_)
            have fg2 : ∀ b, b < gb.1 → h93.2.2 b = gb.2.2 b := fun b hb => (q93.2.2.2 b (by omega)).trans (fg1 b hb)
            have hre := RniE (y := y) (s := s) (k := k) (by omega) (by omega) hlb.2.2.2 q93
            have hro : ∃ w fs, h93.2.2 gb.1 = some (w, .inr (7, fs)) := by { obtain ⟨w, fs, u⟩ := hre.obj; exact ⟨w, fs, (rsq_at u).1⟩ }
            have hel : ∀ i, 0 ≤ i → i < n → ∃ w fs, h93.2.2 (p2 i) = some (w, .inr (7, fs)) := fun i a b => by { obtain ⟨w, fs, u⟩ := (j3 i a b).2.obj; have v := exc_at u; exact ⟨w, fs, (fg2 _ (hwf21 _ _ v.1)).trans v.1⟩ }
            have gr9 := grC_72 (n := n) (by omega)
            refine m_invV (y := yiX1_runsAbout_2) (rB := (RJ2, TJ2, 3)) [(.ref gb.1)] dX1_runsAbout_2_96 ho2 rfl q953 q954 q955 q126 q956 rfl (c_Ladd K 6 h93 e0 h.1 e2 gb.1 n p2 7 (r := _) (by omega) ⟨k0, hE2⟩ ⟨w2, cap2, mc2, f2, ho2, he2, hae2, h02, hw2, hcap2, hf2, hno2⟩ (by omega) rfl (by decide) hro hel ⟨by omega, by omega⟩) pdJ2_add ⟨Nat.le_of_ble_eq_true rfl, by decide, by omega⟩ (kk_z fun r96 h96 q96 => ?_) kx_z
            obtain ⟨rfl, e5, p1, p3, p3', p4, p5⟩ := q96
            have hx : h96.2.2 x = some (true, .inr (0, [(.ref ch), (.ref wk), (vi (sg.1 1)), (.ref sv), (.ref tr), (.ref lt), (.ref ws), (.ref tx), (vi (sg.1 21)), (va_rf kp)])) := (p5 _ (by omega)).trans hx
            have hto : h96.2.2 tr = some (true, .inr (14, [(vi mct), (.ref te), (vi (sg.1 8))])) := (p5 _ (by omega)).trans hto
            have hte : h96.2.2 te = some (wt, oaE K capt ft) := (p5 _ (by omega)).trans hte
            have hE2 : h96.2.2 e0 = some (false, oaE K 0 (fun _ => none)) := (p5 _ (by omega)).trans hE2
            have htq : h96.2.2 (tp k) = some (true, .inr (2, [(vi (sg.2 9 k)), (.ref lk)])) := (p5 _ (by omega)).trans htq
            have fR : ∀ b, (b < h.1) → h96.2.2 b = h.2.2 b := fun b hb => (p5 b (by omega)).trans (fR b hb)
            refine mw_wf (fun hwf96 => ?_)
            refine m_pop (y := yiX1_runsAbout_2) dX1_runsAbout_2_99 rfl ?_
            refine j_iinc (y := yiX1_runsAbout_2) [some (.ref x), some (vi y), some (vi (-1)), some .null, some (.ref h.1), some (vi s), some (vi (k + 1))] dX1_runsAbout_2_100 rfl (by decide) rfl rfl ?_
            refine m_goto (y := yiX1_runsAbout_2) 21 dX1_runsAbout_2_103 (by decide) ?_
            exact ih21 _ (by omega) _ _ _ _ _ _ rfl hx hto hte hE2 fR (by omega) (by first | exact (hJ0.skip (B' := 24 * (s + 1) + (k + 1)) (by omega) (fun r a b hr => by { have e : r = 24 * (s + 1) + k := (by omega); rw [e] at hr; exact c43 ((okR_i (by omega) (by omega)).mp hr).2 })) | exact (hJ0.add' ((okR_i (by omega) (by omega)).mpr ⟨by omega, c43⟩) p4 (by omega) (fun b c e => by { have u := exc_at e; have v := hwf21 _ _ u.1; exact exc_mk ((p5 b ⟨by omega, u.2.1, Or.inl u.2.2⟩).trans ((fg2 b v).trans u.1)) u.2.1 (by omega) }) (hre.up (fun b c e => by { have u := rsq_at e; have v := hwf93 _ _ u.1; exact exc_mk ((p5 b ⟨by omega, by omega, by omega⟩).trans u.1) (by omega) (by omega) })) (by omega) (by omega)))
      exact L21 _ _ n e2 rix p2 _ rfl hx hto hte hE2 fR (by omega) (by { rw [Int.add_zero]; exact hI })
  exact L12 _ _ 0 e0 (fun _ => 0) (fun _ => 0) _ rfl hx hto hte hE2 fR (by omega) (⟨⟨false, 0, 0, _, u4, hE2, by omega, fun _ => rfl, fun h9 => absurd rfl h9, ⟨by omega, by omega, by omega⟩, fun i a b => by omega, fun _ _ => rfl⟩, Or.inl rfl, fun i a b => by omega, fun i j a b c => by omega, fun i a b => by omega, fun r hr hb => by { have := hr.1; omega }, by omega, by omega, by omega⟩)
