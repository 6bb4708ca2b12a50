/-! Lastbus.scanned, earliest -/
/-- what a query leaves of the heap -/
def QFr (h h' : MH) : Prop := (h.1 ≤ h'.1 ∧ h'.1 ≤ h.1 + 25000) ∧ (h.2.1 ≤ h'.2.1 ∧ h'.2.1 ≤ h.2.1 + 304000) ∧ ∀ b, b < h.1 → h'.2.2 b = h.2.2 b
theorem QFr.th {h g g' : MH} (t : ThH g g') (z1 : h.1 ≤ g.1 ∧ g.1 ≤ h.1 + 24900) (z2 : h.2.1 ≤ g.2.1 ∧ g.2.1 ≤ h.2.1 + 303900) (fr : ∀ b, b < h.1 → g.2.2 b = h.2.2 b) : QFr h g' := ⟨by have := t.1; omega, by have := t.2.1; omega, fun b hb => by rw [t.2.2]; exact fr b hb⟩
theorem QFr.of {h g : MH} (z1 : h.1 ≤ g.1 ∧ g.1 ≤ h.1 + 25000) (z2 : h.2.1 ≤ g.2.1 ∧ g.2.1 ≤ h.2.1 + 304000) (fr : ∀ b, b < h.1 → g.2.2 b = h.2.2 b) : QFr h g := ⟨z1, z2, fr⟩
/-- the world's object and its changes -/
def WdA (K : KT) (h : MH) (x ch wk sv tr lt ws tx : Nat) (fl : Int) (kp : Value) (sg : TS) : Prop := h.2.2 x = some (true, .inr (0, [.ref ch, .ref wk, vi (sg.1 1), .ref sv, .ref tr, .ref lt, .ref ws, .ref tx, vi fl, kp])) ∧ h.2.2 ch = some (true, ia K 12 (sg.2 2))
/-- walks in rows -/
def WayA (K : KT) (h : MH) (wy : Nat) (W : Int → Int → Int) (sg : TS) : Prop := WyC K h wy W ∧ (∀ i j, 0 ≤ i → i < sg.1 1 → 0 ≤ j → j < sg.1 1 → W i j = sg.2 4 (12 * i + j)) ∧ ∀ i j, 0 ≤ i → i < 12 → 0 ≤ j → j < 12 → 0 ≤ W i j ∧ (W i j = 1000000 ∨ W i j ≤ 250000)
theorem WdA.up {K : KT} {h h' : MH} {x ch wk sv tr lt ws tx : Nat} {fl : Int} {kp : Value} {sg : TS} (L : WdA K h x ch wk sv tr lt ws tx fl kp sg) (e1 : ∀ b c, h.2.2 b = some c → h'.2.2 b = some c) : WdA K h' x ch wk sv tr lt ws tx fl kp sg := ⟨e1 _ _ L.1, e1 _ _ L.2⟩
theorem WayA.up {K : KT} {h h' : MH} {wy : Nat} {W : Int → Int → Int} {sg : TS} (L : WayA K h wy W sg) (e1 : ∀ b c, h.2.2 b = some c → h'.2.2 b = some c) : WayA K h' wy W sg := ⟨L.1.up e1, L.2⟩
theorem rs_up {h g : MH} {z : Nat} (hz : h.1 ≤ z) (hwf : ∀ b e, h.2.2 b = some e → b < h.1) (fr : ∀ b, b < h.1 → g.2.2 b = h.2.2 b) : ∀ b c, h.2.2 b = some c → (rs 0 z g).2.2 b = some c := fun b c e => by
  have := hwf b c e
  exact rs_mk ((fr b this).trans e) (Nat.zero_le _) (by omega)
theorem fr_up {h g : MH} (hwf : ∀ b e, h.2.2 b = some e → b < h.1) (fr : ∀ b, b < h.1 → g.2.2 b = h.2.2 b) : ∀ b c, h.2.2 b = some c → g.2.2 b = some c := fun b c e => (fr b (hwf b c e)).trans e
/-- labels out of a scan from stop fr at minute mi -/
def ScdQ (K : KT) (h h' : MH) (x wy : Nat) (sg : TS) (fr mi : Int) (r : Nat) : Prop := ∃ (A B R : Nat) (f0 : Int → Int) (E : EV), LbQ K h' x (sg.1 5) wy r A B R sg f0 E ∧ (fr ≠ sg.1 5 → f0 = b0 (sg.2 4) fr mi ∧ E = EvI sg (b0 (sg.2 4) fr mi) BG) ∧ (h.1 ≤ r ∧ r < A ∧ A < B ∧ B < R) ∧ (h.1 ≤ h'.1 ∧ h'.1 ≤ h.1 + 8) ∧ (h.2.1 ≤ h'.2.1 ∧ h'.2.1 ≤ h.2.1 + 53) ∧ ∀ b, b < h.1 → h'.2.2 b = h.2.2 b
theorem Rng.none {f : Int → Int} (h : ∀ i, 0 ≤ i → i < 12 → f i = 1000000) : Rng f := fun j a b => Or.inl (h j a b)
theorem c_scanned (K : KT) (d : Nat) (h : MH) (e0 x wy ch wk sv tr lt ws tx a e ra re : Nat) (fl n m : Int) (kp : Value) (W : Int → Int → Int) (sg : TS) (rix ui ci : Int → Int) (p q : Int → Nat) (fr mi : Int) (hd : 6 ≤ d) (hF : WF sg) (hcut : -1 ≤ sg.1 5 ∧ sg.1 5 ≤ 11) (h8 : kV K 8 = vi 1) (hX : WdA K h x ch wk sv tr lt ws tx fl kp sg) (hY : WayA K h wy W sg) (hRu : RunsA K h e0 ra re n sg rix p) (hRd : RdsA K h e0 a e m sg rix n p (fun r c => lvI sg r c) q ui ci) (hm63 : m ≤ 63) (hf : 0 ≤ fr ∧ fr < sg.1 1) (hmi : 0 ≤ mi ∧ mi ≤ 5000) (hz : h.1 + 9 ≤ kC K ∧ h.2.1 + 80 ≤ kS K) : Mt K yiX1_scanned_2 d [.ref x, .ref a, vi fr, vi mi, vi (sg.1 5), .ref wy] h (Rr fun r h' => ScdQ K h h' x wy sg fr mi r) := by
  have f1b := of1 (hF.1.1 1)
  have hX0 := hX
  obtain ⟨hx, hch⟩ := hX
  obtain ⟨hY1, hY2, hY3⟩ := id hY
  have hbW : bW W := fun i j a b c d => by have := hY3 i j a b c d; omega
  refine mt_ofQ (by decide) (Nat.le_of_ble_eq_true rfl) (fun Q hQ => ?_)
  show MW K yiX1_scanned_2 d h 0 [some (.ref x), some (.ref a), some (vi fr), some (vi mi), some (vi (sg.1 5)), some (.ref wy), none] [] Q
  refine mw_wf (fun hwf => ?_)
  have l_hx := hwf _ _ hx
  have l_hch := hwf _ _ hch
  have fR : ∀ b, (b < h.1) → h.2.2 b = h.2.2 b := fun _ _ => rfl
  refine m_new (y := yiX1_scanned_2) kc_9 7 dX1_scanned_2_0 q2100 q2101 q175 _ rfl ⟨by omega, by omega⟩ (hp_new fun g1 g1H => ?_)
  have hx : g1.2.2 x = some (true, .inr (0, [(.ref ch), (.ref wk), (vi (sg.1 1)), (.ref sv), (.ref tr), (.ref lt), (.ref ws), (.ref tx), (vi fl), kp])) := (g1H.2.2.2 _ (by omega)).trans hx
  have hch : g1.2.2 ch = some (true, ia K 12 (sg.2 2)) := (g1H.2.2.2 _ (by omega)).trans hch
  have fR : ∀ b, (b < h.1) → g1.2.2 b = h.2.2 b := fun b hb => (g1H.2.2.2 b (by omega)).trans (fR b hb)
  have fg1 : g1.2.2 h.1 = some (true, .inr (9, [(vi 0), .null, .null, .null, .null, (vi 0), .null])) := g1H.2.2.1
  have g11 := g1H.1
  have g12 := g1H.2.1
  refine m_dup (y := yiX1_scanned_2) dX1_scanned_2_3 rfl ?_
  refine m_aload_n (y := yiX1_scanned_2) dX1_scanned_2_4 rfl ?_
  refine j_iload (y := yiX1_scanned_2) dX1_scanned_2_5 rfl ?_
  refine m_aload (y := yiX1_scanned_2) dX1_scanned_2_7 rfl ?_
  refine m_invI (y := yiX1_scanned_2) [(.ref x), (vi (sg.1 5)), (.ref wy)] dX1_scanned_2_9 q2102 q2103 q175 q2104 rfl rfl (c_X10_init K 2 g1 x wy h.1 (sg.1 5) (by omega) fg1 ⟨by omega, by omega⟩) pdX10_init ⟨Nat.le_of_ble_eq_true rfl, by decide, by omega⟩ (kk_v fun h9 q9 => ?_) kx_v
  obtain ⟨fa, fb, fd, q9, i9, y9, z9, f9⟩ := q9
  obtain ⟨hq, hA, hB, hR⟩ := q9
  have hx : h9.2.2 x = some (true, .inr (0, [(.ref ch), (.ref wk), (vi (sg.1 1)), (.ref sv), (.ref tr), (.ref lt), (.ref ws), (.ref tx), (vi fl), kp])) := (f9 _ (by omega)).trans hx
  have hch : h9.2.2 ch = some (true, ia K 12 (sg.2 2)) := (f9 _ (by omega)).trans hch
  have fR : ∀ b, (b < h.1) → h9.2.2 b = h.2.2 b := fun b hb => (f9 b (by omega)).trans (fR b hb)
  refine mw_wf (fun hwf9 => ?_)
  have l_hq9 := hwf9 _ _ hq
  have l_hA9 := hwf9 _ _ hA
  have l_hB9 := hwf9 _ _ hB
  have l_hR9 := hwf9 _ _ hR
  refine m_astore (y := yiX1_scanned_2) dX1_scanned_2_12 (by decide) rfl ?_
  show MW K yiX1_scanned_2 d h9 14 [some (.ref x), some (.ref a), some (vi fr), some (vi mi), some (vi (sg.1 5)), some (.ref wy), some (.ref h.1)] [] Q
  have hup : ∀ g' : MH, (∀ b, b < h.1 → g'.2.2 b = h.2.2 b) → ∀ b c, h.2.2 b = some c → (rs 0 h.1 g').2.2 b = some c := fun g' q9 => rs_up (Nat.le_refl _) hwf q9
  refine m_aload (y := yiX1_scanned_2) dX1_scanned_2_14 rfl ?_
  refine j_iload_n (y := yiX1_scanned_2) dX1_scanned_2_16 rfl ?_
  refine j_iload_n (y := yiX1_scanned_2) dX1_scanned_2_17 rfl ?_
  refine m_invV (y := yiX1_scanned_2) (rB := (RX10, TX10, 7)) [(vi fr), (vi mi)] dX1_scanned_2_18 hq rfl q2135 q2136 q2137 q175 q2138 rfl (c_X10_begins K 2 h9 x (sg.1 5) wy h.1 g1.1 (g1.1 + 1) (g1.1 + 2) 0 fa fb fd W 0 h.1 h.1 ch wk sv tr lt ws tx (sg.1 1) fl kp fr mi (by omega) ⟨hq, hA, hB, hR⟩ (Or.inl rfl) (hY1.up (hup _ fR)) (Or.inl (Nat.le_refl _)) ⟨Nat.le_refl _, by omega, by omega, by omega⟩ (hup _ fR _ _ (hX0.1)) ⟨by omega, by omega⟩ ⟨by omega, by omega⟩ ⟨by omega, by omega⟩ hcut hbW (fun j a b => by have := i9 j a b; omega) (fun j a b => by have := i9 j a b; omega)) pdX10_begins ⟨Nat.le_of_ble_eq_true rfl, by decide, by omega⟩ (kk_v fun h18 q18 => ?_) kx_v
  obtain ⟨cg, c1, ⟨k1, k2, k3, k4⟩, y18, z18, f18⟩ := q18
  have hx : h18.2.2 x = some (true, .inr (0, [(.ref ch), (.ref wk), (vi (sg.1 1)), (.ref sv), (.ref tr), (.ref lt), (.ref ws), (.ref tx), (vi fl), kp])) := (f18 _ (by omega)).trans hx
  have hch : h18.2.2 ch = some (true, ia K 12 (sg.2 2)) := (f18 _ (by omega)).trans hch
  have fR : ∀ b, (b < h.1) → h18.2.2 b = h.2.2 b := fun b hb => (f18 b (by omega)).trans (fR b hb)
  refine mw_wf (fun hwf18 => ?_)
  have l_k118 := hwf18 _ _ k1
  have l_k218 := hwf18 _ _ k2
  have l_k318 := hwf18 _ _ k3
  have l_k418 := hwf18 _ _ k4
  have hwv9 : ∀ j, 0 ≤ j → j < 12 → W fr j < 1000000 → 0 ≤ W fr j ∧ W fr j ≤ 250000 := fun j a b c => by { have := hY3 fr j (by omega) (by omega) a b; omega }
  have hRg : Rng (rcF (sg.1 5) fr mi (W fr) (W fr) fa (sg.1 1)) ∧ Rng fb ∧ Rng (rcF (sg.1 5) fr mi (W fr) (W fr) fd (sg.1 1)) := ⟨(Rng.none (fun i a b => (i9 i a b).1)).rc (by omega) hwv9, Rng.none (fun i a b => (i9 i a b).2.1), (Rng.none (fun i a b => (i9 i a b).2.2)).rc (by omega) hwv9⟩
  have hcl : ∃ (f0 : Int → Int) (E : EV), ClE sg f0 (fun _ _ => False) E ∧ CLab sg f0 E0 (rcF (sg.1 5) fr mi (W fr) (W fr) fa (sg.1 1)) fb (rcF (sg.1 5) fr mi (W fr) (W fr) fd (sg.1 1)) ∧ (fr ≠ sg.1 5 → f0 = b0 (sg.2 4) fr mi ∧ E = EvI sg (b0 (sg.2 4) fr mi) BG) := by { by_cases e9 : fr = sg.1 5; { refine ⟨BG, EvI sg BG BG, ClE_I sg BG, ?_, fun h9 => absurd e9 h9⟩; rw [← e9, rcF_c, rcF_c]; exact CLab.none hF.1 (by omega) i9 }; { exact ⟨_, _, ClE_I sg _, CLab.start hF.1 hF.2.2.2 (by omega) hf hmi e9 (fun j a b => hY2 fr j hf.1 hf.2 a b) i9, fun _ => ⟨rfl, rfl⟩⟩ } }
  obtain ⟨f0, E, hE1, hE2, hE3⟩ := hcl
  refine m_aload_n (y := yiX1_scanned_2) dX1_scanned_2_21 rfl ?_
  refine m_aload (y := yiX1_scanned_2) dX1_scanned_2_22 rfl ?_
  refine m_aload_n (y := yiX1_scanned_2) dX1_scanned_2_24 rfl ?_
  refine m_null (y := yiX1_scanned_2) dX1_scanned_2_25 ?_
  refine j_iconst (y := yiX1_scanned_2) dX1_scanned_2_26 ?_
  refine m_invV (y := yiX1_scanned_2) (rB := (RX1, TX1, 10)) [(.ref h.1), (.ref a), .null, (vi 0)] dX1_scanned_2_27 hx rfl q2148 q2150 qs46 q123 q2151 rfl (c_scanN K 5 h18 e0 x wy h.1 g1.1 (g1.1 + 1) (g1.1 + 2) ch wk sv tr lt ws tx a e ra re cg fl n m kp _ fb _ W sg f0 E rix ui ci p q (by omega) hF hcut h8 ⟨k1, k2, k3, k4⟩ c1 ⟨by omega, by omega, by omega⟩ (hup _ fR _ _ hX0.1) (hup _ fR _ _ hX0.2) (hY1.up (hup _ fR)) hY2 hY3 (hRu.up (hup _ fR)) (hRd.up (hup _ fR)) hm63 hE1 hE2 hRg ⟨by omega, by omega⟩) pdX1_scan ⟨Nat.le_of_ble_eq_true rfl, by decide, by omega⟩ (kk_v fun h27 q27 => ?_) kx_v
  obtain ⟨q27, y27, z27, f27⟩ := q27
  have hx : h27.2.2 x = some (true, .inr (0, [(.ref ch), (.ref wk), (vi (sg.1 1)), (.ref sv), (.ref tr), (.ref lt), (.ref ws), (.ref tx), (vi fl), kp])) := (f27 _ (by omega)).trans hx
  have hch : h27.2.2 ch = some (true, ia K 12 (sg.2 2)) := (f27 _ (by omega)).trans hch
  have fR : ∀ b, (b < h.1) → h27.2.2 b = h.2.2 b := fun b hb => (f27 b (by omega)).trans (fR b hb)
  refine mw_wf (fun hwf27 => ?_)
  refine m_aload (y := yiX1_scanned_2) dX1_scanned_2_30 rfl ?_
  subst hQ; exact m_aret (y := yiX1_scanned_2) (x := (some h.1)) dX1_scanned_2_32 rfl (Or.inl ⟨_, rfl⟩) ⟨h.1, rfl, ⟨g1.1, g1.1 + 1, g1.1 + 2, f0, E, q27, hE3, ⟨Nat.le_refl _, by omega, by omega, by omega⟩, by omega, by omega, fR⟩⟩
theorem c_scannedC (K : KT) (d : Nat) (h : MH) (e0 x wy ch wk sv tr lt ws tx a e ra re : Nat) (fl n m : Int) (kp : Value) (W : Int → Int → Int) (sg : TS) (rix ui ci : Int → Int) (p q : Int → Nat) (fr mi cut : Int) (hce : sg.1 5 = cut) (hd : 6 ≤ d) (hF : WF sg) (hcut : -1 ≤ sg.1 5 ∧ sg.1 5 ≤ 11) (h8 : kV K 8 = vi 1) (hX : WdA K h x ch wk sv tr lt ws tx fl kp sg) (hY : WayA K h wy W sg) (hRu : RunsA K h e0 ra re n sg rix p) (hRd : RdsA K h e0 a e m sg rix n p (fun r c => lvI sg r c) q ui ci) (hm63 : m ≤ 63) (hf : 0 ≤ fr ∧ fr < sg.1 1) (hmi : 0 ≤ mi ∧ mi ≤ 5000) (hz : h.1 + 9 ≤ kC K ∧ h.2.1 + 80 ≤ kS K) : Mt K yiX1_scanned_2 d [.ref x, .ref a, vi fr, vi mi, vi cut, .ref wy] h (Rr fun r h' => ScdQ K h h' x wy sg fr mi r) := by
  subst hce
  exact c_scanned K d h e0 x wy ch wk sv tr lt ws tx a e ra re fl n m kp W sg rix ui ci p q fr mi hd hF hcut h8 hX hY hRu hRd hm63 hf hmi hz
