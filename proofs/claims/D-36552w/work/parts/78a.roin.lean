/-! Lastbus.rounds -/
/-- labels at q that tell k rides -/
def LbK (K : KT) (h : MH) (x wy : Nat) (sg : TS) (b : Int → Int) (k : Nat) (q : Nat) (fa fb fd : Int → Int) : Prop := ∃ (A B R : Nat) (chg : Int), LbC K h x (-1) wy q A B R chg fa fb fd ∧ CLab sg b (EvN sg b BG k) fa fb fd ∧ (Rng fa ∧ Rng fb ∧ Rng fd)
theorem LbC.up {K : KT} {h h' : MH} {x : Nat} {cut : Int} {wy q A B R : Nat} {chg : Int} {fa fb fd : Int → Int} (L : LbC K h x cut wy q A B R chg fa fb fd) (e1 : ∀ b c, h.2.2 b = some c → h'.2.2 b = some c) : LbC K h' x cut wy q A B R chg fa fb fd := ⟨e1 _ _ L.1, e1 _ _ L.2.1, e1 _ _ L.2.2.1, e1 _ _ L.2.2.2⟩
theorem LbK.up {K : KT} {h h' : MH} {x wy : Nat} {sg : TS} {b : Int → Int} {k : Nat} {q : Nat} {fa fb fd : Int → Int} (L : LbK K h x wy sg b k q fa fb fd) (e1 : ∀ b c, h.2.2 b = some c → h'.2.2 b = some c) : LbK K h' x wy sg b k q fa fb fd := by
  obtain ⟨A, B, R, chg, l1, l2⟩ := L
  exact ⟨A, B, R, chg, l1.up e1, l2⟩
/-- rounds 0 .. N - 1 in the list at L -/
def RoI (K : KT) (g : MH) (x wy : Nat) (sg : TS) (b : Int → Int) (e0 L e2 : Nat) (N : Int) (p : Int → Nat) (AR BY RD : Int → Int → Int) : Prop := LsB K g e0 L e2 N p ∧ (e2 = e0 ∨ L < e2) ∧ (∀ k : Nat, (k : Int) < N → LbK K (exc L e2 g) x wy sg b k (p k) (AR k) (BY k) (RD k)) ∧ 1 ≤ N
def upf (f : Int → Int → Int) (n : Int) (v : Int → Int) : Int → Int → Int := fun i => if i = n then v else f i
theorem RoI.add {K : KT} {g g' : MH} {x wy : Nat} {sg : TS} {b : Int → Int} {e0 L e2 e' v : Nat} {N : Int} {p : Int → Nat} {AR BY RD : Int → Int → Int} {fa fb fd : Int → Int} (I : RoI K g x wy sg b e0 L e2 N p AR BY RD) (hL : LsB K g' e0 L e' (N + 1) (upn p N v)) (he : e' = e2 ∨ L < e') (hx : ∀ b x, (exc L e2 g).2.2 b = some x → (exc L e' g').2.2 b = some x) (hv : LbK K (exc L e' g') x wy sg b N.toNat v fa fb fd) : RoI K g' x wy sg b e0 L e' (N + 1) (upn p N v) (upf AR N fa) (upf BY N fb) (upf RD N fd) := by
  obtain ⟨i1, i2, i3, i4⟩ := I
  refine ⟨hL, by omega, fun k hk => ?_, by omega⟩
  unfold upf
  by_cases e : (k : Int) = N
  · rw [if_pos e, if_pos e, if_pos e, e, upn_at, show k = N.toNat by omega]; exact hv
  · rw [if_neg e, if_neg e, if_neg e, upn_ne e]; exact (i3 k (by omega)).up hx
/-- what rounds tell -/
def RodQ (K : KT) (h h' : MH) (x : Nat) (sg : TS) (fr mi : Int) (r : Nat) : Prop := ∃ (e0 e wy : Nat) (N : Int) (p : Int → Nat) (AR BY RD : Int → Int → Int), LsB K h' e0 r e N p ∧ (1 ≤ N ∧ N ≤ 65) ∧ (∀ k : Nat, (k : Int) < N → LbK K h' x wy sg (b0 (sg.2 4) fr mi) k (p k) (AR k) (BY k) (RD k)) ∧ (∀ k : Nat, N - 1 ≤ k → ∀ s, 0 ≤ s → s < sg.1 1 → EAn sg fr mi k s (AR (N - 1) s)) ∧ (h.1 ≤ h'.1 ∧ h'.1 ≤ h.1 + 450) ∧ (h.2.1 ≤ h'.2.1 ∧ h'.2.1 ≤ h.2.1 + 11000) ∧ (∀ b, b < h.1 → h'.2.2 b = h.2.2 b) ∧ h.1 ≤ r
theorem EAn.all {sg : TS} {fr mi : Int} {n : Nat} {fa fb fd gb : Int → Int} (hF : WF sg) (hn : sg.1 1 ≤ 12) (h1 : CLab sg (b0 (sg.2 4) fr mi) (EvN sg (b0 (sg.2 4) fr mi) BG n) fa fb fd) (h2 : CLab sg (b0 (sg.2 4) fr mi) (EvN sg (b0 (sg.2 4) fr mi) BG (n + 1)) fa gb fd) (hR : Rng fa) : ∀ k : Nat, n ≤ k → ∀ s, 0 ≤ s → s < sg.1 1 → EAn sg fr mi k s (fa s) := by
  intro k hk s s0 s1
  by_cases e : k = n
  · subst e; exact h1.ean hF.2.2.2 hn hR ⟨s0, s1⟩
  · have e2 : k = n + 1 + (k - (n + 1)) := by omega
    rw [e2]
    exact (h2.cg ((EvN.eqk (EvN.same hF h1 h2)) (k - (n + 1))).1).ean hF.2.2.2 hn hR ⟨s0, s1⟩
/-- nothing new is reached if the events are the same -/
theorem NewL.no {sg : TS} {f0 : Int → Int} {n : Nat} {rix : Int → Int} {m u c s t : Int} {fa fb fd w : Int → Int} (hD : wyD sg) (hR : RunP sg rix m) (hCL : CLab sg f0 (RoP sg f0 n rix m u c) fa fb fd) (hs : 0 ≤ s ∧ s < sg.1 1) (ht : -2000 ≤ t ∧ t ≤ 5000) (hw : ∀ j, 0 ≤ j → j < sg.1 1 → w j = sg.2 4 (12 * s + j)) (hwd : ∀ j, 0 ≤ j → j < 12 → w j < 1000000 → 0 ≤ w j ∧ w j ≤ 250000) (hn : sg.1 1 ≤ 12) (hch : 0 ≤ sg.2 2 s ∧ sg.2 2 s ≤ 30) (he : EvN sg f0 BG (n + 1) s t) (hE : EvEq (EvN sg f0 BG n) (EvN sg f0 BG (n + 1))) (h : NewL (-1) s t w (vsO s (sg.2 2 s) w) fa fd (sg.1 1)) : False := by
  obtain ⟨-, j, j0, j1, j2, j3⟩ := h
  have h1 : RoP sg f0 n rix m u c s t := Or.inl ((hE s t).mpr he)
  have hwj := hw j j0 j1
  have hd := hwd j j0 (by omega) j2
  rcases j3 with j3 | j3
  · have := ((hCL j j0 j1 (t + w j) (by omega)).2.1).mpr (Or.inr ⟨s, t, hs, h1, by omega⟩)
    omega
  · by_cases e : j = s
    · have hv : vsO s (sg.2 2 s) w j = sg.2 2 s := by unfold vsO; rw [if_pos e]
      rw [hv] at j3
      have := ((hCL j j0 j1 (t + sg.2 2 s) (by omega)).1).mpr (Or.inr (Or.inr (Or.inl ⟨t, by rw [e]; exact h1, by rw [e]; exact Int.le_refl _⟩)))
      omega
    · have hv : vsO s (sg.2 2 s) w j = w j := by unfold vsO; rw [if_neg e]
      rw [hv] at j3
      have := ((hCL j j0 j1 (t + w j) (by omega)).1).mpr (Or.inr (Or.inr (Or.inr ⟨s, t, hs, h1, fun h9 => e h9.symm, by omega⟩)))
      omega
/-- words that omega does not take apart -/
def Imp (a P : Prop) : Prop := a → P
theorem bz_1 {p : Prop} [Decidable p] (h : bz p = 1) : p := Classical.byContradiction (fun e => absurd ((bz_f e).trans h) (by decide))
theorem Imp.mk {P : Prop} (h : P) : Imp True P := fun _ => h
/-! Lastbus.rounds: the calls of a run, in a round under way -/
theorem ro_in (K : KT) (d : Nat) (Q : OT → MH → Prop) (h gI : MH) (x ra ch wk sv tr lt ws tx it q9 wy A B R pu sa aa da : Nat) (s9 : Nat) (fr mi n mcr fl cg u : Int) (kp : Value) (sg0 : TS) (day : Int) (bb : Int → Int) (m0 : Nat) (rix f1 f2 f3 ar br rr ga gd : Int → Int) (W : Int → Int → Int)
    (hd : 3 ≤ d) (hF : WF (sd sg0 day)) (hn12 : 0 ≤ sg0.1 1 ∧ sg0.1 1 ≤ 12) (hcut : sg0.1 5 = -1) (hwf : ∀ b e, h.2.2 b = some e → b < h.1) (hIwf : ∀ b e, gI.2.2 b = some e → b < gI.1) (hgI : h.1 ≤ gI.1) (hit : gI.1 + 3 < it)
    (hx0 : h.2.2 x = some (true, .inr (0, [.ref ch, .ref wk, vi (sg0.1 1), .ref sv, .ref tr, .ref lt, .ref ws, .ref tx, vi fl, kp]))) (hch0 : h.2.2 ch = some (true, ia K 12 (sg0.2 2)))
    (hWy : WyC K gI wy W) (hW3 : bW W) (hY2 : ∀ i j, 0 ≤ i → i < sg0.1 1 → 0 ≤ j → j < sg0.1 1 → W i j = sg0.2 4 (12 * i + j)) (hwv0 : ∀ i, 0 ≤ i → i < 12 → ∀ j, 0 ≤ j → j < 12 → W i j < 1000000 → 0 ≤ W i j ∧ W i j ≤ 250000) (hchb : ∀ j : Int, 0 ≤ j → j < 12 → 0 ≤ sg0.2 2 j ∧ sg0.2 2 j ≤ 30)
    (hRC : RunC K h u (rix u % 24) (rix u / 24 - 1) (sg0.2 10 (rix u % 24)).toNat f1 f2 f3 pu) (hpu0 : h.2.2 pu = some (true, .inr (7, [vi u, vi (rix u % 24), vi (rix u / 24 - 1), .ref sa, .ref aa, .ref da])))
    (hfx : ∀ c, 0 ≤ c → c < sg0.2 10 (rix u % 24) → f1 c = stI (sd sg0 day) (rix u) c ∧ f2 c = cmI (sd sg0 day) (rix u) c ∧ f3 c = lvI (sd sg0 day) (rix u) c)
    (hsb : ∀ c, 0 ≤ c → c < sg0.2 10 (rix u % 24) → 0 ≤ stI (sd sg0 day) (rix u) c ∧ stI (sd sg0 day) (rix u) c < sg0.1 1)
    (hlb : ∀ c, 0 ≤ c → c < sg0.2 10 (rix u % 24) → -1440 ≤ lvI (sd sg0 day) (rix u) c ∧ lvI (sd sg0 day) (rix u) c ≤ 4500)
    (hmb : ∀ c, 0 ≤ c → c < sg0.2 10 (rix u % 24) → -1440 ≤ cmI (sd sg0 day) (rix u) c ∧ cmI (sd sg0 day) (rix u) c ≤ 4500)
    (hnb : 1 ≤ sg0.2 10 (rix u % 24) ∧ sg0.2 10 (rix u % 24) ≤ 8) (hok : okR (sd sg0 day) (rix u)) (hu : 0 ≤ u ∧ u < n) (hn72 : n ≤ 72)
    (hLb0 : LbC K gI x (-1) wy q9 A B R cg ar br rr) (hCLk : CLab (sd sg0 day) bb (EvN (sd sg0 day) bb BG m0) ar br rr) (hRgk : Rng ar ∧ Rng br ∧ Rng rr) (hRP : RunP (sd sg0 day) rix n) (J80 : (∀ (chg : Int) (fa fb fd : Int → Int) (gr : MH), (gr.2.2 it = some (true, .inr (15, [(vi (u + 1)), (vi u), (vi mcr), (.ref ra)]))) → (gr.2.2 gI.1 = some (true, .inr (9, [(vi (-1)), (.ref wy), (.ref (gI.1 + 1)), (.ref (gI.1 + 2)), (.ref (gI.1 + 3)), (vi chg), (.ref x)]))) → (gr.2.2 (gI.1 + 1) = some (true, ia K 12 fa)) → (gr.2.2 (gI.1 + 2) = some (true, ia K 12 fb)) → (gr.2.2 (gI.1 + 3) = some (true, ia K 12 fd)) → (∀ b, (b < h.1) → gr.2.2 b = h.2.2 b) → (∀ b, (b < gI.1) → gr.2.2 b = gI.2.2 b) → (CLab (sd sg0 day) bb (RoP (sd sg0 day) bb m0 rix n (u + 1) 0) fa fb fd) → (Rng fa ∧ Rng fb ∧ Rng fd) → (0 ≤ chg ∧ chg ≤ 1) → (Imp (chg = 1) (¬ EvEq (EvN (sd sg0 day) bb BG m0) (EvN (sd sg0 day) bb BG (m0 + 1)))) → (Imp (chg = 0) (fa = ga ∧ fd = gd)) → (gr.1 = it + 1 ∧ gr.2.1 = s9) → MW K yiX1_rounds d gr 80 [some (.ref x), some (.ref ra), some (vi fr), some (vi mi), some (.ref h.1), none, none, some (.ref q9), some (.ref gI.1), some (.ref it), none, none, none] [] Q)) : (∀ (b9 c chg : Int) (fa fb fd : Int → Int) (gc : MH), (gc.2.2 it = some (true, .inr (15, [(vi (u + 1)), (vi u), (vi mcr), (.ref ra)]))) → (gc.2.2 gI.1 = some (true, .inr (9, [(vi (-1)), (.ref wy), (.ref (gI.1 + 1)), (.ref (gI.1 + 2)), (.ref (gI.1 + 3)), (vi chg), (.ref x)]))) → (gc.2.2 (gI.1 + 1) = some (true, ia K 12 fa)) → (gc.2.2 (gI.1 + 2) = some (true, ia K 12 fb)) → (gc.2.2 (gI.1 + 3) = some (true, ia K 12 fd)) → (∀ b, (b < h.1) → gc.2.2 b = h.2.2 b) → (∀ b, (b < gI.1) → gc.2.2 b = gI.2.2 b) → (0 ≤ c ∧ c ≤ sg0.2 10 (rix u % 24)) → ((0 ≤ b9 ∧ b9 ≤ 1) ∧ Imp (c < sg0.2 10 (rix u % 24)) (b9 = 1 ↔ RoC (sd sg0 day) bb m0 (rix u) c)) → (CLab (sd sg0 day) bb (RoP (sd sg0 day) bb m0 rix n u c) fa fb fd) → (Rng fa ∧ Rng fb ∧ Rng fd) → (0 ≤ chg ∧ chg ≤ 1) → (Imp (chg = 1) (¬ EvEq (EvN (sd sg0 day) bb BG m0) (EvN (sd sg0 day) bb BG (m0 + 1)))) → (Imp (chg = 0) (fa = ga ∧ fd = gd)) → (gc.1 = it + 1 ∧ gc.2.1 = s9) → MW K yiX1_rounds d gc 108 [some (.ref x), some (.ref ra), some (vi fr), some (vi mi), some (.ref h.1), none, none, some (.ref q9), some (.ref gI.1), some (.ref it), some (.ref pu), some (vi b9), some (vi c)] [] Q) := by
  have hD := hF.2.2.2
  have L108 : ∀ (N : Nat) (b9 c chg : Int) (fa fb fd : Int → Int) (gc : MH), (sg0.2 10 (rix u % 24) - c).toNat = N → (gc.2.2 it = some (true, .inr (15, [(vi (u + 1)), (vi u), (vi mcr), (.ref ra)]))) → (gc.2.2 gI.1 = some (true, .inr (9, [(vi (-1)), (.ref wy), (.ref (gI.1 + 1)), (.ref (gI.1 + 2)), (.ref (gI.1 + 3)), (vi chg), (.ref x)]))) → (gc.2.2 (gI.1 + 1) = some (true, ia K 12 fa)) → (gc.2.2 (gI.1 + 2) = some (true, ia K 12 fb)) → (gc.2.2 (gI.1 + 3) = some (true, ia K 12 fd)) → (∀ b, (b < h.1) → gc.2.2 b = h.2.2 b) → (∀ b, (b < gI.1) → gc.2.2 b = gI.2.2 b) → (0 ≤ c ∧ c ≤ sg0.2 10 (rix u % 24)) → ((0 ≤ b9 ∧ b9 ≤ 1) ∧ Imp (c < sg0.2 10 (rix u % 24)) (b9 = 1 ↔ RoC (sd sg0 day) bb m0 (rix u) c)) → (CLab (sd sg0 day) bb (RoP (sd sg0 day) bb m0 rix n u c) fa fb fd) → (Rng fa ∧ Rng fb ∧ Rng fd) → (0 ≤ chg ∧ chg ≤ 1) → (Imp (chg = 1) (¬ EvEq (EvN (sd sg0 day) bb BG m0) (EvN (sd sg0 day) bb BG (m0 + 1)))) → (Imp (chg = 0) (fa = ga ∧ fd = gd)) → (gc.1 = it + 1 ∧ gc.2.1 = s9) → MW K yiX1_rounds d gc 108 [some (.ref x), some (.ref ra), some (vi fr), some (vi mi), some (.ref h.1), none, none, some (.ref q9), some (.ref gI.1), some (.ref it), some (.ref pu), some (vi b9), some (vi c)] [] Q := by
    intro N
    induction N using Nat.strongRecOn with
    | _ N ih108 =>
    intro b9 c chg fa fb fd gc hN108 it73 l1 l2 l3 l4 fR fI hcc hb hCL2 hRg2 hc2 hc12 hc02 hgc
    refine mw_wf (fun hwf108 => ?_)
    have l_it73108 := hwf108 _ _ it73
    have l_l1108 := hwf108 _ _ l1
    have l_l2108 := hwf108 _ _ l2
    have l_l3108 := hwf108 _ _ l3
    have l_l4108 := hwf108 _ _ l4
    refine j_iload (y := yiX1_rounds) dX1_rounds_108 rfl ?_
    have hpu : gc.2.2 pu = some (true, .inr (7, [(vi u), (vi (rix u % 24)), (vi (rix u / 24 - 1)), (.ref sa), (.ref aa), (.ref da)])) := (fR _ (hwf _ _ hpu0)).trans hpu0
    have l_hpu := hwf108 _ _ hpu
    refine m_aload (y := yiX1_rounds) dX1_rounds_110 rfl ?_
    refine m_invV (y := yiX1_rounds) (rB := (RX8, TX8, 6)) [] dX1_rounds_112 hpu rfl q1939 q1940 q1941 q167 q1942 rfl (c_X8_many K 0 gc pu u (rix u % 24) (rix u / 24 - 1) (sg0.2 10 (rix u % 24)).toNat f1 f2 f3 (hRC.up (fun b c e9 => (fR b (hwf _ _ e9)).trans e9))) pdX8_many ⟨Nat.le_of_ble_eq_true rfl, by decide, by omega⟩ (kk_z fun r112 h112 q112 => ?_) kx_z
    obtain ⟨rfl, rfl⟩ := q112
    refine mw_top (x' := (((sg0.2 10 (rix u % 24)).toNat : Nat) : Int)) rfl ?_
    refine j_icmp_ge (y := yiX1_rounds) 152 dX1_rounds_115 (by decide) ⟨⟨by omega, by omega⟩, ⟨by omega, by omega⟩⟩ (fun c115 => ?_) (fun c115 => ?_)
    · refine m_goto (y := yiX1_rounds) 80 dX1_rounds_152 (by decide) ?_
      refine mw_forget 10 ?_
      refine mw_forget 11 ?_
      refine mw_forget 12 ?_
      exact J80 _ _ _ _ _ it73 l1 l2 l3 l4 fR fI (hCL2.cg (RoP.next (by show sg0.2 10 (rix u % 24) ≤ c; omega))) hRg2 hc2 hc12 hc02 (⟨by omega, by omega⟩)
    · have x1 := hfx c (by omega) (by omega)
      have hss := hsb c (by omega) (by omega)
      have hlc := hlb c (by omega) (by omega)
      have hmc := hmb c (by omega) (by omega)
      have hbc := Imp.mk (hb.2 (by omega))
      have hwc := hwv0 (f1 c) (by omega) (by omega)
      have hrsr : ∀ b c, h.2.2 b = some c → (rs 0 gI.1 gc).2.2 b = some c := fun b c e9 => rs_mk ((fR b (hwf _ _ e9)).trans e9) (Nat.zero_le _) (by have := hwf _ _ e9; omega)
      have hWyc : WyC K (rs 0 gI.1 gc) wy W := hWy.up (fun b c e9 => rs_mk ((fI b (hIwf _ _ e9)).trans e9) (Nat.zero_le _) (hIwf _ _ e9))
      refine j_iload (y := yiX1_rounds) dX1_rounds_118 rfl ?_
      have J132 : ∀ (chg : Int) (fa fb fd : Int → Int) (gj : MH), (gj.2.2 it = some (true, .inr (15, [(vi (u + 1)), (vi u), (vi mcr), (.ref ra)]))) → (gj.2.2 gI.1 = some (true, .inr (9, [(vi (-1)), (.ref wy), (.ref (gI.1 + 1)), (.ref (gI.1 + 2)), (.ref (gI.1 + 3)), (vi chg), (.ref x)]))) → (gj.2.2 (gI.1 + 1) = some (true, ia K 12 fa)) → (gj.2.2 (gI.1 + 2) = some (true, ia K 12 fb)) → (gj.2.2 (gI.1 + 3) = some (true, ia K 12 fd)) → (∀ b, (b < h.1) → gj.2.2 b = h.2.2 b) → (∀ b, (b < gI.1) → gj.2.2 b = gI.2.2 b) → (CLab (sd sg0 day) bb (RoP (sd sg0 day) bb m0 rix n u (c + 1)) fa fb fd) → (Rng fa ∧ Rng fb ∧ Rng fd) → (0 ≤ chg ∧ chg ≤ 1) → (Imp (chg = 1) (¬ EvEq (EvN (sd sg0 day) bb BG m0) (EvN (sd sg0 day) bb BG (m0 + 1)))) → (Imp (chg = 0) (fa = ga ∧ fd = gd)) → (gj.1 = it + 1 ∧ gj.2.1 = s9) → MW K yiX1_rounds d gj 132 [some (.ref x), some (.ref ra), some (vi fr), some (vi mi), some (.ref h.1), none, none, some (.ref q9), some (.ref gI.1), some (.ref it), some (.ref pu), some (vi b9), some (vi c)] [] Q := by
        intro chg fa fb fd gj it73 l1 l2 l3 l4 fR fI hCL3 hRg3 hc3 hc13 hc03 hgj
        refine mw_wf (fun hwf132 => ?_)
        have l_it73132 := hwf132 _ _ it73
        have l_l1132 := hwf132 _ _ l1
        have l_l2132 := hwf132 _ _ l2
        have l_l3132 := hwf132 _ _ l3
        have l_l4132 := hwf132 _ _ l4
        refine j_iload (y := yiX1_rounds) dX1_rounds_132 rfl ?_
        refine m_aload (y := yiX1_rounds) dX1_rounds_134 rfl ?_
        have hrd9 := (hCLk (stI (sd sg0 day) (rix u) c) hss.1 hss.2 (lvI (sd sg0 day) (rix u) c) (by omega)).1
        have hLb9 : LbC K gj x (-1) wy q9 A B R cg ar br rr := hLb0.up (fun b c e9 => (fI b (hIwf _ _ e9)).trans e9)
        have hpu : gj.2.2 pu = some (true, .inr (7, [(vi u), (vi (rix u % 24)), (vi (rix u / 24 - 1)), (.ref sa), (.ref aa), (.ref da)])) := (fR _ (hwf _ _ hpu0)).trans hpu0
        have l_hpu := hwf132 _ _ hpu
        have kq9 : gj.2.2 q9 = some (true, .inr (9, [(vi (-1)), (.ref wy), (.ref A), (.ref B), (.ref R), (vi cg), (.ref x)])) := (fI _ (hIwf _ _ hLb0.1)).trans hLb0.1
        have l_kq9 := hwf132 _ _ kq9
        refine m_aload (y := yiX1_rounds) dX1_rounds_136 rfl ?_
        refine j_iload (y := yiX1_rounds) dX1_rounds_138 rfl ?_
        refine m_invV (y := yiX1_rounds) (rB := (RX10, TX10, 7)) [(.ref pu), (vi c)] dX1_rounds_140 kq9 rfl q2152 q2153 q2154 q175 q2155 rfl (c_X10_canGetOn K 2 gj x (-1) wy q9 A B R cg ar br rr pu u (rix u % 24) (rix u / 24 - 1) (sg0.2 10 (rix u % 24)).toNat f1 f2 f3 c (by omega) hLb9 (hRC.up (fun b c e9 => (fR b (hwf _ _ e9)).trans e9)) ⟨by omega, by omega⟩ (by omega) (by rw [x1.1]; omega) (by rw [x1.2.2]; omega) ⟨by omega, by omega⟩ (by rw [x1.1]; have := hRgk.2.2.b (stI (sd sg0 day) (rix u) c) (by omega) (by omega); exact ⟨by omega, by omega⟩)) pdX10_canGetOn ⟨Nat.le_of_ble_eq_true rfl, by decide, by omega⟩ (kk_z fun r140 h140 q140 => ?_) kx_z
        obtain ⟨rfl, rfl⟩ := q140
        refine mw_top (x' := bz (f1 c ≠ -1 ∧ (c < (((sg0.2 10 (rix u % 24)).toNat : Nat) : Int) - 1 ∧ 0 ≤ f3 c) ∧ rr (f1 c) ≤ f3 c)) rfl ?_
        have hbz9 := bz01 (f1 c ≠ -1 ∧ (c < (((sg0.2 10 (rix u % 24)).toNat : Nat) : Int) - 1 ∧ 0 ≤ f3 c) ∧ rr (f1 c) ≤ f3 c)
        refine j_iorb (y := yiX1_rounds) dX1_rounds_143 (by omega) ?_
        refine j_istore (y := yiX1_rounds) [some (.ref x), some (.ref ra), some (vi fr), some (vi mi), some (.ref h.1), none, none, some (.ref q9), some (.ref gI.1), some (.ref it), some (.ref pu), some (vi (if b9 = 0 then bz (f1 c ≠ -1 ∧ (c < (((sg0.2 10 (rix u % 24)).toNat : Nat) : Int) - 1 ∧ 0 ≤ f3 c) ∧ rr (f1 c) ≤ f3 c) else 1)), some (vi c)] dX1_rounds_144 (by decide) rfl rfl ?_
        have hbn : (0 ≤ (if b9 = 0 then bz (f1 c ≠ -1 ∧ (c < (((sg0.2 10 (rix u % 24)).toNat : Nat) : Int) - 1 ∧ 0 ≤ f3 c) ∧ rr (f1 c) ≤ f3 c) else 1) ∧ (if b9 = 0 then bz (f1 c ≠ -1 ∧ (c < (((sg0.2 10 (rix u % 24)).toNat : Nat) : Int) - 1 ∧ 0 ≤ f3 c) ∧ rr (f1 c) ≤ f3 c) else 1) ≤ 1) ∧ Imp (c + 1 < sg0.2 10 (rix u % 24)) (((if b9 = 0 then bz (f1 c ≠ -1 ∧ (c < (((sg0.2 10 (rix u % 24)).toNat : Nat) : Int) - 1 ∧ 0 ≤ f3 c) ∧ rr (f1 c) ≤ f3 c) else 1) = 1 ↔ RoC (sd sg0 day) bb m0 (rix u) (c + 1))) := by { refine ⟨⟨by split <;> omega, by split <;> omega⟩, fun hlt => ?_⟩; have hb1 : b9 = 0 ∨ b9 = 1 := (by omega); have hbc := hbc trivial; rcases hb1 with h9 | h9; { rw [if_pos h9]; constructor; { intro h8; have h7 := bz_1 h8; exact ⟨c, by omega, by omega, by show stI _ _ _ ≠ sg0.1 5; omega, by rw [← x1.2.2]; exact h7.2.1.2, hrd9.mp (by rw [← x1.1, ← x1.2.2]; exact h7.2.2)⟩ }; { rintro ⟨c', g1', g2', g3'⟩; by_cases e9 : c' = c; { subst e9; refine (bz_t ⟨by rw [x1.1]; omega, ⟨by omega, by rw [x1.2.2]; exact g3'.2.1⟩, by rw [x1.1, x1.2.2]; exact hrd9.mpr g3'.2.2⟩).symm }; { have := hbc.mpr ⟨c', g1', by omega, g3'⟩; omega } } }; { rw [if_neg (by omega)]; refine ⟨fun _ => ?_, fun _ => rfl⟩; obtain ⟨c', g1', g2', g3'⟩ := hbc.mp h9; exact ⟨c', g1', by omega, g3'⟩ } }
        refine j_iinc (y := yiX1_rounds) [some (.ref x), some (.ref ra), some (vi fr), some (vi mi), some (.ref h.1), none, none, some (.ref q9), some (.ref gI.1), some (.ref it), some (.ref pu), some (vi (if b9 = 0 then bz (f1 c ≠ -1 ∧ (c < (((sg0.2 10 (rix u % 24)).toNat : Nat) : Int) - 1 ∧ 0 ≤ f3 c) ∧ rr (f1 c) ≤ f3 c) else 1)), some (vi (c + 1))] dX1_rounds_146 rfl (by decide) rfl rfl ?_
        refine m_goto (y := yiX1_rounds) 108 dX1_rounds_149 (by decide) ?_
        exact ih108 _ (by omega) _ _ _ _ _ _ _ rfl it73 l1 l2 l3 l4 fR fI (by omega) hbn hCL3 hRg3 hc3 hc13 hc03 (⟨by omega, by omega⟩)
      refine j_if_eq (y := yiX1_rounds) 132 dX1_rounds_120 (by decide) ⟨by omega, by omega⟩ (fun c120 => ?_) (fun c120 => ?_)
      · exact J132 _ _ _ _ _ it73 l1 l2 l3 l4 fR fI (by first | exact hCLy | exact hCL2.cg (RoP.no (fun h9 => by have := (hbc trivial).mpr h9; omega))) (by first | exact hRgy | exact hRg2) (by first | exact hc2 | omega) (by first | exact hc1y | exact hc12) (by first | exact hc0y | exact hc02) (⟨by omega, by omega⟩)
      · refine m_aload (y := yiX1_rounds) dX1_rounds_123 rfl ?_
        refine m_aload (y := yiX1_rounds) dX1_rounds_125 rfl ?_
        refine j_iload (y := yiX1_rounds) dX1_rounds_127 rfl ?_
        refine m_invV (y := yiX1_rounds) (rB := (RX10, TX10, 7)) [(.ref pu), (vi c)] dX1_rounds_129 l1 rfl q2157 q2158 q2159 q175 q2160 rfl (c_X10_comes K 2 gc x (-1) wy gI.1 (gI.1 + 1) (gI.1 + 2) (gI.1 + 3) chg fa fb fd W 0 gI.1 gI.1 ch wk sv tr lt ws tx (sg0.1 1) fl kp (sg0.2 2) pu u (rix u % 24) (rix u / 24 - 1) (sg0.2 10 (rix u % 24)).toNat f1 f2 f3 c (by omega) ⟨l1, l2, l3, l4⟩ (show chg = 0 ∨ chg = 1 by omega) hWyc (Or.inl (Nat.le_refl _)) ⟨Nat.le_refl _, by omega, by omega, by omega⟩ (hrsr _ _ hx0) (hrsr _ _ hch0) (hRC.up hrsr) ⟨by omega, by omega⟩ (by omega) ⟨by omega, by omega⟩ (by rw [x1.1]; omega) (by rw [x1.2.1]; omega) ⟨by omega, by omega⟩ hW3 hchb hRg2.1.b hRg2.2.1.b hRg2.2.2.b) pdX10_comes ⟨Nat.le_of_ble_eq_true rfl, by decide, by omega⟩ (kk_v fun h129 q129 => ?_) kx_v
        obtain ⟨chg', fa', fb', fd', c1', ⟨k1', k2', k3', k4'⟩, e2', e3', e4', e5', e6', e7', z1', z2', f9'⟩ := q129
        have it73 : h129.2.2 it = some (true, .inr (15, [(vi (u + 1)), (vi u), (vi mcr), (.ref ra)])) := (f9' _ (by omega)).trans it73
        have fR : ∀ b, (b < h.1) → h129.2.2 b = h.2.2 b := fun b hb => (f9' b (by omega)).trans (fR b hb)
        have fI : ∀ b, (b < gI.1) → h129.2.2 b = gI.2.2 b := fun b hb => (f9' b (by omega)).trans (fI b hb)
        refine mw_wf (fun hwf129 => ?_)
        have l_k1'129 := hwf129 _ _ k1'
        have l_k2'129 := hwf129 _ _ k2'
        have l_k3'129 := hwf129 _ _ k3'
        have l_k4'129 := hwf129 _ _ k4'
        have hrc9 : RoC (sd sg0 day) bb m0 (rix u) c := (hbc trivial).mp (by omega)
        have hev9 : EvN (sd sg0 day) bb BG (m0 + 1) (stI (sd sg0 day) (rix u) c) (cmI (sd sg0 day) (rix u) c) := by { obtain ⟨c'', h4, h5, h6⟩ := hrc9; exact ⟨rix u, c, c'', hok, h4, h5, by show c < sg0.2 10 (rix u % 24); omega, rfl, rfl, by show stI _ _ _ ≠ sg0.1 5; omega, h6.1, h6.2.1, h6.2.2⟩ }
        rw [x1.1, x1.2.1] at e2' e3' e4' e7'
        rw [x1.1] at hwc
        have hwq : ∀ j, 0 ≤ j → j < sg0.1 1 → W (stI (sd sg0 day) (rix u) c) j = (sd sg0 day).2 4 (12 * stI (sd sg0 day) (rix u) c + j) := fun j a b => hY2 _ j hss.1 hss.2 a b
        have hchs := hchb (stI (sd sg0 day) (rix u) c) (by omega) (by omega)
        have hwsv : ∀ j, 0 ≤ j → j < 12 → W (stI (sd sg0 day) (rix u) c) j < 1000000 → 0 ≤ vsO (stI (sd sg0 day) (rix u) c) (sg0.2 2 (stI (sd sg0 day) (rix u) c)) (W (stI (sd sg0 day) (rix u) c)) j ∧ vsO (stI (sd sg0 day) (rix u) c) (sg0.2 2 (stI (sd sg0 day) (rix u) c)) (W (stI (sd sg0 day) (rix u) c)) j ≤ 250000 := fun j a b e9 => by { have := hwc j a b e9; unfold vsO; split <;> omega }
        have hCLy : CLab (sd sg0 day) bb (RoP (sd sg0 day) bb m0 rix n u (c + 1)) fa' fb' fd' := by { rw [e2', e3', e4']; exact (hCL2.add (cut := -1) hD ⟨hss.1, hss.2⟩ (by omega) (by omega) hwq).cg (RoP.y ⟨by omega, by omega⟩ (by show c < sg0.2 10 (rix u % 24); omega) hrc9 (by show stI _ _ _ ≠ sg0.1 5; omega)) }
        have hRgy : Rng fa' ∧ Rng fb' ∧ Rng fd' := by { rw [e2', e3', e4']; exact ⟨hRg2.1.rc (by omega) hwc, hRg2.2.1.rc (by omega) hwc, hRg2.2.2.rc (by omega) hwsv⟩ }
        have hc1y : Imp (chg' = 1) (¬ EvEq (EvN (sd sg0 day) bb BG m0) (EvN (sd sg0 day) bb BG (m0 + 1))) := fun h9 => by { rcases e7' h9 with h8 | h8; { exact hc12 h8 }; { exact fun hE => NewL.no hD hRP hCL2 ⟨hss.1, hss.2⟩ (by omega) hwq hwc (by show sg0.1 1 ≤ 12; omega) hchs hev9 hE h8 } }
        have hc0y : Imp (chg' = 0) (fa' = ga ∧ fd' = gd) := fun h9 => by { have h8 := e6' h9; have h7 := hc02 (by rcases (show chg = 0 ∨ chg = 1 by omega) with h6 | h6; { exact h6 }; { have := e5' h6; omega }); exact ⟨h8.1.trans h7.1, h8.2.trans h7.2⟩ }
        clear e5' e6' e7'
        exact J132 _ _ _ _ _ it73 k1' k2' k3' k4' fR fI (by first | exact hCLy | exact hCL2.cg (RoP.no (fun h9 => by have := (hbc trivial).mpr h9; omega))) (by first | exact hRgy | exact hRg2) (by first | exact hc2 | omega) (by first | exact hc1y | exact hc12) (by first | exact hc0y | exact hc02) (⟨by omega, by omega⟩)
  exact fun b9 c chg fa fb fd gc it73 l1 l2 l3 l4 fR fI hcc hb hCL2 hRg2 hc2 hc12 hc02 hgc => L108 _ b9 c chg fa fb fd gc rfl it73 l1 l2 l3 l4 fR fI hcc hb hCL2 hRg2 hc2 hc12 hc02 hgc
