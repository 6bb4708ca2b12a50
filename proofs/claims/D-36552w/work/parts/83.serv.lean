/-! Lastbus: service -/
/-- tags behind a new service: its cells lie below m -/
def ownS (own : Nat → Nat) (z m k : Nat) : Nat → Nat := fun b => if b < z then own b else if b < m then k else 4
theorem ownS_o {own : Nat → Nat} {z m k b : Nat} (h : b < z) : ownS own z m k b = own b := if_pos h
theorem ownS_k {own : Nat → Nat} {z m k b : Nat} (h : z ≤ b) (h2 : b < m) : ownS own z m k b = k := by
  unfold ownS
  rw [if_neg (by omega), if_pos h2]
theorem ownS_4 {own : Nat → Nat} {z m k b : Nat} (h : z ≤ b) (h2 : m ≤ b) : ownS own z m k b = 4 := by
  unfold ownS
  rw [if_neg (by omega), if_neg (by omega)]
theorem ownS_J {own : Nat → Nat} {z m k b : Nat} (h : z ≤ b) : ownS own z m k b = 4 ∨ ownS own z m k b = k := by
  by_cases e : b < m
  · exact Or.inr (ownS_k h e)
  · exact Or.inl (ownS_4 h (by omega))
/-- an empty set is a service without days -/
theorem SvA.zero {K : KT} {h : MH} {on : Int → Int} {s : Int} {q w : Nat} (hb : BsA K h q w 0 1 (fun _ => 0)) (hZ : ∀ d, 0 ≤ d → d < 28 → on (28 * s + d) = 0) : SvA K h on s q := ⟨w, 0, fun _ => 0, hb, fun d a b => ⟨fun h9 => absurd h9 (by unfold inB; exact bt_0 _), fun h9 => absurd (hZ d a b) h9⟩, fun d a => by unfold inB; exact bt_0 _⟩
theorem u_service (K : KT) (d : Nat) (own : Nat → Nat) (h : MH) (z x : Nat) (sg : TS) (hd : 8 ≤ d) (hT : TB sg) (hW : WorldO own K h z x sg) (hz1 : z ≤ h.1) (hZ : ∀ q, 0 ≤ q → q < 28 → sg.2 7 (28 * sg.1 6 + q) = 0) (hz : h.1 + 25000 ≤ kC K ∧ h.2.1 + 304000 ≤ kS K) : Mt K yiX1_service d [.ref x] h (Rw [RJ13] fun th v h' => (sg.1 6 = 6 ∧ th = 1 ∧ QFr h h') ∨ (sg.1 6 < 6 ∧ th = 0 ∧ MutQ K own h h' z x (ovr sg [(6, sg.1 6 + 1)] []) ∧ v = sg.1 6)) := by
  have f6 := of6 (hT.1 6)
  have hW0 : World K h z x sg := ⟨own, hW⟩
  obtain ⟨e0, cc, ch, wk, sv, tr, lt, ws, tx, se, te, we, kp, sp, tp, wp, T, hKt, hEt, hIt, hxt, hcht, hwkt, hsvt, htrt, hltt, hwst, htxt, hkpt, hR0⟩ := id hW
  obtain ⟨hx, hxz, -⟩ := tg_at hxt
  obtain ⟨hch, hchz, -⟩ := tg_at hcht
  have hxo := hR0.own hxt
  have hcho := hR0.own hcht
  have hE1 := hEt.1
  obtain ⟨hE2, hE2z, -⟩ := tg_at hEt.2
  obtain ⟨k0, k1, k3, k4, k5, k8, k9, k10, k11, k12⟩ := id hKt
  have hwk := And.intro hwkt.1.C hwkt.2
  have hsv := hsvt
  have htr := htrt
  have hlt := hltt
  have hws := hwst
  have htx := htxt
  have hLs := hsv.1
  obtain ⟨⟨wsv, caps, mcs, fsv, hso, hse, hsne, hs0, hsw, hscap, hsf, hsno⟩, hss⟩ := hsv
  obtain ⟨hso, hsoz, -⟩ := tg_at hso
  obtain ⟨hse, hsez, -⟩ := tg_at hse
  obtain ⟨w_0, c_0, m_0, f_0, hso9, hse9, -⟩ := id hLs
  have hso1 := hso
  have hse1 := hse
  have hsoo := hR0.own hso9
  have hseo := (tg_at hse9).2.2
  have n1 : x ≠ sv := ne_oo hx hso (by decide)
  have n2 : x ≠ se := ne_oa hx hse
  have n4 : sv ≠ se := ne_oa hso hse
  have n3 : sv ≠ e0 := ne_oa hso hE2
  refine mt_ofQ (by decide) (Nat.le_of_ble_eq_true rfl) (fun Q hQ => ?_)
  show MW K yiX1_service d h 0 [some (.ref x)] [] Q
  refine mw_wf (fun hwf => ?_)
  have l_hx := hwf _ _ hx
  have l_hso := hwf _ _ hso
  have l_hse := hwf _ _ hse
  have fR : ∀ b, (b < h.1 ∧ b ≠ sv ∧ (b ≠ se ∨ b = e0)) → h.2.2 b = h.2.2 b := fun _ _ => rfl
  refine m_aload_n (y := yiX1_service) dX1_service_0 rfl ?_
  refine m_getfS (y := yiX1_service) kc_0 3 (by decide) dX1_service_1 q301 hx rfl ?_
  refine m_invV (y := yiX1_service) (rB := (RJ2, TJ2, 3)) [] dX1_service_4 hso rfl q333 q334 q335 q126 q336 rfl (c_J2_size K 0 h _ _ _ _ hso) pdJ2_size ⟨Nat.le_of_ble_eq_true rfl, by decide, by omega⟩ (kk_z fun r4 h4 q4 => ?_) kx_z
  obtain ⟨rfl, rfl⟩ := q4
  refine mw_top (x' := sg.1 6) rfl ?_
  refine j_bipush (y := yiX1_service) dX1_service_7 (by decide) ?_
  refine j_icmp_ge (y := yiX1_service) 16 dX1_service_9 (by decide) ⟨⟨by omega, by omega⟩, ⟨by omega, by omega⟩⟩ (fun c9 => ?_) (fun c9 => ?_)
  · refine j_iconst (y := yiX1_service) dX1_service_16 ?_
    refine m_invS (y := yiX1_service) [(vi 0)] dX1_service_17 q861 q862 q123 q863 (c_X1_requireState_0 K 6 h (by omega) ⟨by omega, by omega⟩) pdX1_requireState ⟨Nat.le_of_ble_eq_true rfl, by decide, by omega⟩ kk_t (kx_t fun q17 h17 x17 => ?_)
    subst hQ; exact mx_ret rfl (Or.inr ⟨0, RJ13, q17, rfl, rfl, fun _ => Or.inl ⟨by omega, rfl, QFr.th x17 ⟨by omega, by omega⟩ ⟨by omega, by omega⟩ (fun _ _ => rfl)⟩⟩)
  · refine j_iconst (y := yiX1_service) dX1_service_12 ?_
    refine m_goto (y := yiX1_service) 17 dX1_service_13 (by decide) ?_
    refine m_invS (y := yiX1_service) [(vi 1)] dX1_service_17 q861 q862 q123 q863 (c_X1_requireState_1 K 0 h) pdX1_requireState ⟨Nat.le_of_ble_eq_true rfl, by decide, by omega⟩ (kk_v fun h17 q17 => ?_) kx_v
    obtain rfl := q17
    refine m_aload_n (y := yiX1_service) dX1_service_20 rfl ?_
    refine m_getfS (y := yiX1_service) kc_0 3 (by decide) dX1_service_21 q301 hx rfl ?_
    refine m_new (y := yiX1_service) kc_16 3 dX1_service_24 q808 q834 q143 _ rfl ⟨by omega, by omega⟩ (hp_new fun g1 g1H => ?_)
    have hx : g1.2.2 x = some (true, .inr (0, [(.ref ch), (.ref wk), (vi (sg.1 1)), (.ref sv), (.ref tr), (.ref lt), (.ref ws), (.ref tx), (vi (sg.1 21)), (va_rf kp)])) := (g1H.2.2.2 _ (by omega)).trans hx
    have hso : g1.2.2 sv = some (true, .inr (14, [(vi mcs), (.ref se), (vi (sg.1 6))])) := (g1H.2.2.2 _ (by omega)).trans hso
    have hse : g1.2.2 se = some (wsv, oaE K caps fsv) := (g1H.2.2.2 _ (by omega)).trans hse
    have fR : ∀ b, (b < h.1 ∧ b ≠ sv ∧ (b ≠ se ∨ b = e0)) → g1.2.2 b = h.2.2 b := fun b hb => (g1H.2.2.2 b (by omega)).trans (fR b hb)
    have fg1 : g1.2.2 h.1 = some (true, .inr (16, [.null, (vi 0), (vi 0)])) := g1H.2.2.1
    have g11 := g1H.1
    have g12 := g1H.2.1
    refine m_dup (y := yiX1_service) dX1_service_27 rfl ?_
    refine m_invI (y := yiX1_service) [] dX1_service_28 q934 q935 q143 q936 rfl rfl (c_J18_init K 3 g1 h.1 (by omega) fg1 ⟨by omega, by omega⟩) pdJ18_init ⟨Nat.le_of_ble_eq_true rfl, by decide, by omega⟩ (kk_v fun h28 q28 => ?_) kx_v
    obtain ⟨q28, y28, z28, f28⟩ := q28
    have hbs := q28.1
    have hx : h28.2.2 x = some (true, .inr (0, [(.ref ch), (.ref wk), (vi (sg.1 1)), (.ref sv), (.ref tr), (.ref lt), (.ref ws), (.ref tx), (vi (sg.1 21)), (va_rf kp)])) := (f28 _ (by omega)).trans hx
    have hso : h28.2.2 sv = some (true, .inr (14, [(vi mcs), (.ref se), (vi (sg.1 6))])) := (f28 _ (by omega)).trans hso
    have hse : h28.2.2 se = some (wsv, oaE K caps fsv) := (f28 _ (by omega)).trans hse
    have fR : ∀ b, (b < h.1 ∧ b ≠ sv ∧ (b ≠ se ∨ b = e0)) → h28.2.2 b = h.2.2 b := fun b hb => (f28 b (by omega)).trans (fR b hb)
    refine mw_wf (fun hwf28 => ?_)
    have l_hbs28 := hwf28 _ _ hbs
    have gr9 : (grC (sg.1 6)).toNat ≤ 110 := by { unfold grC; (repeat' split) <;> omega }
    have hel : ∀ i, 0 ≤ i → i < sg.1 6 → ∃ w fs, h28.2.2 (sp i) = some (w, .inr (16, fs)) := fun i a b => by { obtain ⟨wb, nb, fb, hb, -⟩ := hss i a b; have u9 := tg_at hb.1; exact ⟨_, _, (fR _ ⟨by omega, ne_oo u9.1 hso1 (by decide), Or.inl (ne_oa u9.1 hse1)⟩).trans u9.1⟩ }
    refine m_invV (y := yiX1_service) (rB := (RJ2, TJ2, 3)) [(.ref h.1)] dX1_service_31 hso rfl q953 q954 q955 q126 q956 rfl (c_Ladd K 6 h28 e0 sv se h.1 (sg.1 6) sp 16 (r := _) (by omega) ⟨k0, (fR _ (by omega)).trans hE2⟩ (hLs.up (fun b c e9 => by { have u9 := tg_at e9; exact (f28 b ⟨by omega, by omega⟩).trans ((g1H.2.2.2 b (by omega)).trans u9.1) })) (by omega) rfl (by decide) ⟨_, _, hbs⟩ hel ⟨by omega, by omega⟩) pdJ2_add ⟨Nat.le_of_ble_eq_true rfl, by decide, by omega⟩ (kk_z fun r31 h31 q31 => ?_) kx_z
    obtain ⟨rfl, e5, p1, p3, p3', p4, p5⟩ := q31
    obtain ⟨w9, cap9, mc9, fx9, ho9, he9, hae9, h09, hw9, hcap9, hf9, hno9⟩ := id p4
    have hx : h31.2.2 x = some (true, .inr (0, [(.ref ch), (.ref wk), (vi (sg.1 1)), (.ref sv), (.ref tr), (.ref lt), (.ref ws), (.ref tx), (vi (sg.1 21)), (va_rf kp)])) := (p5 _ (by omega)).trans hx
    have hbs : h31.2.2 h.1 = some (true, .inr (16, [(.ref g1.1), (vi 0), (vi 0)])) := (p5 _ (by omega)).trans hbs
    have fR : ∀ b, (b < h.1 ∧ b ≠ sv ∧ (b ≠ se ∨ b = e0)) → h31.2.2 b = h.2.2 b := fun b hb => (p5 b (by omega)).trans (fR b hb)
    refine mw_wf (fun hwf31 => ?_)
    have l_ho931 := hwf31 _ _ ho9
    have eJ : ∀ b, b < z → ¬ (own b = 4 ∨ own b = 100 + (sg.1 6).toNat) → h31.2.2 b = h.2.2 b := fun b hb hn => fR b ⟨by omega, fun e9 => by { rw [e9] at hn; exact hn (Or.inl hsoo) }, by { by_cases e8 : b = se; { right; rcases hseo with h8 | h8; { rw [e8] at hn; exact absurd (Or.inl h8) hn }; { by_cases e7 : caps = 0; { rw [e8]; exact hs0 e7 }; { exfalso; have w7 := hsw e7; have u7 := hse1; rw [w7] at u7; exact hR0 se _ hsez h8 u7 } } }; { exact Or.inl e8 } }⟩
    have hz9 : z ≤ h31.1 := by omega
    have U : ∀ k, ¬ (k = 4 ∨ k = 100 + (sg.1 6).toNat) → tg (ownS own z (h.1 + 2) (100 + (sg.1 6).toNat)) h31.1 k h31 = tg own z k h := fun k hk => tg_upJ (J := fun q => q = 4 ∨ q = 100 + (sg.1 6).toNat) (fun b hb => ownS_o hb) (fun b hb => ownS_J hb) (by omega) hk hz9 eJ
    have hnew : LsB K (tg (ownS own z (h.1 + 2) (100 + (sg.1 6).toNat)) h31.1 4 h31) e0 sv e5 (sg.1 6 + 1) (upn sp (sg.1 6) h.1) := ⟨w9, cap9, mc9, fx9, tg_mk ho9 (by omega) (Or.inl ((ownS_o hsoz).trans hsoo)), tg_mk he9 (hwf31 _ _ he9) (by { rcases p1 with e8 | e8; { rw [e8, ownS_o hsez]; exact hseo }; { exact Or.inl (ownS_4 (by omega) (by omega)) } }), hae9, h09, hw9, hcap9, hf9, hno9⟩
    have hnew2 : ∀ s, 0 ≤ s → s < sg.1 6 + 1 → SvA K (tg (ownS own z (h.1 + 2) (100 + (sg.1 6).toNat)) h31.1 (100 + s.toNat) h31) (sg.2 7) s (upn sp (sg.1 6) h.1 s) := fun s a b => by { by_cases e8 : s = sg.1 6; { rw [e8, upn_at]; exact SvA.zero ⟨tg_mk ((p5 _ ⟨by omega, by omega, by omega⟩).trans q28.1) (by omega) (Or.inl (ownS_k hz1 (by omega))), tg_mk ((p5 _ ⟨by omega, by omega, by omega⟩).trans q28.2.1) (by omega) (Or.inl (ownS_k (by omega) (by omega))), q28.2.2⟩ hZ }; { rw [upn_ne e8, U (100 + s.toNat) (by omega)]; exact hss s a (by omega) } }
    refine m_pop (y := yiX1_service) dX1_service_34 rfl ?_
    refine m_aload_n (y := yiX1_service) dX1_service_35 rfl ?_
    refine m_getfS (y := yiX1_service) kc_0 3 (by decide) dX1_service_36 q301 hx rfl ?_
    refine m_invV (y := yiX1_service) (rB := (RJ2, TJ2, 3)) [] dX1_service_39 ho9 rfl q333 q334 q335 q126 q336 rfl (c_J2_size K 0 h31 _ _ _ _ ho9) pdJ2_size ⟨Nat.le_of_ble_eq_true rfl, by decide, by omega⟩ (kk_z fun r39 h39 q39 => ?_) kx_z
    obtain ⟨rfl, rfl⟩ := q39
    refine mw_top (x' := sg.1 6 + 1) rfl ?_
    refine j_iconst (y := yiX1_service) dX1_service_42 ?_
    refine j_isub (y := yiX1_service) dX1_service_43 ?_
    subst hQ; exact j_wret (y := yiX1_service) dX1_service_44 rfl (Or.inr ⟨by omega, rfl, ⟨ownS own z (h.1 + 2) (100 + (sg.1 6).toNat), fun b hb => ownS_o hb, ⟨e0, cc, ch, wk, sv, tr, lt, ws, tx, e5, te, we, kp, upn sp (sg.1 6) h.1, tp, wp, T, hKt, (by rw [U 0 (by omega)]; exact hEt), (by rw [U 0 (by omega)]; exact hIt), (by rw [U 1 (by omega)]; exact hxt), (by rw [U 2 (by omega)]; exact hcht), (by rw [U 3 (by omega)]; exact hwkt), ⟨hnew, hnew2⟩, ⟨by rw [U 5 (by omega)]; exact htrt.1, fun t a b => by rw [U (200 + t.toNat) (by have b9 : t < sg.1 8 := b; omega)]; exact htrt.2 t a b⟩, (by rw [U 6 (by omega)]; exact hltt), ⟨by rw [U 7 (by omega)]; exact hwst.1, fun w a b => by rw [U 7 (by omega)]; exact hwst.2 w a b⟩, (by rw [U 8 (by omega)]; exact htxt), (by rw [U 9 (by omega)]; exact hkpt), hR0.up (J := fun q => q = 4 ∨ q = 100 + (sg.1 6).toNat) (fun b hb => ownS_o hb) (fun b hb => ownS_J hb) (by omega) eJ⟩, fun b hb h10 => eJ b hb (by omega), by omega, by omega⟩, by omega⟩)
